/-! LockRail -/
set_option maxRecDepth 100000
def RX0 : String := "LockRail"
def TX0 : u_T := fun k => match k with
  | 0 => ("LockRail", "rail", "LLockRail$Rail;", false)
  | 1 => ("LockRail", "night", "LLockRail$Night;", true)
  | 2 => ("LockRail", "tape", "[B", true)
  | 3 => ("LockRail", "taped", "I", false)
  | 4 => ("LockRail", "faultKind", "I", false)
  | 5 => ("LockRail", "faultPlace", "I", false)
  | 6 => ("LockRail", "isSettled", "Z", false)
  | 7 => ("LockRail", "were", "[I", true)
  | 8 => ("LockRail", "more", "[J", true)
  | 9 => ("LockRail", "baited", "LLockRail$Baited;", false)
  | 10 => ("LockRail", "year", "LLockRail$Year;", true)
  | 11 => ("LockRail", "trial", "LLockRail$Year;", true)
  | 12 => ("LockRail", "slots", "[LLockRail$Slot;", true)
  | _ => ("LockRail", "images", "[LLockRail$Image;", true)
def tyX0 : Nat → FieldType := fun k => match k with
  | 0 => .object "LockRail$Rail"
  | 1 => .object "LockRail$Night"
  | 2 => .array .byte
  | 3 => .int
  | 4 => .int
  | 5 => .int
  | 6 => .boolean
  | 7 => .array .int
  | 8 => .array .long
  | 9 => .object "LockRail$Baited"
  | 10 => .object "LockRail$Year"
  | 11 => .object "LockRail$Year"
  | 12 => .array (.object "LockRail$Slot")
  | _ => .array (.object "LockRail$Image")
abbrev wsX00 : List Cond := u_ws RX0 TX0 14
set_option maxRecDepth 100000 in
theorem nmX0 : ∀ a, a < 14 → ∀ b, b < 14 → a ≠ b → (TX0 a).2.1 ≠ (TX0 b).2.1 := by decide +kernel
set_option maxRecDepth 100000 in
theorem tyX0_ok : ∀ k, k < 14 → parseFieldDescriptor (TX0 k).2.2.1 = some (tyX0 k) := by decide +kernel
abbrev cX0_init : ByteArray := prog_1_method_5_code
def yX0_init : MethodName := ⟨RX0, "<init>", "()V"⟩
def dkwX0_init_7 : List UInt8 := [183, 0, 66, 83, 181, 0, 67, 177]
abbrev dktX0_init_7 : List UInt8 := dkwX0_init_7 ++ []
def dkwX0_init_6 : List UInt8 := [42, 183, 0, 66, 83, 89, 4, 187, 0, 64, 89, 42, 183, 0, 66, 83, 89, 5, 187, 0, 64, 89, 42]
abbrev dktX0_init_6 : List UInt8 := dkwX0_init_6 ++ dktX0_init_7
def dkwX0_init_5 : List UInt8 := [89, 6, 187, 0, 57, 89, 183, 0, 59, 83, 181, 0, 60, 42, 6, 189, 0, 64, 89, 3, 187, 0, 64, 89]
abbrev dktX0_init_5 : List UInt8 := dkwX0_init_5 ++ dktX0_init_6
def dkwX0_init_4 : List UInt8 := [183, 0, 59, 83, 89, 4, 187, 0, 57, 89, 183, 0, 59, 83, 89, 5, 187, 0, 57, 89, 183, 0, 59, 83]
abbrev dktX0_init_4 : List UInt8 := dkwX0_init_4 ++ dktX0_init_5
def dkwX0_init_3 : List UInt8 := [187, 0, 47, 89, 42, 183, 0, 49, 181, 0, 54, 42, 7, 189, 0, 57, 89, 3, 187, 0, 57, 89]
abbrev dktX0_init_3 : List UInt8 := dkwX0_init_3 ++ dktX0_init_4
def dkwX0_init_2 : List UInt8 := [181, 0, 39, 42, 16, 10, 188, 11, 181, 0, 43, 42, 187, 0, 47, 89, 42, 183, 0, 49, 181, 0, 50, 42]
abbrev dktX0_init_2 : List UInt8 := dkwX0_init_2 ++ dktX0_init_3
def dkwX0_init_1 : List UInt8 := [181, 0, 27, 42, 17, 6, 64, 188, 8, 181, 0, 31, 42, 2, 181, 0, 35, 42, 16, 10, 188, 10]
abbrev dktX0_init_1 : List UInt8 := dkwX0_init_1 ++ dktX0_init_2
def dkwX0_init_0 : List UInt8 := [42, 183, 0, 9, 42, 187, 0, 15, 89, 183, 0, 17, 181, 0, 18, 42, 187, 0, 22, 89, 42, 183, 0, 24]
abbrev dktX0_init_0 : List UInt8 := dkwX0_init_0 ++ dktX0_init_1
theorem dksX0_init_0 : cX0_init.data.toList.drop 0 = dktX0_init_0 := by decide +kernel
theorem dksX0_init_1 : cX0_init.data.toList.drop 24 = dktX0_init_1 := dk_seg dksX0_init_0 24 rfl rfl
theorem dksX0_init_2 : cX0_init.data.toList.drop 46 = dktX0_init_2 := dk_seg dksX0_init_1 22 rfl rfl
theorem dksX0_init_3 : cX0_init.data.toList.drop 70 = dktX0_init_3 := dk_seg dksX0_init_2 24 rfl rfl
theorem dksX0_init_4 : cX0_init.data.toList.drop 92 = dktX0_init_4 := dk_seg dksX0_init_3 22 rfl rfl
theorem dksX0_init_5 : cX0_init.data.toList.drop 116 = dktX0_init_5 := dk_seg dksX0_init_4 24 rfl rfl
theorem dksX0_init_6 : cX0_init.data.toList.drop 140 = dktX0_init_6 := dk_seg dksX0_init_5 24 rfl rfl
theorem dksX0_init_7 : cX0_init.data.toList.drop 163 = dktX0_init_7 := dk_seg dksX0_init_6 23 rfl rfl
theorem dX0_init_0 : decode cX0_init 0 = .ok (.aload_n 0, 1) := dk_42 (dk_at dksX0_init_0 0 rfl rfl)
theorem dX0_init_1 : decode cX0_init 1 = .ok (.invokespecial 9, 3) := dk_183 0 9 (dk_at dksX0_init_0 1 rfl rfl)
theorem dX0_init_4 : decode cX0_init 4 = .ok (.aload_n 0, 1) := dk_42 (dk_at dksX0_init_0 4 rfl rfl)
theorem dX0_init_5 : decode cX0_init 5 = .ok (.new 15, 3) := dk_187 0 15 (dk_at dksX0_init_0 5 rfl rfl)
theorem dX0_init_8 : decode cX0_init 8 = .ok (.dup, 1) := dk_89 (dk_at dksX0_init_0 8 rfl rfl)
theorem dX0_init_9 : decode cX0_init 9 = .ok (.invokespecial 17, 3) := dk_183 0 17 (dk_at dksX0_init_0 9 rfl rfl)
theorem dX0_init_12 : decode cX0_init 12 = .ok (.putfield 18, 3) := dk_181 0 18 (dk_at dksX0_init_0 12 rfl rfl)
theorem dX0_init_15 : decode cX0_init 15 = .ok (.aload_n 0, 1) := dk_42 (dk_at dksX0_init_0 15 rfl rfl)
theorem dX0_init_16 : decode cX0_init 16 = .ok (.new 22, 3) := dk_187 0 22 (dk_at dksX0_init_0 16 rfl rfl)
theorem dX0_init_19 : decode cX0_init 19 = .ok (.dup, 1) := dk_89 (dk_at dksX0_init_0 19 rfl rfl)
theorem dX0_init_20 : decode cX0_init 20 = .ok (.aload_n 0, 1) := dk_42 (dk_at dksX0_init_0 20 rfl rfl)
theorem dX0_init_21 : decode cX0_init 21 = .ok (.invokespecial 24, 3) := dk_183 0 24 (dk_at dksX0_init_0 21 rfl rfl)
theorem dX0_init_24 : decode cX0_init 24 = .ok (.putfield 27, 3) := dk_181 0 27 (dk_at dksX0_init_1 0 rfl rfl)
theorem dX0_init_27 : decode cX0_init 27 = .ok (.aload_n 0, 1) := dk_42 (dk_at dksX0_init_1 3 rfl rfl)
theorem dX0_init_28 : decode cX0_init 28 = .ok (.sipush 1600, 3) := dk_17 6 64 (dk_at dksX0_init_1 4 rfl rfl)
theorem dX0_init_31 : decode cX0_init 31 = .ok (.newarray .byte, 2) := dk_188_8 (dk_at dksX0_init_1 7 rfl rfl)
theorem dX0_init_33 : decode cX0_init 33 = .ok (.putfield 31, 3) := dk_181 0 31 (dk_at dksX0_init_1 9 rfl rfl)
theorem dX0_init_36 : decode cX0_init 36 = .ok (.aload_n 0, 1) := dk_42 (dk_at dksX0_init_1 12 rfl rfl)
theorem dX0_init_37 : decode cX0_init 37 = .ok (.iconst (-1), 1) := dk_2 (dk_at dksX0_init_1 13 rfl rfl)
theorem dX0_init_38 : decode cX0_init 38 = .ok (.putfield 35, 3) := dk_181 0 35 (dk_at dksX0_init_1 14 rfl rfl)
theorem dX0_init_41 : decode cX0_init 41 = .ok (.aload_n 0, 1) := dk_42 (dk_at dksX0_init_1 17 rfl rfl)
theorem dX0_init_42 : decode cX0_init 42 = .ok (.bipush 10, 2) := dk_16 10 (dk_at dksX0_init_1 18 rfl rfl)
theorem dX0_init_44 : decode cX0_init 44 = .ok (.newarray .int, 2) := dk_188_10 (dk_at dksX0_init_1 20 rfl rfl)
theorem dX0_init_46 : decode cX0_init 46 = .ok (.putfield 39, 3) := dk_181 0 39 (dk_at dksX0_init_2 0 rfl rfl)
theorem dX0_init_49 : decode cX0_init 49 = .ok (.aload_n 0, 1) := dk_42 (dk_at dksX0_init_2 3 rfl rfl)
theorem dX0_init_50 : decode cX0_init 50 = .ok (.bipush 10, 2) := dk_16 10 (dk_at dksX0_init_2 4 rfl rfl)
theorem dX0_init_52 : decode cX0_init 52 = .ok (.newarray .long, 2) := dk_188_11 (dk_at dksX0_init_2 6 rfl rfl)
theorem dX0_init_54 : decode cX0_init 54 = .ok (.putfield 43, 3) := dk_181 0 43 (dk_at dksX0_init_2 8 rfl rfl)
theorem dX0_init_57 : decode cX0_init 57 = .ok (.aload_n 0, 1) := dk_42 (dk_at dksX0_init_2 11 rfl rfl)
theorem dX0_init_58 : decode cX0_init 58 = .ok (.new 47, 3) := dk_187 0 47 (dk_at dksX0_init_2 12 rfl rfl)
theorem dX0_init_61 : decode cX0_init 61 = .ok (.dup, 1) := dk_89 (dk_at dksX0_init_2 15 rfl rfl)
theorem dX0_init_62 : decode cX0_init 62 = .ok (.aload_n 0, 1) := dk_42 (dk_at dksX0_init_2 16 rfl rfl)
theorem dX0_init_63 : decode cX0_init 63 = .ok (.invokespecial 49, 3) := dk_183 0 49 (dk_at dksX0_init_2 17 rfl rfl)
theorem dX0_init_66 : decode cX0_init 66 = .ok (.putfield 50, 3) := dk_181 0 50 (dk_at dksX0_init_2 20 rfl rfl)
theorem dX0_init_69 : decode cX0_init 69 = .ok (.aload_n 0, 1) := dk_42 (dk_at dksX0_init_2 23 rfl rfl)
theorem dX0_init_70 : decode cX0_init 70 = .ok (.new 47, 3) := dk_187 0 47 (dk_at dksX0_init_3 0 rfl rfl)
theorem dX0_init_73 : decode cX0_init 73 = .ok (.dup, 1) := dk_89 (dk_at dksX0_init_3 3 rfl rfl)
theorem dX0_init_74 : decode cX0_init 74 = .ok (.aload_n 0, 1) := dk_42 (dk_at dksX0_init_3 4 rfl rfl)
theorem dX0_init_75 : decode cX0_init 75 = .ok (.invokespecial 49, 3) := dk_183 0 49 (dk_at dksX0_init_3 5 rfl rfl)
theorem dX0_init_78 : decode cX0_init 78 = .ok (.putfield 54, 3) := dk_181 0 54 (dk_at dksX0_init_3 8 rfl rfl)
theorem dX0_init_81 : decode cX0_init 81 = .ok (.aload_n 0, 1) := dk_42 (dk_at dksX0_init_3 11 rfl rfl)
theorem dX0_init_82 : decode cX0_init 82 = .ok (.iconst 4, 1) := dk_7 (dk_at dksX0_init_3 12 rfl rfl)
theorem dX0_init_83 : decode cX0_init 83 = .ok (.anewarray 57, 3) := dk_189 0 57 (dk_at dksX0_init_3 13 rfl rfl)
theorem dX0_init_86 : decode cX0_init 86 = .ok (.dup, 1) := dk_89 (dk_at dksX0_init_3 16 rfl rfl)
theorem dX0_init_87 : decode cX0_init 87 = .ok (.iconst 0, 1) := dk_3 (dk_at dksX0_init_3 17 rfl rfl)
theorem dX0_init_88 : decode cX0_init 88 = .ok (.new 57, 3) := dk_187 0 57 (dk_at dksX0_init_3 18 rfl rfl)
theorem dX0_init_91 : decode cX0_init 91 = .ok (.dup, 1) := dk_89 (dk_at dksX0_init_3 21 rfl rfl)
theorem dX0_init_92 : decode cX0_init 92 = .ok (.invokespecial 59, 3) := dk_183 0 59 (dk_at dksX0_init_4 0 rfl rfl)
theorem dX0_init_95 : decode cX0_init 95 = .ok (.aastore, 1) := dk_83 (dk_at dksX0_init_4 3 rfl rfl)
theorem dX0_init_96 : decode cX0_init 96 = .ok (.dup, 1) := dk_89 (dk_at dksX0_init_4 4 rfl rfl)
theorem dX0_init_97 : decode cX0_init 97 = .ok (.iconst 1, 1) := dk_4 (dk_at dksX0_init_4 5 rfl rfl)
theorem dX0_init_98 : decode cX0_init 98 = .ok (.new 57, 3) := dk_187 0 57 (dk_at dksX0_init_4 6 rfl rfl)
theorem dX0_init_101 : decode cX0_init 101 = .ok (.dup, 1) := dk_89 (dk_at dksX0_init_4 9 rfl rfl)
theorem dX0_init_102 : decode cX0_init 102 = .ok (.invokespecial 59, 3) := dk_183 0 59 (dk_at dksX0_init_4 10 rfl rfl)
theorem dX0_init_105 : decode cX0_init 105 = .ok (.aastore, 1) := dk_83 (dk_at dksX0_init_4 13 rfl rfl)
theorem dX0_init_106 : decode cX0_init 106 = .ok (.dup, 1) := dk_89 (dk_at dksX0_init_4 14 rfl rfl)
theorem dX0_init_107 : decode cX0_init 107 = .ok (.iconst 2, 1) := dk_5 (dk_at dksX0_init_4 15 rfl rfl)
theorem dX0_init_108 : decode cX0_init 108 = .ok (.new 57, 3) := dk_187 0 57 (dk_at dksX0_init_4 16 rfl rfl)
theorem dX0_init_111 : decode cX0_init 111 = .ok (.dup, 1) := dk_89 (dk_at dksX0_init_4 19 rfl rfl)
theorem dX0_init_112 : decode cX0_init 112 = .ok (.invokespecial 59, 3) := dk_183 0 59 (dk_at dksX0_init_4 20 rfl rfl)
theorem dX0_init_115 : decode cX0_init 115 = .ok (.aastore, 1) := dk_83 (dk_at dksX0_init_4 23 rfl rfl)
theorem dX0_init_116 : decode cX0_init 116 = .ok (.dup, 1) := dk_89 (dk_at dksX0_init_5 0 rfl rfl)
theorem dX0_init_117 : decode cX0_init 117 = .ok (.iconst 3, 1) := dk_6 (dk_at dksX0_init_5 1 rfl rfl)
theorem dX0_init_118 : decode cX0_init 118 = .ok (.new 57, 3) := dk_187 0 57 (dk_at dksX0_init_5 2 rfl rfl)
theorem dX0_init_121 : decode cX0_init 121 = .ok (.dup, 1) := dk_89 (dk_at dksX0_init_5 5 rfl rfl)
theorem dX0_init_122 : decode cX0_init 122 = .ok (.invokespecial 59, 3) := dk_183 0 59 (dk_at dksX0_init_5 6 rfl rfl)
theorem dX0_init_125 : decode cX0_init 125 = .ok (.aastore, 1) := dk_83 (dk_at dksX0_init_5 9 rfl rfl)
theorem dX0_init_126 : decode cX0_init 126 = .ok (.putfield 60, 3) := dk_181 0 60 (dk_at dksX0_init_5 10 rfl rfl)
theorem dX0_init_129 : decode cX0_init 129 = .ok (.aload_n 0, 1) := dk_42 (dk_at dksX0_init_5 13 rfl rfl)
theorem dX0_init_130 : decode cX0_init 130 = .ok (.iconst 3, 1) := dk_6 (dk_at dksX0_init_5 14 rfl rfl)
theorem dX0_init_131 : decode cX0_init 131 = .ok (.anewarray 64, 3) := dk_189 0 64 (dk_at dksX0_init_5 15 rfl rfl)
theorem dX0_init_134 : decode cX0_init 134 = .ok (.dup, 1) := dk_89 (dk_at dksX0_init_5 18 rfl rfl)
theorem dX0_init_135 : decode cX0_init 135 = .ok (.iconst 0, 1) := dk_3 (dk_at dksX0_init_5 19 rfl rfl)
theorem dX0_init_136 : decode cX0_init 136 = .ok (.new 64, 3) := dk_187 0 64 (dk_at dksX0_init_5 20 rfl rfl)
theorem dX0_init_139 : decode cX0_init 139 = .ok (.dup, 1) := dk_89 (dk_at dksX0_init_5 23 rfl rfl)
theorem dX0_init_140 : decode cX0_init 140 = .ok (.aload_n 0, 1) := dk_42 (dk_at dksX0_init_6 0 rfl rfl)
theorem dX0_init_141 : decode cX0_init 141 = .ok (.invokespecial 66, 3) := dk_183 0 66 (dk_at dksX0_init_6 1 rfl rfl)
theorem dX0_init_144 : decode cX0_init 144 = .ok (.aastore, 1) := dk_83 (dk_at dksX0_init_6 4 rfl rfl)
theorem dX0_init_145 : decode cX0_init 145 = .ok (.dup, 1) := dk_89 (dk_at dksX0_init_6 5 rfl rfl)
theorem dX0_init_146 : decode cX0_init 146 = .ok (.iconst 1, 1) := dk_4 (dk_at dksX0_init_6 6 rfl rfl)
theorem dX0_init_147 : decode cX0_init 147 = .ok (.new 64, 3) := dk_187 0 64 (dk_at dksX0_init_6 7 rfl rfl)
theorem dX0_init_150 : decode cX0_init 150 = .ok (.dup, 1) := dk_89 (dk_at dksX0_init_6 10 rfl rfl)
theorem dX0_init_151 : decode cX0_init 151 = .ok (.aload_n 0, 1) := dk_42 (dk_at dksX0_init_6 11 rfl rfl)
theorem dX0_init_152 : decode cX0_init 152 = .ok (.invokespecial 66, 3) := dk_183 0 66 (dk_at dksX0_init_6 12 rfl rfl)
theorem dX0_init_155 : decode cX0_init 155 = .ok (.aastore, 1) := dk_83 (dk_at dksX0_init_6 15 rfl rfl)
theorem dX0_init_156 : decode cX0_init 156 = .ok (.dup, 1) := dk_89 (dk_at dksX0_init_6 16 rfl rfl)
theorem dX0_init_157 : decode cX0_init 157 = .ok (.iconst 2, 1) := dk_5 (dk_at dksX0_init_6 17 rfl rfl)
theorem dX0_init_158 : decode cX0_init 158 = .ok (.new 64, 3) := dk_187 0 64 (dk_at dksX0_init_6 18 rfl rfl)
theorem dX0_init_161 : decode cX0_init 161 = .ok (.dup, 1) := dk_89 (dk_at dksX0_init_6 21 rfl rfl)
theorem dX0_init_162 : decode cX0_init 162 = .ok (.aload_n 0, 1) := dk_42 (dk_at dksX0_init_6 22 rfl rfl)
theorem dX0_init_163 : decode cX0_init 163 = .ok (.invokespecial 66, 3) := dk_183 0 66 (dk_at dksX0_init_7 0 rfl rfl)
theorem dX0_init_166 : decode cX0_init 166 = .ok (.aastore, 1) := dk_83 (dk_at dksX0_init_7 3 rfl rfl)
theorem dX0_init_167 : decode cX0_init 167 = .ok (.putfield 67, 3) := dk_181 0 67 (dk_at dksX0_init_7 4 rfl rfl)
theorem dX0_init_170 : decode cX0_init 170 = .ok (.return_, 1) := dk_177 (dk_at dksX0_init_7 7 rfl rfl)
abbrev cX0_feed : ByteArray := prog_1_method_7_code
def yX0_feed : MethodName := ⟨RX0, "feed", "(IIIII)I"⟩
def dkwX0_feed_2 : List UInt8 := [172]
abbrev dktX0_feed_2 : List UInt8 := dkwX0_feed_2 ++ []
def dkwX0_feed_1 : List UInt8 := [182, 0, 74, 42, 29, 182, 0, 74, 42, 21, 4, 182, 0, 74, 42, 21, 5, 182, 0, 74, 42, 180, 0, 71]
abbrev dktX0_feed_1 : List UInt8 := dkwX0_feed_1 ++ dktX0_feed_2
def dkwX0_feed_0 : List UInt8 := [42, 180, 0, 71, 16, 20, 96, 17, 6, 64, 164, 0, 5, 2, 172, 42, 27, 182, 0, 74, 42, 28]
abbrev dktX0_feed_0 : List UInt8 := dkwX0_feed_0 ++ dktX0_feed_1
theorem dksX0_feed_0 : cX0_feed.data.toList.drop 0 = dktX0_feed_0 := by decide +kernel
theorem dksX0_feed_1 : cX0_feed.data.toList.drop 22 = dktX0_feed_1 := dk_seg dksX0_feed_0 22 rfl rfl
theorem dksX0_feed_2 : cX0_feed.data.toList.drop 46 = dktX0_feed_2 := dk_seg dksX0_feed_1 24 rfl rfl
theorem dX0_feed_0 : decode cX0_feed 0 = .ok (.aload_n 0, 1) := dk_42 (dk_at dksX0_feed_0 0 rfl rfl)
theorem dX0_feed_1 : decode cX0_feed 1 = .ok (.getfield 71, 3) := dk_180 0 71 (dk_at dksX0_feed_0 1 rfl rfl)
theorem dX0_feed_4 : decode cX0_feed 4 = .ok (.bipush 20, 2) := dk_16 20 (dk_at dksX0_feed_0 4 rfl rfl)
theorem dX0_feed_6 : decode cX0_feed 6 = .ok (.iadd, 1) := dk_96 (dk_at dksX0_feed_0 6 rfl rfl)
theorem dX0_feed_7 : decode cX0_feed 7 = .ok (.sipush 1600, 3) := dk_17 6 64 (dk_at dksX0_feed_0 7 rfl rfl)
theorem dX0_feed_10 : decode cX0_feed 10 = .ok (.if_icmp .le 5, 3) := dk_164 0 5 (dk_at dksX0_feed_0 10 rfl rfl)
theorem dX0_feed_13 : decode cX0_feed 13 = .ok (.iconst (-1), 1) := dk_2 (dk_at dksX0_feed_0 13 rfl rfl)
theorem dX0_feed_14 : decode cX0_feed 14 = .ok (.ireturn, 1) := dk_172 (dk_at dksX0_feed_0 14 rfl rfl)
theorem dX0_feed_15 : decode cX0_feed 15 = .ok (.aload_n 0, 1) := dk_42 (dk_at dksX0_feed_0 15 rfl rfl)
theorem dX0_feed_16 : decode cX0_feed 16 = .ok (.iload_n 1, 1) := dk_27 (dk_at dksX0_feed_0 16 rfl rfl)
theorem dX0_feed_17 : decode cX0_feed 17 = .ok (.invokevirtual 74, 3) := dk_182 0 74 (dk_at dksX0_feed_0 17 rfl rfl)
theorem dX0_feed_20 : decode cX0_feed 20 = .ok (.aload_n 0, 1) := dk_42 (dk_at dksX0_feed_0 20 rfl rfl)
theorem dX0_feed_21 : decode cX0_feed 21 = .ok (.iload_n 2, 1) := dk_28 (dk_at dksX0_feed_0 21 rfl rfl)
theorem dX0_feed_22 : decode cX0_feed 22 = .ok (.invokevirtual 74, 3) := dk_182 0 74 (dk_at dksX0_feed_1 0 rfl rfl)
theorem dX0_feed_25 : decode cX0_feed 25 = .ok (.aload_n 0, 1) := dk_42 (dk_at dksX0_feed_1 3 rfl rfl)
theorem dX0_feed_26 : decode cX0_feed 26 = .ok (.iload_n 3, 1) := dk_29 (dk_at dksX0_feed_1 4 rfl rfl)
theorem dX0_feed_27 : decode cX0_feed 27 = .ok (.invokevirtual 74, 3) := dk_182 0 74 (dk_at dksX0_feed_1 5 rfl rfl)
theorem dX0_feed_30 : decode cX0_feed 30 = .ok (.aload_n 0, 1) := dk_42 (dk_at dksX0_feed_1 8 rfl rfl)
theorem dX0_feed_31 : decode cX0_feed 31 = .ok (.iload 4, 2) := dk_21 4 (dk_at dksX0_feed_1 9 rfl rfl)
theorem dX0_feed_33 : decode cX0_feed 33 = .ok (.invokevirtual 74, 3) := dk_182 0 74 (dk_at dksX0_feed_1 11 rfl rfl)
theorem dX0_feed_36 : decode cX0_feed 36 = .ok (.aload_n 0, 1) := dk_42 (dk_at dksX0_feed_1 14 rfl rfl)
theorem dX0_feed_37 : decode cX0_feed 37 = .ok (.iload 5, 2) := dk_21 5 (dk_at dksX0_feed_1 15 rfl rfl)
theorem dX0_feed_39 : decode cX0_feed 39 = .ok (.invokevirtual 74, 3) := dk_182 0 74 (dk_at dksX0_feed_1 17 rfl rfl)
theorem dX0_feed_42 : decode cX0_feed 42 = .ok (.aload_n 0, 1) := dk_42 (dk_at dksX0_feed_1 20 rfl rfl)
theorem dX0_feed_43 : decode cX0_feed 43 = .ok (.getfield 71, 3) := dk_180 0 71 (dk_at dksX0_feed_1 21 rfl rfl)
theorem dX0_feed_46 : decode cX0_feed 46 = .ok (.ireturn, 1) := dk_172 (dk_at dksX0_feed_2 0 rfl rfl)
abbrev cX0_puts : ByteArray := prog_1_method_6_code
def yX0_puts : MethodName := ⟨RX0, "puts", "(I)V"⟩
def dkwX0_puts_1 : List UInt8 := [180, 0, 71, 4, 96, 181, 0, 71, 132, 2, 248, 167, 255, 226, 177]
abbrev dktX0_puts_1 : List UInt8 := dkwX0_puts_1 ++ []
def dkwX0_puts_0 : List UInt8 := [16, 24, 61, 28, 155, 0, 32, 42, 180, 0, 31, 42, 180, 0, 71, 27, 28, 122, 145, 84, 42, 89]
abbrev dktX0_puts_0 : List UInt8 := dkwX0_puts_0 ++ dktX0_puts_1
theorem dksX0_puts_0 : cX0_puts.data.toList.drop 0 = dktX0_puts_0 := by decide +kernel
theorem dksX0_puts_1 : cX0_puts.data.toList.drop 22 = dktX0_puts_1 := dk_seg dksX0_puts_0 22 rfl rfl
theorem dX0_puts_0 : decode cX0_puts 0 = .ok (.bipush 24, 2) := dk_16 24 (dk_at dksX0_puts_0 0 rfl rfl)
theorem dX0_puts_2 : decode cX0_puts 2 = .ok (.istore_n 2, 1) := dk_61 (dk_at dksX0_puts_0 2 rfl rfl)
theorem dX0_puts_3 : decode cX0_puts 3 = .ok (.iload_n 2, 1) := dk_28 (dk_at dksX0_puts_0 3 rfl rfl)
theorem dX0_puts_4 : decode cX0_puts 4 = .ok (.ifCond .lt 32, 3) := dk_155 0 32 (dk_at dksX0_puts_0 4 rfl rfl)
theorem dX0_puts_7 : decode cX0_puts 7 = .ok (.aload_n 0, 1) := dk_42 (dk_at dksX0_puts_0 7 rfl rfl)
theorem dX0_puts_8 : decode cX0_puts 8 = .ok (.getfield 31, 3) := dk_180 0 31 (dk_at dksX0_puts_0 8 rfl rfl)
theorem dX0_puts_11 : decode cX0_puts 11 = .ok (.aload_n 0, 1) := dk_42 (dk_at dksX0_puts_0 11 rfl rfl)
theorem dX0_puts_12 : decode cX0_puts 12 = .ok (.getfield 71, 3) := dk_180 0 71 (dk_at dksX0_puts_0 12 rfl rfl)
theorem dX0_puts_15 : decode cX0_puts 15 = .ok (.iload_n 1, 1) := dk_27 (dk_at dksX0_puts_0 15 rfl rfl)
theorem dX0_puts_16 : decode cX0_puts 16 = .ok (.iload_n 2, 1) := dk_28 (dk_at dksX0_puts_0 16 rfl rfl)
theorem dX0_puts_17 : decode cX0_puts 17 = .ok (.ishr, 1) := dk_122 (dk_at dksX0_puts_0 17 rfl rfl)
theorem dX0_puts_18 : decode cX0_puts 18 = .ok (.i2b, 1) := dk_145 (dk_at dksX0_puts_0 18 rfl rfl)
theorem dX0_puts_19 : decode cX0_puts 19 = .ok (.bastore, 1) := dk_84 (dk_at dksX0_puts_0 19 rfl rfl)
theorem dX0_puts_20 : decode cX0_puts 20 = .ok (.aload_n 0, 1) := dk_42 (dk_at dksX0_puts_0 20 rfl rfl)
theorem dX0_puts_21 : decode cX0_puts 21 = .ok (.dup, 1) := dk_89 (dk_at dksX0_puts_0 21 rfl rfl)
theorem dX0_puts_22 : decode cX0_puts 22 = .ok (.getfield 71, 3) := dk_180 0 71 (dk_at dksX0_puts_1 0 rfl rfl)
theorem dX0_puts_25 : decode cX0_puts 25 = .ok (.iconst 1, 1) := dk_4 (dk_at dksX0_puts_1 3 rfl rfl)
theorem dX0_puts_26 : decode cX0_puts 26 = .ok (.iadd, 1) := dk_96 (dk_at dksX0_puts_1 4 rfl rfl)
theorem dX0_puts_27 : decode cX0_puts 27 = .ok (.putfield 71, 3) := dk_181 0 71 (dk_at dksX0_puts_1 5 rfl rfl)
theorem dX0_puts_30 : decode cX0_puts 30 = .ok (.iinc 2 (-8), 3) := dk_132 2 248 (dk_at dksX0_puts_1 8 rfl rfl)
theorem dX0_puts_33 : decode cX0_puts 33 = .ok (.goto (-30), 3) := dk_167 255 226 (dk_at dksX0_puts_1 11 rfl rfl)
theorem dX0_puts_36 : decode cX0_puts 36 = .ok (.return_, 1) := dk_177 (dk_at dksX0_puts_1 14 rfl rfl)
abbrev cX0_end : ByteArray := prog_1_method_8_code
def yX0_end : MethodName := ⟨RX0, "end", "(I)I"⟩
def dkwX0_end_0 : List UInt8 := [27, 133, 9, 42, 180, 0, 71, 133, 184, 0, 5, 154, 0, 5, 2, 172, 42, 27, 181, 0, 71, 27, 172]
abbrev dktX0_end_0 : List UInt8 := dkwX0_end_0 ++ []
theorem dksX0_end_0 : cX0_end.data.toList.drop 0 = dktX0_end_0 := by decide +kernel
theorem dX0_end_0 : decode cX0_end 0 = .ok (.iload_n 1, 1) := dk_27 (dk_at dksX0_end_0 0 rfl rfl)
theorem dX0_end_1 : decode cX0_end 1 = .ok (.i2l, 1) := dk_133 (dk_at dksX0_end_0 1 rfl rfl)
theorem dX0_end_2 : decode cX0_end 2 = .ok (.lconst 0, 1) := dk_9 (dk_at dksX0_end_0 2 rfl rfl)
theorem dX0_end_3 : decode cX0_end 3 = .ok (.aload_n 0, 1) := dk_42 (dk_at dksX0_end_0 3 rfl rfl)
theorem dX0_end_4 : decode cX0_end 4 = .ok (.getfield 71, 3) := dk_180 0 71 (dk_at dksX0_end_0 4 rfl rfl)
theorem dX0_end_7 : decode cX0_end 7 = .ok (.i2l, 1) := dk_133 (dk_at dksX0_end_0 7 rfl rfl)
theorem dX0_end_8 : decode cX0_end 8 = .ok (.invokestatic 5, 3) := dk_184 0 5 (dk_at dksX0_end_0 8 rfl rfl)
theorem dX0_end_11 : decode cX0_end 11 = .ok (.ifCond .ne 5, 3) := dk_154 0 5 (dk_at dksX0_end_0 11 rfl rfl)
theorem dX0_end_14 : decode cX0_end 14 = .ok (.iconst (-1), 1) := dk_2 (dk_at dksX0_end_0 14 rfl rfl)
theorem dX0_end_15 : decode cX0_end 15 = .ok (.ireturn, 1) := dk_172 (dk_at dksX0_end_0 15 rfl rfl)
theorem dX0_end_16 : decode cX0_end 16 = .ok (.aload_n 0, 1) := dk_42 (dk_at dksX0_end_0 16 rfl rfl)
theorem dX0_end_17 : decode cX0_end 17 = .ok (.iload_n 1, 1) := dk_27 (dk_at dksX0_end_0 17 rfl rfl)
theorem dX0_end_18 : decode cX0_end 18 = .ok (.putfield 71, 3) := dk_181 0 71 (dk_at dksX0_end_0 18 rfl rfl)
theorem dX0_end_21 : decode cX0_end 21 = .ok (.iload_n 1, 1) := dk_27 (dk_at dksX0_end_0 21 rfl rfl)
theorem dX0_end_22 : decode cX0_end 22 = .ok (.ireturn, 1) := dk_172 (dk_at dksX0_end_0 22 rfl rfl)
abbrev cX0_isIn : ByteArray := prog_1_method_1_code
def yX0_isIn : MethodName := ⟨RX0, "isIn", "(JJJ)Z"⟩
def dkwX0_isIn_0 : List UInt8 := [30, 32, 148, 155, 0, 14, 30, 22, 4, 148, 157, 0, 7, 4, 167, 0, 4, 3, 172]
abbrev dktX0_isIn_0 : List UInt8 := dkwX0_isIn_0 ++ []
theorem dksX0_isIn_0 : cX0_isIn.data.toList.drop 0 = dktX0_isIn_0 := by decide +kernel
theorem dX0_isIn_0 : decode cX0_isIn 0 = .ok (.lload_n 0, 1) := dk_30 (dk_at dksX0_isIn_0 0 rfl rfl)
theorem dX0_isIn_1 : decode cX0_isIn 1 = .ok (.lload_n 2, 1) := dk_32 (dk_at dksX0_isIn_0 1 rfl rfl)
theorem dX0_isIn_2 : decode cX0_isIn 2 = .ok (.lcmp, 1) := dk_148 (dk_at dksX0_isIn_0 2 rfl rfl)
theorem dX0_isIn_3 : decode cX0_isIn 3 = .ok (.ifCond .lt 14, 3) := dk_155 0 14 (dk_at dksX0_isIn_0 3 rfl rfl)
theorem dX0_isIn_6 : decode cX0_isIn 6 = .ok (.lload_n 0, 1) := dk_30 (dk_at dksX0_isIn_0 6 rfl rfl)
theorem dX0_isIn_7 : decode cX0_isIn 7 = .ok (.lload 4, 2) := dk_22 4 (dk_at dksX0_isIn_0 7 rfl rfl)
theorem dX0_isIn_9 : decode cX0_isIn 9 = .ok (.lcmp, 1) := dk_148 (dk_at dksX0_isIn_0 9 rfl rfl)
theorem dX0_isIn_10 : decode cX0_isIn 10 = .ok (.ifCond .gt 7, 3) := dk_157 0 7 (dk_at dksX0_isIn_0 10 rfl rfl)
theorem dX0_isIn_13 : decode cX0_isIn 13 = .ok (.iconst 1, 1) := dk_4 (dk_at dksX0_isIn_0 13 rfl rfl)
theorem dX0_isIn_14 : decode cX0_isIn 14 = .ok (.goto 4, 3) := dk_167 0 4 (dk_at dksX0_isIn_0 14 rfl rfl)
theorem dX0_isIn_17 : decode cX0_isIn 17 = .ok (.iconst 0, 1) := dk_3 (dk_at dksX0_isIn_0 17 rfl rfl)
theorem dX0_isIn_18 : decode cX0_isIn 18 = .ok (.ireturn, 1) := dk_172 (dk_at dksX0_isIn_0 18 rfl rfl)
abbrev cX0_rail : ByteArray := prog_1_method_9_code
def yX0_rail : MethodName := ⟨RX0, "rail", "()I"⟩
def dkwX0_rail_3 : List UInt8 := [181, 0, 71, 28, 172, 78, 42, 3, 181, 0, 71, 45, 191]
abbrev dktX0_rail_3 : List UInt8 := dkwX0_rail_3 ++ []
def dkwX0_rail_2 : List UInt8 := [27, 172, 76, 42, 43, 180, 0, 97, 181, 0, 85, 42, 43, 180, 0, 100, 181, 0, 35, 16, 252, 61, 42, 3]
abbrev dktX0_rail_2 : List UInt8 := dkwX0_rail_2 ++ dktX0_rail_3
def dkwX0_rail_1 : List UInt8 := [181, 0, 35, 42, 180, 0, 50, 3, 181, 0, 88, 42, 180, 0, 18, 180, 0, 92, 60, 42, 3, 181, 0, 71]
abbrev dktX0_rail_1 : List UInt8 := dkwX0_rail_1 ++ dktX0_rail_2
def dkwX0_rail_0 : List UInt8 := [42, 187, 0, 78, 89, 42, 183, 0, 80, 182, 0, 81, 181, 0, 18, 42, 3, 181, 0, 85, 42, 2]
abbrev dktX0_rail_0 : List UInt8 := dkwX0_rail_0 ++ dktX0_rail_1
theorem dksX0_rail_0 : cX0_rail.data.toList.drop 0 = dktX0_rail_0 := by decide +kernel
theorem dksX0_rail_1 : cX0_rail.data.toList.drop 22 = dktX0_rail_1 := dk_seg dksX0_rail_0 22 rfl rfl
theorem dksX0_rail_2 : cX0_rail.data.toList.drop 46 = dktX0_rail_2 := dk_seg dksX0_rail_1 24 rfl rfl
theorem dksX0_rail_3 : cX0_rail.data.toList.drop 70 = dktX0_rail_3 := dk_seg dksX0_rail_2 24 rfl rfl
theorem dX0_rail_0 : decode cX0_rail 0 = .ok (.aload_n 0, 1) := dk_42 (dk_at dksX0_rail_0 0 rfl rfl)
theorem dX0_rail_1 : decode cX0_rail 1 = .ok (.new 78, 3) := dk_187 0 78 (dk_at dksX0_rail_0 1 rfl rfl)
theorem dX0_rail_4 : decode cX0_rail 4 = .ok (.dup, 1) := dk_89 (dk_at dksX0_rail_0 4 rfl rfl)
theorem dX0_rail_5 : decode cX0_rail 5 = .ok (.aload_n 0, 1) := dk_42 (dk_at dksX0_rail_0 5 rfl rfl)
theorem dX0_rail_6 : decode cX0_rail 6 = .ok (.invokespecial 80, 3) := dk_183 0 80 (dk_at dksX0_rail_0 6 rfl rfl)
theorem dX0_rail_9 : decode cX0_rail 9 = .ok (.invokevirtual 81, 3) := dk_182 0 81 (dk_at dksX0_rail_0 9 rfl rfl)
theorem dX0_rail_12 : decode cX0_rail 12 = .ok (.putfield 18, 3) := dk_181 0 18 (dk_at dksX0_rail_0 12 rfl rfl)
theorem dX0_rail_15 : decode cX0_rail 15 = .ok (.aload_n 0, 1) := dk_42 (dk_at dksX0_rail_0 15 rfl rfl)
theorem dX0_rail_16 : decode cX0_rail 16 = .ok (.iconst 0, 1) := dk_3 (dk_at dksX0_rail_0 16 rfl rfl)
theorem dX0_rail_17 : decode cX0_rail 17 = .ok (.putfield 85, 3) := dk_181 0 85 (dk_at dksX0_rail_0 17 rfl rfl)
theorem dX0_rail_20 : decode cX0_rail 20 = .ok (.aload_n 0, 1) := dk_42 (dk_at dksX0_rail_0 20 rfl rfl)
theorem dX0_rail_21 : decode cX0_rail 21 = .ok (.iconst (-1), 1) := dk_2 (dk_at dksX0_rail_0 21 rfl rfl)
theorem dX0_rail_22 : decode cX0_rail 22 = .ok (.putfield 35, 3) := dk_181 0 35 (dk_at dksX0_rail_1 0 rfl rfl)
theorem dX0_rail_25 : decode cX0_rail 25 = .ok (.aload_n 0, 1) := dk_42 (dk_at dksX0_rail_1 3 rfl rfl)
theorem dX0_rail_26 : decode cX0_rail 26 = .ok (.getfield 50, 3) := dk_180 0 50 (dk_at dksX0_rail_1 4 rfl rfl)
theorem dX0_rail_29 : decode cX0_rail 29 = .ok (.iconst 0, 1) := dk_3 (dk_at dksX0_rail_1 7 rfl rfl)
theorem dX0_rail_30 : decode cX0_rail 30 = .ok (.putfield 88, 3) := dk_181 0 88 (dk_at dksX0_rail_1 8 rfl rfl)
theorem dX0_rail_33 : decode cX0_rail 33 = .ok (.aload_n 0, 1) := dk_42 (dk_at dksX0_rail_1 11 rfl rfl)
theorem dX0_rail_34 : decode cX0_rail 34 = .ok (.getfield 18, 3) := dk_180 0 18 (dk_at dksX0_rail_1 12 rfl rfl)
theorem dX0_rail_37 : decode cX0_rail 37 = .ok (.getfield 92, 3) := dk_180 0 92 (dk_at dksX0_rail_1 15 rfl rfl)
theorem dX0_rail_40 : decode cX0_rail 40 = .ok (.istore_n 1, 1) := dk_60 (dk_at dksX0_rail_1 18 rfl rfl)
theorem dX0_rail_41 : decode cX0_rail 41 = .ok (.aload_n 0, 1) := dk_42 (dk_at dksX0_rail_1 19 rfl rfl)
theorem dX0_rail_42 : decode cX0_rail 42 = .ok (.iconst 0, 1) := dk_3 (dk_at dksX0_rail_1 20 rfl rfl)
theorem dX0_rail_43 : decode cX0_rail 43 = .ok (.putfield 71, 3) := dk_181 0 71 (dk_at dksX0_rail_1 21 rfl rfl)
theorem dX0_rail_46 : decode cX0_rail 46 = .ok (.iload_n 1, 1) := dk_27 (dk_at dksX0_rail_2 0 rfl rfl)
theorem dX0_rail_47 : decode cX0_rail 47 = .ok (.ireturn, 1) := dk_172 (dk_at dksX0_rail_2 1 rfl rfl)
theorem dX0_rail_48 : decode cX0_rail 48 = .ok (.astore_n 1, 1) := dk_76 (dk_at dksX0_rail_2 2 rfl rfl)
theorem dX0_rail_49 : decode cX0_rail 49 = .ok (.aload_n 0, 1) := dk_42 (dk_at dksX0_rail_2 3 rfl rfl)
theorem dX0_rail_50 : decode cX0_rail 50 = .ok (.aload_n 1, 1) := dk_43 (dk_at dksX0_rail_2 4 rfl rfl)
theorem dX0_rail_51 : decode cX0_rail 51 = .ok (.getfield 97, 3) := dk_180 0 97 (dk_at dksX0_rail_2 5 rfl rfl)
theorem dX0_rail_54 : decode cX0_rail 54 = .ok (.putfield 85, 3) := dk_181 0 85 (dk_at dksX0_rail_2 8 rfl rfl)
theorem dX0_rail_57 : decode cX0_rail 57 = .ok (.aload_n 0, 1) := dk_42 (dk_at dksX0_rail_2 11 rfl rfl)
theorem dX0_rail_58 : decode cX0_rail 58 = .ok (.aload_n 1, 1) := dk_43 (dk_at dksX0_rail_2 12 rfl rfl)
theorem dX0_rail_59 : decode cX0_rail 59 = .ok (.getfield 100, 3) := dk_180 0 100 (dk_at dksX0_rail_2 13 rfl rfl)
theorem dX0_rail_62 : decode cX0_rail 62 = .ok (.putfield 35, 3) := dk_181 0 35 (dk_at dksX0_rail_2 16 rfl rfl)
theorem dX0_rail_65 : decode cX0_rail 65 = .ok (.bipush (-4), 2) := dk_16 252 (dk_at dksX0_rail_2 19 rfl rfl)
theorem dX0_rail_67 : decode cX0_rail 67 = .ok (.istore_n 2, 1) := dk_61 (dk_at dksX0_rail_2 21 rfl rfl)
theorem dX0_rail_68 : decode cX0_rail 68 = .ok (.aload_n 0, 1) := dk_42 (dk_at dksX0_rail_2 22 rfl rfl)
theorem dX0_rail_69 : decode cX0_rail 69 = .ok (.iconst 0, 1) := dk_3 (dk_at dksX0_rail_2 23 rfl rfl)
theorem dX0_rail_70 : decode cX0_rail 70 = .ok (.putfield 71, 3) := dk_181 0 71 (dk_at dksX0_rail_3 0 rfl rfl)
theorem dX0_rail_73 : decode cX0_rail 73 = .ok (.iload_n 2, 1) := dk_28 (dk_at dksX0_rail_3 3 rfl rfl)
theorem dX0_rail_74 : decode cX0_rail 74 = .ok (.ireturn, 1) := dk_172 (dk_at dksX0_rail_3 4 rfl rfl)
theorem dX0_rail_75 : decode cX0_rail 75 = .ok (.astore_n 3, 1) := dk_78 (dk_at dksX0_rail_3 5 rfl rfl)
theorem dX0_rail_76 : decode cX0_rail 76 = .ok (.aload_n 0, 1) := dk_42 (dk_at dksX0_rail_3 6 rfl rfl)
theorem dX0_rail_77 : decode cX0_rail 77 = .ok (.iconst 0, 1) := dk_3 (dk_at dksX0_rail_3 7 rfl rfl)
theorem dX0_rail_78 : decode cX0_rail 78 = .ok (.putfield 71, 3) := dk_181 0 71 (dk_at dksX0_rail_3 8 rfl rfl)
theorem dX0_rail_81 : decode cX0_rail 81 = .ok (.aload_n 3, 1) := dk_45 (dk_at dksX0_rail_3 11 rfl rfl)
theorem dX0_rail_82 : decode cX0_rail 82 = .ok (.athrow, 1) := dk_191 (dk_at dksX0_rail_3 12 rfl rfl)
abbrev cX0_fault : ByteArray := prog_1_method_10_code
def yX0_fault : MethodName := ⟨RX0, "fault", "(I)I"⟩
def dkwX0_fault_1 : List UInt8 := [172]
abbrev dktX0_fault_1 : List UInt8 := dkwX0_fault_1 ++ []
def dkwX0_fault_0 : List UInt8 := [27, 154, 0, 10, 42, 180, 0, 85, 167, 0, 16, 27, 4, 160, 0, 10, 42, 180, 0, 35, 167, 0, 4, 2]
abbrev dktX0_fault_0 : List UInt8 := dkwX0_fault_0 ++ dktX0_fault_1
theorem dksX0_fault_0 : cX0_fault.data.toList.drop 0 = dktX0_fault_0 := by decide +kernel
theorem dksX0_fault_1 : cX0_fault.data.toList.drop 24 = dktX0_fault_1 := dk_seg dksX0_fault_0 24 rfl rfl
theorem dX0_fault_0 : decode cX0_fault 0 = .ok (.iload_n 1, 1) := dk_27 (dk_at dksX0_fault_0 0 rfl rfl)
theorem dX0_fault_1 : decode cX0_fault 1 = .ok (.ifCond .ne 10, 3) := dk_154 0 10 (dk_at dksX0_fault_0 1 rfl rfl)
theorem dX0_fault_4 : decode cX0_fault 4 = .ok (.aload_n 0, 1) := dk_42 (dk_at dksX0_fault_0 4 rfl rfl)
theorem dX0_fault_5 : decode cX0_fault 5 = .ok (.getfield 85, 3) := dk_180 0 85 (dk_at dksX0_fault_0 5 rfl rfl)
theorem dX0_fault_8 : decode cX0_fault 8 = .ok (.goto 16, 3) := dk_167 0 16 (dk_at dksX0_fault_0 8 rfl rfl)
theorem dX0_fault_11 : decode cX0_fault 11 = .ok (.iload_n 1, 1) := dk_27 (dk_at dksX0_fault_0 11 rfl rfl)
theorem dX0_fault_12 : decode cX0_fault 12 = .ok (.iconst 1, 1) := dk_4 (dk_at dksX0_fault_0 12 rfl rfl)
theorem dX0_fault_13 : decode cX0_fault 13 = .ok (.if_icmp .ne 10, 3) := dk_160 0 10 (dk_at dksX0_fault_0 13 rfl rfl)
theorem dX0_fault_16 : decode cX0_fault 16 = .ok (.aload_n 0, 1) := dk_42 (dk_at dksX0_fault_0 16 rfl rfl)
theorem dX0_fault_17 : decode cX0_fault 17 = .ok (.getfield 35, 3) := dk_180 0 35 (dk_at dksX0_fault_0 17 rfl rfl)
theorem dX0_fault_20 : decode cX0_fault 20 = .ok (.goto 4, 3) := dk_167 0 4 (dk_at dksX0_fault_0 20 rfl rfl)
theorem dX0_fault_23 : decode cX0_fault 23 = .ok (.iconst (-1), 1) := dk_2 (dk_at dksX0_fault_0 23 rfl rfl)
theorem dX0_fault_24 : decode cX0_fault 24 = .ok (.ireturn, 1) := dk_172 (dk_at dksX0_fault_1 0 rfl rfl)
abbrev cX0_light : ByteArray := prog_1_method_16_code
def yX0_light : MethodName := ⟨RX0, "light", "(I)I"⟩
def dkwX0_light_0 : List UInt8 := [42, 27, 182, 0, 119, 153, 0, 14, 42, 180, 0, 18, 27, 182, 0, 123, 167, 0, 5, 16, 254, 172]
abbrev dktX0_light_0 : List UInt8 := dkwX0_light_0 ++ []
theorem dksX0_light_0 : cX0_light.data.toList.drop 0 = dktX0_light_0 := by decide +kernel
theorem dX0_light_0 : decode cX0_light 0 = .ok (.aload_n 0, 1) := dk_42 (dk_at dksX0_light_0 0 rfl rfl)
theorem dX0_light_1 : decode cX0_light 1 = .ok (.iload_n 1, 1) := dk_27 (dk_at dksX0_light_0 1 rfl rfl)
theorem dX0_light_2 : decode cX0_light 2 = .ok (.invokevirtual 119, 3) := dk_182 0 119 (dk_at dksX0_light_0 2 rfl rfl)
theorem dX0_light_5 : decode cX0_light 5 = .ok (.ifCond .eq 14, 3) := dk_153 0 14 (dk_at dksX0_light_0 5 rfl rfl)
theorem dX0_light_8 : decode cX0_light 8 = .ok (.aload_n 0, 1) := dk_42 (dk_at dksX0_light_0 8 rfl rfl)
theorem dX0_light_9 : decode cX0_light 9 = .ok (.getfield 18, 3) := dk_180 0 18 (dk_at dksX0_light_0 9 rfl rfl)
theorem dX0_light_12 : decode cX0_light 12 = .ok (.iload_n 1, 1) := dk_27 (dk_at dksX0_light_0 12 rfl rfl)
theorem dX0_light_13 : decode cX0_light 13 = .ok (.invokevirtual 123, 3) := dk_182 0 123 (dk_at dksX0_light_0 13 rfl rfl)
theorem dX0_light_16 : decode cX0_light 16 = .ok (.goto 5, 3) := dk_167 0 5 (dk_at dksX0_light_0 16 rfl rfl)
theorem dX0_light_19 : decode cX0_light 19 = .ok (.bipush (-2), 2) := dk_16 254 (dk_at dksX0_light_0 19 rfl rfl)
theorem dX0_light_21 : decode cX0_light 21 = .ok (.ireturn, 1) := dk_172 (dk_at dksX0_light_0 21 rfl rfl)
abbrev cX0_isPlace : ByteArray := prog_1_method_12_code
def yX0_isPlace : MethodName := ⟨RX0, "isPlace", "(I)Z"⟩
def dkwX0_isPlace_0 : List UInt8 := [27, 133, 9, 42, 180, 0, 18, 180, 0, 103, 4, 100, 133, 184, 0, 5, 172]
abbrev dktX0_isPlace_0 : List UInt8 := dkwX0_isPlace_0 ++ []
theorem dksX0_isPlace_0 : cX0_isPlace.data.toList.drop 0 = dktX0_isPlace_0 := by decide +kernel
theorem dX0_isPlace_0 : decode cX0_isPlace 0 = .ok (.iload_n 1, 1) := dk_27 (dk_at dksX0_isPlace_0 0 rfl rfl)
theorem dX0_isPlace_1 : decode cX0_isPlace 1 = .ok (.i2l, 1) := dk_133 (dk_at dksX0_isPlace_0 1 rfl rfl)
theorem dX0_isPlace_2 : decode cX0_isPlace 2 = .ok (.lconst 0, 1) := dk_9 (dk_at dksX0_isPlace_0 2 rfl rfl)
theorem dX0_isPlace_3 : decode cX0_isPlace 3 = .ok (.aload_n 0, 1) := dk_42 (dk_at dksX0_isPlace_0 3 rfl rfl)
theorem dX0_isPlace_4 : decode cX0_isPlace 4 = .ok (.getfield 18, 3) := dk_180 0 18 (dk_at dksX0_isPlace_0 4 rfl rfl)
theorem dX0_isPlace_7 : decode cX0_isPlace 7 = .ok (.getfield 103, 3) := dk_180 0 103 (dk_at dksX0_isPlace_0 7 rfl rfl)
theorem dX0_isPlace_10 : decode cX0_isPlace 10 = .ok (.iconst 1, 1) := dk_4 (dk_at dksX0_isPlace_0 10 rfl rfl)
theorem dX0_isPlace_11 : decode cX0_isPlace 11 = .ok (.isub, 1) := dk_100 (dk_at dksX0_isPlace_0 11 rfl rfl)
theorem dX0_isPlace_12 : decode cX0_isPlace 12 = .ok (.i2l, 1) := dk_133 (dk_at dksX0_isPlace_0 12 rfl rfl)
theorem dX0_isPlace_13 : decode cX0_isPlace 13 = .ok (.invokestatic 5, 3) := dk_184 0 5 (dk_at dksX0_isPlace_0 13 rfl rfl)
theorem dX0_isPlace_16 : decode cX0_isPlace 16 = .ok (.ireturn, 1) := dk_172 (dk_at dksX0_isPlace_0 16 rfl rfl)
abbrev cX0_bike : ByteArray := prog_1_method_17_code
def yX0_bike : MethodName := ⟨RX0, "bike", "(II)I"⟩
def dkwX0_bike_4 : List UInt8 := [153, 0, 7, 4, 167, 0, 4, 3, 172, 16, 254, 172]
abbrev dktX0_bike_4 : List UInt8 := dkwX0_bike_4 ++ []
def dkwX0_bike_3 : List UInt8 := [45, 180, 0, 139, 172, 45, 180, 0, 142, 172, 45, 180, 0, 145, 172, 45, 180, 0, 146, 172, 45, 180, 0, 149]
abbrev dktX0_bike_3 : List UInt8 := dkwX0_bike_3 ++ dktX0_bike_4
def dkwX0_bike_2 : List UInt8 := [170, 0, 0, 0, 66, 0, 0, 0, 0, 0, 0, 0, 4, 0, 0, 0, 33, 0, 0, 0, 38, 0, 0, 0, 43, 0, 0, 0, 48, 0, 0, 0, 53]
abbrev dktX0_bike_2 : List UInt8 := dkwX0_bike_2 ++ dktX0_bike_3
def dkwX0_bike_1 : List UInt8 := [192, 0, 137, 78, 28]
abbrev dktX0_bike_1 : List UInt8 := dkwX0_bike_1 ++ dktX0_bike_2
def dkwX0_bike_0 : List UInt8 := [42, 27, 182, 0, 127, 154, 0, 6, 16, 254, 172, 42, 180, 0, 18, 180, 0, 130, 27, 182, 0, 133]
abbrev dktX0_bike_0 : List UInt8 := dkwX0_bike_0 ++ dktX0_bike_1
theorem dksX0_bike_0 : cX0_bike.data.toList.drop 0 = dktX0_bike_0 := by decide +kernel
theorem dksX0_bike_1 : cX0_bike.data.toList.drop 22 = dktX0_bike_1 := dk_seg dksX0_bike_0 22 rfl rfl
theorem dksX0_bike_2 : cX0_bike.data.toList.drop 27 = dktX0_bike_2 := dk_seg dksX0_bike_1 5 rfl rfl
theorem dksX0_bike_3 : cX0_bike.data.toList.drop 60 = dktX0_bike_3 := dk_seg dksX0_bike_2 33 rfl rfl
theorem dksX0_bike_4 : cX0_bike.data.toList.drop 84 = dktX0_bike_4 := dk_seg dksX0_bike_3 24 rfl rfl
theorem dX0_bike_0 : decode cX0_bike 0 = .ok (.aload_n 0, 1) := dk_42 (dk_at dksX0_bike_0 0 rfl rfl)
theorem dX0_bike_1 : decode cX0_bike 1 = .ok (.iload_n 1, 1) := dk_27 (dk_at dksX0_bike_0 1 rfl rfl)
theorem dX0_bike_2 : decode cX0_bike 2 = .ok (.invokevirtual 127, 3) := dk_182 0 127 (dk_at dksX0_bike_0 2 rfl rfl)
theorem dX0_bike_5 : decode cX0_bike 5 = .ok (.ifCond .ne 6, 3) := dk_154 0 6 (dk_at dksX0_bike_0 5 rfl rfl)
theorem dX0_bike_8 : decode cX0_bike 8 = .ok (.bipush (-2), 2) := dk_16 254 (dk_at dksX0_bike_0 8 rfl rfl)
theorem dX0_bike_10 : decode cX0_bike 10 = .ok (.ireturn, 1) := dk_172 (dk_at dksX0_bike_0 10 rfl rfl)
theorem dX0_bike_11 : decode cX0_bike 11 = .ok (.aload_n 0, 1) := dk_42 (dk_at dksX0_bike_0 11 rfl rfl)
theorem dX0_bike_12 : decode cX0_bike 12 = .ok (.getfield 18, 3) := dk_180 0 18 (dk_at dksX0_bike_0 12 rfl rfl)
theorem dX0_bike_15 : decode cX0_bike 15 = .ok (.getfield 130, 3) := dk_180 0 130 (dk_at dksX0_bike_0 15 rfl rfl)
theorem dX0_bike_18 : decode cX0_bike 18 = .ok (.iload_n 1, 1) := dk_27 (dk_at dksX0_bike_0 18 rfl rfl)
theorem dX0_bike_19 : decode cX0_bike 19 = .ok (.invokevirtual 133, 3) := dk_182 0 133 (dk_at dksX0_bike_0 19 rfl rfl)
theorem dX0_bike_22 : decode cX0_bike 22 = .ok (.checkcast 137, 3) := dk_192 0 137 (dk_at dksX0_bike_1 0 rfl rfl)
theorem dX0_bike_25 : decode cX0_bike 25 = .ok (.astore_n 3, 1) := dk_78 (dk_at dksX0_bike_1 3 rfl rfl)
theorem dX0_bike_26 : decode cX0_bike 26 = .ok (.iload_n 2, 1) := dk_28 (dk_at dksX0_bike_1 4 rfl rfl)
theorem dX0_bike_27 : decode cX0_bike 27 = .ok (.tableswitch 66 0 4 #[33, 38, 43, 48, 53], 33) := by decide +kernel
theorem dX0_bike_60 : decode cX0_bike 60 = .ok (.aload_n 3, 1) := dk_45 (dk_at dksX0_bike_3 0 rfl rfl)
theorem dX0_bike_61 : decode cX0_bike 61 = .ok (.getfield 139, 3) := dk_180 0 139 (dk_at dksX0_bike_3 1 rfl rfl)
theorem dX0_bike_64 : decode cX0_bike 64 = .ok (.ireturn, 1) := dk_172 (dk_at dksX0_bike_3 4 rfl rfl)
theorem dX0_bike_65 : decode cX0_bike 65 = .ok (.aload_n 3, 1) := dk_45 (dk_at dksX0_bike_3 5 rfl rfl)
theorem dX0_bike_66 : decode cX0_bike 66 = .ok (.getfield 142, 3) := dk_180 0 142 (dk_at dksX0_bike_3 6 rfl rfl)
theorem dX0_bike_69 : decode cX0_bike 69 = .ok (.ireturn, 1) := dk_172 (dk_at dksX0_bike_3 9 rfl rfl)
theorem dX0_bike_70 : decode cX0_bike 70 = .ok (.aload_n 3, 1) := dk_45 (dk_at dksX0_bike_3 10 rfl rfl)
theorem dX0_bike_71 : decode cX0_bike 71 = .ok (.getfield 145, 3) := dk_180 0 145 (dk_at dksX0_bike_3 11 rfl rfl)
theorem dX0_bike_74 : decode cX0_bike 74 = .ok (.ireturn, 1) := dk_172 (dk_at dksX0_bike_3 14 rfl rfl)
theorem dX0_bike_75 : decode cX0_bike 75 = .ok (.aload_n 3, 1) := dk_45 (dk_at dksX0_bike_3 15 rfl rfl)
theorem dX0_bike_76 : decode cX0_bike 76 = .ok (.getfield 146, 3) := dk_180 0 146 (dk_at dksX0_bike_3 16 rfl rfl)
theorem dX0_bike_79 : decode cX0_bike 79 = .ok (.ireturn, 1) := dk_172 (dk_at dksX0_bike_3 19 rfl rfl)
theorem dX0_bike_80 : decode cX0_bike 80 = .ok (.aload_n 3, 1) := dk_45 (dk_at dksX0_bike_3 20 rfl rfl)
theorem dX0_bike_81 : decode cX0_bike 81 = .ok (.getfield 149, 3) := dk_180 0 149 (dk_at dksX0_bike_3 21 rfl rfl)
theorem dX0_bike_84 : decode cX0_bike 84 = .ok (.ifCond .eq 7, 3) := dk_153 0 7 (dk_at dksX0_bike_4 0 rfl rfl)
theorem dX0_bike_87 : decode cX0_bike 87 = .ok (.iconst 1, 1) := dk_4 (dk_at dksX0_bike_4 3 rfl rfl)
theorem dX0_bike_88 : decode cX0_bike 88 = .ok (.goto 4, 3) := dk_167 0 4 (dk_at dksX0_bike_4 4 rfl rfl)
theorem dX0_bike_91 : decode cX0_bike 91 = .ok (.iconst 0, 1) := dk_3 (dk_at dksX0_bike_4 7 rfl rfl)
theorem dX0_bike_92 : decode cX0_bike 92 = .ok (.ireturn, 1) := dk_172 (dk_at dksX0_bike_4 8 rfl rfl)
theorem dX0_bike_93 : decode cX0_bike 93 = .ok (.bipush (-2), 2) := dk_16 254 (dk_at dksX0_bike_4 9 rfl rfl)
theorem dX0_bike_95 : decode cX0_bike 95 = .ok (.ireturn, 1) := dk_172 (dk_at dksX0_bike_4 11 rfl rfl)
abbrev cX0_isBike : ByteArray := prog_1_method_13_code
def yX0_isBike : MethodName := ⟨RX0, "isBike", "(I)Z"⟩
def dkwX0_isBike_0 : List UInt8 := [27, 133, 9, 42, 180, 0, 18, 182, 0, 106, 4, 100, 133, 184, 0, 5, 172]
abbrev dktX0_isBike_0 : List UInt8 := dkwX0_isBike_0 ++ []
theorem dksX0_isBike_0 : cX0_isBike.data.toList.drop 0 = dktX0_isBike_0 := by decide +kernel
theorem dX0_isBike_0 : decode cX0_isBike 0 = .ok (.iload_n 1, 1) := dk_27 (dk_at dksX0_isBike_0 0 rfl rfl)
theorem dX0_isBike_1 : decode cX0_isBike 1 = .ok (.i2l, 1) := dk_133 (dk_at dksX0_isBike_0 1 rfl rfl)
theorem dX0_isBike_2 : decode cX0_isBike 2 = .ok (.lconst 0, 1) := dk_9 (dk_at dksX0_isBike_0 2 rfl rfl)
theorem dX0_isBike_3 : decode cX0_isBike 3 = .ok (.aload_n 0, 1) := dk_42 (dk_at dksX0_isBike_0 3 rfl rfl)
theorem dX0_isBike_4 : decode cX0_isBike 4 = .ok (.getfield 18, 3) := dk_180 0 18 (dk_at dksX0_isBike_0 4 rfl rfl)
theorem dX0_isBike_7 : decode cX0_isBike 7 = .ok (.invokevirtual 106, 3) := dk_182 0 106 (dk_at dksX0_isBike_0 7 rfl rfl)
theorem dX0_isBike_10 : decode cX0_isBike 10 = .ok (.iconst 1, 1) := dk_4 (dk_at dksX0_isBike_0 10 rfl rfl)
theorem dX0_isBike_11 : decode cX0_isBike 11 = .ok (.isub, 1) := dk_100 (dk_at dksX0_isBike_0 11 rfl rfl)
theorem dX0_isBike_12 : decode cX0_isBike 12 = .ok (.i2l, 1) := dk_133 (dk_at dksX0_isBike_0 12 rfl rfl)
theorem dX0_isBike_13 : decode cX0_isBike 13 = .ok (.invokestatic 5, 3) := dk_184 0 5 (dk_at dksX0_isBike_0 13 rfl rfl)
theorem dX0_isBike_16 : decode cX0_isBike 16 = .ok (.ireturn, 1) := dk_172 (dk_at dksX0_isBike_0 16 rfl rfl)
abbrev cX0_trouble : ByteArray := prog_1_method_18_code
def yX0_trouble : MethodName := ⟨RX0, "trouble", "(II)I"⟩
def dkwX0_trouble_1 : List UInt8 := [180, 0, 110, 27, 182, 0, 133, 192, 0, 155, 28, 182, 0, 157, 167, 0, 5, 16, 254, 172]
abbrev dktX0_trouble_1 : List UInt8 := dkwX0_trouble_1 ++ []
def dkwX0_trouble_0 : List UInt8 := [42, 27, 182, 0, 152, 153, 0, 36, 42, 28, 182, 0, 127, 153, 0, 28, 42, 180, 0, 18, 42, 180, 0, 18]
abbrev dktX0_trouble_0 : List UInt8 := dkwX0_trouble_0 ++ dktX0_trouble_1
theorem dksX0_trouble_0 : cX0_trouble.data.toList.drop 0 = dktX0_trouble_0 := by decide +kernel
theorem dksX0_trouble_1 : cX0_trouble.data.toList.drop 24 = dktX0_trouble_1 := dk_seg dksX0_trouble_0 24 rfl rfl
theorem dX0_trouble_0 : decode cX0_trouble 0 = .ok (.aload_n 0, 1) := dk_42 (dk_at dksX0_trouble_0 0 rfl rfl)
theorem dX0_trouble_1 : decode cX0_trouble 1 = .ok (.iload_n 1, 1) := dk_27 (dk_at dksX0_trouble_0 1 rfl rfl)
theorem dX0_trouble_2 : decode cX0_trouble 2 = .ok (.invokevirtual 152, 3) := dk_182 0 152 (dk_at dksX0_trouble_0 2 rfl rfl)
theorem dX0_trouble_5 : decode cX0_trouble 5 = .ok (.ifCond .eq 36, 3) := dk_153 0 36 (dk_at dksX0_trouble_0 5 rfl rfl)
theorem dX0_trouble_8 : decode cX0_trouble 8 = .ok (.aload_n 0, 1) := dk_42 (dk_at dksX0_trouble_0 8 rfl rfl)
theorem dX0_trouble_9 : decode cX0_trouble 9 = .ok (.iload_n 2, 1) := dk_28 (dk_at dksX0_trouble_0 9 rfl rfl)
theorem dX0_trouble_10 : decode cX0_trouble 10 = .ok (.invokevirtual 127, 3) := dk_182 0 127 (dk_at dksX0_trouble_0 10 rfl rfl)
theorem dX0_trouble_13 : decode cX0_trouble 13 = .ok (.ifCond .eq 28, 3) := dk_153 0 28 (dk_at dksX0_trouble_0 13 rfl rfl)
theorem dX0_trouble_16 : decode cX0_trouble 16 = .ok (.aload_n 0, 1) := dk_42 (dk_at dksX0_trouble_0 16 rfl rfl)
theorem dX0_trouble_17 : decode cX0_trouble 17 = .ok (.getfield 18, 3) := dk_180 0 18 (dk_at dksX0_trouble_0 17 rfl rfl)
theorem dX0_trouble_20 : decode cX0_trouble 20 = .ok (.aload_n 0, 1) := dk_42 (dk_at dksX0_trouble_0 20 rfl rfl)
theorem dX0_trouble_21 : decode cX0_trouble 21 = .ok (.getfield 18, 3) := dk_180 0 18 (dk_at dksX0_trouble_0 21 rfl rfl)
theorem dX0_trouble_24 : decode cX0_trouble 24 = .ok (.getfield 110, 3) := dk_180 0 110 (dk_at dksX0_trouble_1 0 rfl rfl)
theorem dX0_trouble_27 : decode cX0_trouble 27 = .ok (.iload_n 1, 1) := dk_27 (dk_at dksX0_trouble_1 3 rfl rfl)
theorem dX0_trouble_28 : decode cX0_trouble 28 = .ok (.invokevirtual 133, 3) := dk_182 0 133 (dk_at dksX0_trouble_1 4 rfl rfl)
theorem dX0_trouble_31 : decode cX0_trouble 31 = .ok (.checkcast 155, 3) := dk_192 0 155 (dk_at dksX0_trouble_1 7 rfl rfl)
theorem dX0_trouble_34 : decode cX0_trouble 34 = .ok (.iload_n 2, 1) := dk_28 (dk_at dksX0_trouble_1 10 rfl rfl)
theorem dX0_trouble_35 : decode cX0_trouble 35 = .ok (.invokevirtual 157, 3) := dk_182 0 157 (dk_at dksX0_trouble_1 11 rfl rfl)
theorem dX0_trouble_38 : decode cX0_trouble 38 = .ok (.goto 5, 3) := dk_167 0 5 (dk_at dksX0_trouble_1 14 rfl rfl)
theorem dX0_trouble_41 : decode cX0_trouble 41 = .ok (.bipush (-2), 2) := dk_16 254 (dk_at dksX0_trouble_1 17 rfl rfl)
theorem dX0_trouble_43 : decode cX0_trouble 43 = .ok (.ireturn, 1) := dk_172 (dk_at dksX0_trouble_1 19 rfl rfl)
abbrev cX0_isThief : ByteArray := prog_1_method_14_code
def yX0_isThief : MethodName := ⟨RX0, "isThief", "(I)Z"⟩
def dkwX0_isThief_0 : List UInt8 := [27, 133, 9, 42, 180, 0, 18, 180, 0, 110, 182, 0, 114, 4, 100, 133, 184, 0, 5, 172]
abbrev dktX0_isThief_0 : List UInt8 := dkwX0_isThief_0 ++ []
theorem dksX0_isThief_0 : cX0_isThief.data.toList.drop 0 = dktX0_isThief_0 := by decide +kernel
theorem dX0_isThief_0 : decode cX0_isThief 0 = .ok (.iload_n 1, 1) := dk_27 (dk_at dksX0_isThief_0 0 rfl rfl)
theorem dX0_isThief_1 : decode cX0_isThief 1 = .ok (.i2l, 1) := dk_133 (dk_at dksX0_isThief_0 1 rfl rfl)
theorem dX0_isThief_2 : decode cX0_isThief 2 = .ok (.lconst 0, 1) := dk_9 (dk_at dksX0_isThief_0 2 rfl rfl)
theorem dX0_isThief_3 : decode cX0_isThief 3 = .ok (.aload_n 0, 1) := dk_42 (dk_at dksX0_isThief_0 3 rfl rfl)
theorem dX0_isThief_4 : decode cX0_isThief 4 = .ok (.getfield 18, 3) := dk_180 0 18 (dk_at dksX0_isThief_0 4 rfl rfl)
theorem dX0_isThief_7 : decode cX0_isThief 7 = .ok (.getfield 110, 3) := dk_180 0 110 (dk_at dksX0_isThief_0 7 rfl rfl)
theorem dX0_isThief_10 : decode cX0_isThief 10 = .ok (.invokevirtual 114, 3) := dk_182 0 114 (dk_at dksX0_isThief_0 10 rfl rfl)
theorem dX0_isThief_13 : decode cX0_isThief 13 = .ok (.iconst 1, 1) := dk_4 (dk_at dksX0_isThief_0 13 rfl rfl)
theorem dX0_isThief_14 : decode cX0_isThief 14 = .ok (.isub, 1) := dk_100 (dk_at dksX0_isThief_0 14 rfl rfl)
theorem dX0_isThief_15 : decode cX0_isThief 15 = .ok (.i2l, 1) := dk_133 (dk_at dksX0_isThief_0 15 rfl rfl)
theorem dX0_isThief_16 : decode cX0_isThief 16 = .ok (.invokestatic 5, 3) := dk_184 0 5 (dk_at dksX0_isThief_0 16 rfl rfl)
theorem dX0_isThief_19 : decode cX0_isThief 19 = .ok (.ireturn, 1) := dk_172 (dk_at dksX0_isThief_0 19 rfl rfl)
abbrev cX0_gain : ByteArray := prog_1_method_19_code
def yX0_gain : MethodName := ⟨RX0, "gain", "(I)I"⟩
def dkwX0_gain_0 : List UInt8 := [42, 27, 182, 0, 127, 153, 0, 14, 42, 180, 0, 18, 27, 182, 0, 161, 167, 0, 5, 16, 254, 172]
abbrev dktX0_gain_0 : List UInt8 := dkwX0_gain_0 ++ []
theorem dksX0_gain_0 : cX0_gain.data.toList.drop 0 = dktX0_gain_0 := by decide +kernel
theorem dX0_gain_0 : decode cX0_gain 0 = .ok (.aload_n 0, 1) := dk_42 (dk_at dksX0_gain_0 0 rfl rfl)
theorem dX0_gain_1 : decode cX0_gain 1 = .ok (.iload_n 1, 1) := dk_27 (dk_at dksX0_gain_0 1 rfl rfl)
theorem dX0_gain_2 : decode cX0_gain 2 = .ok (.invokevirtual 127, 3) := dk_182 0 127 (dk_at dksX0_gain_0 2 rfl rfl)
theorem dX0_gain_5 : decode cX0_gain 5 = .ok (.ifCond .eq 14, 3) := dk_153 0 14 (dk_at dksX0_gain_0 5 rfl rfl)
theorem dX0_gain_8 : decode cX0_gain 8 = .ok (.aload_n 0, 1) := dk_42 (dk_at dksX0_gain_0 8 rfl rfl)
theorem dX0_gain_9 : decode cX0_gain 9 = .ok (.getfield 18, 3) := dk_180 0 18 (dk_at dksX0_gain_0 9 rfl rfl)
theorem dX0_gain_12 : decode cX0_gain 12 = .ok (.iload_n 1, 1) := dk_27 (dk_at dksX0_gain_0 12 rfl rfl)
theorem dX0_gain_13 : decode cX0_gain 13 = .ok (.invokevirtual 161, 3) := dk_182 0 161 (dk_at dksX0_gain_0 13 rfl rfl)
theorem dX0_gain_16 : decode cX0_gain 16 = .ok (.goto 5, 3) := dk_167 0 5 (dk_at dksX0_gain_0 16 rfl rfl)
theorem dX0_gain_19 : decode cX0_gain 19 = .ok (.bipush (-2), 2) := dk_16 254 (dk_at dksX0_gain_0 19 rfl rfl)
theorem dX0_gain_21 : decode cX0_gain 21 = .ok (.ireturn, 1) := dk_172 (dk_at dksX0_gain_0 21 rfl rfl)
abbrev cX0_takes : ByteArray := prog_1_method_20_code
def yX0_takes : MethodName := ⟨RX0, "takes", "(II)I"⟩
def dkwX0_takes_2 : List UInt8 := [167, 0, 5, 16, 254, 172]
abbrev dktX0_takes_2 : List UInt8 := dkwX0_takes_2 ++ []
def dkwX0_takes_1 : List UInt8 := [42, 180, 0, 18, 180, 0, 110, 27, 182, 0, 133, 192, 0, 155, 42, 180, 0, 18, 28, 182, 0, 167]
abbrev dktX0_takes_1 : List UInt8 := dkwX0_takes_1 ++ dktX0_takes_2
def dkwX0_takes_0 : List UInt8 := [42, 27, 182, 0, 152, 153, 0, 44, 28, 133, 9, 42, 182, 0, 164, 4, 100, 133, 184, 0, 5, 153, 0, 28]
abbrev dktX0_takes_0 : List UInt8 := dkwX0_takes_0 ++ dktX0_takes_1
theorem dksX0_takes_0 : cX0_takes.data.toList.drop 0 = dktX0_takes_0 := by decide +kernel
theorem dksX0_takes_1 : cX0_takes.data.toList.drop 24 = dktX0_takes_1 := dk_seg dksX0_takes_0 24 rfl rfl
theorem dksX0_takes_2 : cX0_takes.data.toList.drop 46 = dktX0_takes_2 := dk_seg dksX0_takes_1 22 rfl rfl
theorem dX0_takes_0 : decode cX0_takes 0 = .ok (.aload_n 0, 1) := dk_42 (dk_at dksX0_takes_0 0 rfl rfl)
theorem dX0_takes_1 : decode cX0_takes 1 = .ok (.iload_n 1, 1) := dk_27 (dk_at dksX0_takes_0 1 rfl rfl)
theorem dX0_takes_2 : decode cX0_takes 2 = .ok (.invokevirtual 152, 3) := dk_182 0 152 (dk_at dksX0_takes_0 2 rfl rfl)
theorem dX0_takes_5 : decode cX0_takes 5 = .ok (.ifCond .eq 44, 3) := dk_153 0 44 (dk_at dksX0_takes_0 5 rfl rfl)
theorem dX0_takes_8 : decode cX0_takes 8 = .ok (.iload_n 2, 1) := dk_28 (dk_at dksX0_takes_0 8 rfl rfl)
theorem dX0_takes_9 : decode cX0_takes 9 = .ok (.i2l, 1) := dk_133 (dk_at dksX0_takes_0 9 rfl rfl)
theorem dX0_takes_10 : decode cX0_takes 10 = .ok (.lconst 0, 1) := dk_9 (dk_at dksX0_takes_0 10 rfl rfl)
theorem dX0_takes_11 : decode cX0_takes 11 = .ok (.aload_n 0, 1) := dk_42 (dk_at dksX0_takes_0 11 rfl rfl)
theorem dX0_takes_12 : decode cX0_takes 12 = .ok (.invokevirtual 164, 3) := dk_182 0 164 (dk_at dksX0_takes_0 12 rfl rfl)
theorem dX0_takes_15 : decode cX0_takes 15 = .ok (.iconst 1, 1) := dk_4 (dk_at dksX0_takes_0 15 rfl rfl)
theorem dX0_takes_16 : decode cX0_takes 16 = .ok (.isub, 1) := dk_100 (dk_at dksX0_takes_0 16 rfl rfl)
theorem dX0_takes_17 : decode cX0_takes 17 = .ok (.i2l, 1) := dk_133 (dk_at dksX0_takes_0 17 rfl rfl)
theorem dX0_takes_18 : decode cX0_takes 18 = .ok (.invokestatic 5, 3) := dk_184 0 5 (dk_at dksX0_takes_0 18 rfl rfl)
theorem dX0_takes_21 : decode cX0_takes 21 = .ok (.ifCond .eq 28, 3) := dk_153 0 28 (dk_at dksX0_takes_0 21 rfl rfl)
theorem dX0_takes_24 : decode cX0_takes 24 = .ok (.aload_n 0, 1) := dk_42 (dk_at dksX0_takes_1 0 rfl rfl)
theorem dX0_takes_25 : decode cX0_takes 25 = .ok (.getfield 18, 3) := dk_180 0 18 (dk_at dksX0_takes_1 1 rfl rfl)
theorem dX0_takes_28 : decode cX0_takes 28 = .ok (.getfield 110, 3) := dk_180 0 110 (dk_at dksX0_takes_1 4 rfl rfl)
theorem dX0_takes_31 : decode cX0_takes 31 = .ok (.iload_n 1, 1) := dk_27 (dk_at dksX0_takes_1 7 rfl rfl)
theorem dX0_takes_32 : decode cX0_takes 32 = .ok (.invokevirtual 133, 3) := dk_182 0 133 (dk_at dksX0_takes_1 8 rfl rfl)
theorem dX0_takes_35 : decode cX0_takes 35 = .ok (.checkcast 155, 3) := dk_192 0 155 (dk_at dksX0_takes_1 11 rfl rfl)
theorem dX0_takes_38 : decode cX0_takes 38 = .ok (.aload_n 0, 1) := dk_42 (dk_at dksX0_takes_1 14 rfl rfl)
theorem dX0_takes_39 : decode cX0_takes 39 = .ok (.getfield 18, 3) := dk_180 0 18 (dk_at dksX0_takes_1 15 rfl rfl)
theorem dX0_takes_42 : decode cX0_takes 42 = .ok (.iload_n 2, 1) := dk_28 (dk_at dksX0_takes_1 18 rfl rfl)
theorem dX0_takes_43 : decode cX0_takes 43 = .ok (.invokevirtual 167, 3) := dk_182 0 167 (dk_at dksX0_takes_1 19 rfl rfl)
theorem dX0_takes_46 : decode cX0_takes 46 = .ok (.goto 5, 3) := dk_167 0 5 (dk_at dksX0_takes_2 0 rfl rfl)
theorem dX0_takes_49 : decode cX0_takes 49 = .ok (.bipush (-2), 2) := dk_16 254 (dk_at dksX0_takes_2 3 rfl rfl)
theorem dX0_takes_51 : decode cX0_takes 51 = .ok (.ireturn, 1) := dk_172 (dk_at dksX0_takes_2 5 rfl rfl)
abbrev cX0_sets : ByteArray := prog_1_method_15_code
def yX0_sets : MethodName := ⟨RX0, "sets", "()I"⟩
def dkwX0_sets_0 : List UInt8 := [4, 42, 180, 0, 18, 182, 0, 106, 120, 172]
abbrev dktX0_sets_0 : List UInt8 := dkwX0_sets_0 ++ []
theorem dksX0_sets_0 : cX0_sets.data.toList.drop 0 = dktX0_sets_0 := by decide +kernel
theorem dX0_sets_0 : decode cX0_sets 0 = .ok (.iconst 1, 1) := dk_4 (dk_at dksX0_sets_0 0 rfl rfl)
theorem dX0_sets_1 : decode cX0_sets 1 = .ok (.aload_n 0, 1) := dk_42 (dk_at dksX0_sets_0 1 rfl rfl)
theorem dX0_sets_2 : decode cX0_sets 2 = .ok (.getfield 18, 3) := dk_180 0 18 (dk_at dksX0_sets_0 2 rfl rfl)
theorem dX0_sets_5 : decode cX0_sets 5 = .ok (.invokevirtual 106, 3) := dk_182 0 106 (dk_at dksX0_sets_0 5 rfl rfl)
theorem dX0_sets_8 : decode cX0_sets 8 = .ok (.ishl, 1) := dk_120 (dk_at dksX0_sets_0 8 rfl rfl)
theorem dX0_sets_9 : decode cX0_sets 9 = .ok (.ireturn, 1) := dk_172 (dk_at dksX0_sets_0 9 rfl rfl)
abbrev cX0_holds : ByteArray := prog_1_method_2_code
def yX0_holds : MethodName := ⟨RX0, "holds", "(II)Z"⟩
def dkwX0_holds_0 : List UInt8 := [26, 27, 122, 4, 126, 4, 160, 0, 7, 4, 167, 0, 4, 3, 172]
abbrev dktX0_holds_0 : List UInt8 := dkwX0_holds_0 ++ []
theorem dksX0_holds_0 : cX0_holds.data.toList.drop 0 = dktX0_holds_0 := by decide +kernel
theorem dX0_holds_0 : decode cX0_holds 0 = .ok (.iload_n 0, 1) := dk_26 (dk_at dksX0_holds_0 0 rfl rfl)
theorem dX0_holds_1 : decode cX0_holds 1 = .ok (.iload_n 1, 1) := dk_27 (dk_at dksX0_holds_0 1 rfl rfl)
theorem dX0_holds_2 : decode cX0_holds 2 = .ok (.ishr, 1) := dk_122 (dk_at dksX0_holds_0 2 rfl rfl)
theorem dX0_holds_3 : decode cX0_holds 3 = .ok (.iconst 1, 1) := dk_4 (dk_at dksX0_holds_0 3 rfl rfl)
theorem dX0_holds_4 : decode cX0_holds 4 = .ok (.iand, 1) := dk_126 (dk_at dksX0_holds_0 4 rfl rfl)
theorem dX0_holds_5 : decode cX0_holds 5 = .ok (.iconst 1, 1) := dk_4 (dk_at dksX0_holds_0 5 rfl rfl)
theorem dX0_holds_6 : decode cX0_holds 6 = .ok (.if_icmp .ne 7, 3) := dk_160 0 7 (dk_at dksX0_holds_0 6 rfl rfl)
theorem dX0_holds_9 : decode cX0_holds 9 = .ok (.iconst 1, 1) := dk_4 (dk_at dksX0_holds_0 9 rfl rfl)
theorem dX0_holds_10 : decode cX0_holds 10 = .ok (.goto 4, 3) := dk_167 0 4 (dk_at dksX0_holds_0 10 rfl rfl)
theorem dX0_holds_13 : decode cX0_holds 13 = .ok (.iconst 0, 1) := dk_3 (dk_at dksX0_holds_0 13 rfl rfl)
theorem dX0_holds_14 : decode cX0_holds 14 = .ok (.ireturn, 1) := dk_172 (dk_at dksX0_holds_0 14 rfl rfl)
abbrev cX0_wants : ByteArray := prog_1_method_21_code
def yX0_wants : MethodName := ⟨RX0, "wants", "(I)I"⟩
def dkwX0_wants_3 : List UInt8 := [167, 0, 4, 3, 96, 62, 132, 4, 1, 167, 255, 211, 29, 172]
abbrev dktX0_wants_3 : List UInt8 := dkwX0_wants_3 ++ []
def dkwX0_wants_2 : List UInt8 := [180, 0, 18, 21, 4, 182, 0, 161, 42, 180, 0, 18, 44, 21, 4, 182, 0, 157, 164, 0, 7, 4]
abbrev dktX0_wants_2 : List UInt8 := dkwX0_wants_2 ++ dktX0_wants_3
def dkwX0_wants_1 : List UInt8 := [192, 0, 155, 77, 3, 62, 3, 54, 4, 21, 4, 42, 180, 0, 18, 182, 0, 106, 162, 0, 39, 29, 42]
abbrev dktX0_wants_1 : List UInt8 := dkwX0_wants_1 ++ dktX0_wants_2
def dkwX0_wants_0 : List UInt8 := [42, 27, 182, 0, 152, 154, 0, 6, 16, 254, 172, 42, 180, 0, 18, 180, 0, 110, 27, 182, 0, 133]
abbrev dktX0_wants_0 : List UInt8 := dkwX0_wants_0 ++ dktX0_wants_1
theorem dksX0_wants_0 : cX0_wants.data.toList.drop 0 = dktX0_wants_0 := by decide +kernel
theorem dksX0_wants_1 : cX0_wants.data.toList.drop 22 = dktX0_wants_1 := dk_seg dksX0_wants_0 22 rfl rfl
theorem dksX0_wants_2 : cX0_wants.data.toList.drop 45 = dktX0_wants_2 := dk_seg dksX0_wants_1 23 rfl rfl
theorem dksX0_wants_3 : cX0_wants.data.toList.drop 67 = dktX0_wants_3 := dk_seg dksX0_wants_2 22 rfl rfl
theorem dX0_wants_0 : decode cX0_wants 0 = .ok (.aload_n 0, 1) := dk_42 (dk_at dksX0_wants_0 0 rfl rfl)
theorem dX0_wants_1 : decode cX0_wants 1 = .ok (.iload_n 1, 1) := dk_27 (dk_at dksX0_wants_0 1 rfl rfl)
theorem dX0_wants_2 : decode cX0_wants 2 = .ok (.invokevirtual 152, 3) := dk_182 0 152 (dk_at dksX0_wants_0 2 rfl rfl)
theorem dX0_wants_5 : decode cX0_wants 5 = .ok (.ifCond .ne 6, 3) := dk_154 0 6 (dk_at dksX0_wants_0 5 rfl rfl)
theorem dX0_wants_8 : decode cX0_wants 8 = .ok (.bipush (-2), 2) := dk_16 254 (dk_at dksX0_wants_0 8 rfl rfl)
theorem dX0_wants_10 : decode cX0_wants 10 = .ok (.ireturn, 1) := dk_172 (dk_at dksX0_wants_0 10 rfl rfl)
theorem dX0_wants_11 : decode cX0_wants 11 = .ok (.aload_n 0, 1) := dk_42 (dk_at dksX0_wants_0 11 rfl rfl)
theorem dX0_wants_12 : decode cX0_wants 12 = .ok (.getfield 18, 3) := dk_180 0 18 (dk_at dksX0_wants_0 12 rfl rfl)
theorem dX0_wants_15 : decode cX0_wants 15 = .ok (.getfield 110, 3) := dk_180 0 110 (dk_at dksX0_wants_0 15 rfl rfl)
theorem dX0_wants_18 : decode cX0_wants 18 = .ok (.iload_n 1, 1) := dk_27 (dk_at dksX0_wants_0 18 rfl rfl)
theorem dX0_wants_19 : decode cX0_wants 19 = .ok (.invokevirtual 133, 3) := dk_182 0 133 (dk_at dksX0_wants_0 19 rfl rfl)
theorem dX0_wants_22 : decode cX0_wants 22 = .ok (.checkcast 155, 3) := dk_192 0 155 (dk_at dksX0_wants_1 0 rfl rfl)
theorem dX0_wants_25 : decode cX0_wants 25 = .ok (.astore_n 2, 1) := dk_77 (dk_at dksX0_wants_1 3 rfl rfl)
theorem dX0_wants_26 : decode cX0_wants 26 = .ok (.iconst 0, 1) := dk_3 (dk_at dksX0_wants_1 4 rfl rfl)
theorem dX0_wants_27 : decode cX0_wants 27 = .ok (.istore_n 3, 1) := dk_62 (dk_at dksX0_wants_1 5 rfl rfl)
theorem dX0_wants_28 : decode cX0_wants 28 = .ok (.iconst 0, 1) := dk_3 (dk_at dksX0_wants_1 6 rfl rfl)
theorem dX0_wants_29 : decode cX0_wants 29 = .ok (.istore 4, 2) := dk_54 4 (dk_at dksX0_wants_1 7 rfl rfl)
theorem dX0_wants_31 : decode cX0_wants 31 = .ok (.iload 4, 2) := dk_21 4 (dk_at dksX0_wants_1 9 rfl rfl)
theorem dX0_wants_33 : decode cX0_wants 33 = .ok (.aload_n 0, 1) := dk_42 (dk_at dksX0_wants_1 11 rfl rfl)
theorem dX0_wants_34 : decode cX0_wants 34 = .ok (.getfield 18, 3) := dk_180 0 18 (dk_at dksX0_wants_1 12 rfl rfl)
theorem dX0_wants_37 : decode cX0_wants 37 = .ok (.invokevirtual 106, 3) := dk_182 0 106 (dk_at dksX0_wants_1 15 rfl rfl)
theorem dX0_wants_40 : decode cX0_wants 40 = .ok (.if_icmp .ge 39, 3) := dk_162 0 39 (dk_at dksX0_wants_1 18 rfl rfl)
theorem dX0_wants_43 : decode cX0_wants 43 = .ok (.iload_n 3, 1) := dk_29 (dk_at dksX0_wants_1 21 rfl rfl)
theorem dX0_wants_44 : decode cX0_wants 44 = .ok (.aload_n 0, 1) := dk_42 (dk_at dksX0_wants_1 22 rfl rfl)
theorem dX0_wants_45 : decode cX0_wants 45 = .ok (.getfield 18, 3) := dk_180 0 18 (dk_at dksX0_wants_2 0 rfl rfl)
theorem dX0_wants_48 : decode cX0_wants 48 = .ok (.iload 4, 2) := dk_21 4 (dk_at dksX0_wants_2 3 rfl rfl)
theorem dX0_wants_50 : decode cX0_wants 50 = .ok (.invokevirtual 161, 3) := dk_182 0 161 (dk_at dksX0_wants_2 5 rfl rfl)
theorem dX0_wants_53 : decode cX0_wants 53 = .ok (.aload_n 0, 1) := dk_42 (dk_at dksX0_wants_2 8 rfl rfl)
theorem dX0_wants_54 : decode cX0_wants 54 = .ok (.getfield 18, 3) := dk_180 0 18 (dk_at dksX0_wants_2 9 rfl rfl)
theorem dX0_wants_57 : decode cX0_wants 57 = .ok (.aload_n 2, 1) := dk_44 (dk_at dksX0_wants_2 12 rfl rfl)
theorem dX0_wants_58 : decode cX0_wants 58 = .ok (.iload 4, 2) := dk_21 4 (dk_at dksX0_wants_2 13 rfl rfl)
theorem dX0_wants_60 : decode cX0_wants 60 = .ok (.invokevirtual 157, 3) := dk_182 0 157 (dk_at dksX0_wants_2 15 rfl rfl)
theorem dX0_wants_63 : decode cX0_wants 63 = .ok (.if_icmp .le 7, 3) := dk_164 0 7 (dk_at dksX0_wants_2 18 rfl rfl)
theorem dX0_wants_66 : decode cX0_wants 66 = .ok (.iconst 1, 1) := dk_4 (dk_at dksX0_wants_2 21 rfl rfl)
theorem dX0_wants_67 : decode cX0_wants 67 = .ok (.goto 4, 3) := dk_167 0 4 (dk_at dksX0_wants_3 0 rfl rfl)
theorem dX0_wants_70 : decode cX0_wants 70 = .ok (.iconst 0, 1) := dk_3 (dk_at dksX0_wants_3 3 rfl rfl)
theorem dX0_wants_71 : decode cX0_wants 71 = .ok (.iadd, 1) := dk_96 (dk_at dksX0_wants_3 4 rfl rfl)
theorem dX0_wants_72 : decode cX0_wants 72 = .ok (.istore_n 3, 1) := dk_62 (dk_at dksX0_wants_3 5 rfl rfl)
theorem dX0_wants_73 : decode cX0_wants 73 = .ok (.iinc 4 1, 3) := dk_132 4 1 (dk_at dksX0_wants_3 6 rfl rfl)
theorem dX0_wants_76 : decode cX0_wants 76 = .ok (.goto (-45), 3) := dk_167 255 211 (dk_at dksX0_wants_3 9 rfl rfl)
theorem dX0_wants_79 : decode cX0_wants 79 = .ok (.iload_n 3, 1) := dk_29 (dk_at dksX0_wants_3 12 rfl rfl)
theorem dX0_wants_80 : decode cX0_wants 80 = .ok (.ireturn, 1) := dk_172 (dk_at dksX0_wants_3 13 rfl rfl)
abbrev cX0_part : ByteArray := prog_1_method_22_code
def yX0_part : MethodName := ⟨RX0, "part", "(I)J"⟩
def dkwX0_part_1 : List UInt8 := [180, 0, 27, 182, 0, 175, 180, 0, 179, 27, 47, 167, 0, 6, 20, 0, 182, 173]
abbrev dktX0_part_1 : List UInt8 := dkwX0_part_1 ++ []
def dkwX0_part_0 : List UInt8 := [42, 182, 0, 171, 153, 0, 34, 27, 133, 9, 42, 182, 0, 164, 4, 100, 133, 184, 0, 5, 153, 0, 18, 42]
abbrev dktX0_part_0 : List UInt8 := dkwX0_part_0 ++ dktX0_part_1
theorem dksX0_part_0 : cX0_part.data.toList.drop 0 = dktX0_part_0 := by decide +kernel
theorem dksX0_part_1 : cX0_part.data.toList.drop 24 = dktX0_part_1 := dk_seg dksX0_part_0 24 rfl rfl
theorem dX0_part_0 : decode cX0_part 0 = .ok (.aload_n 0, 1) := dk_42 (dk_at dksX0_part_0 0 rfl rfl)
theorem dX0_part_1 : decode cX0_part 1 = .ok (.invokevirtual 171, 3) := dk_182 0 171 (dk_at dksX0_part_0 1 rfl rfl)
theorem dX0_part_4 : decode cX0_part 4 = .ok (.ifCond .eq 34, 3) := dk_153 0 34 (dk_at dksX0_part_0 4 rfl rfl)
theorem dX0_part_7 : decode cX0_part 7 = .ok (.iload_n 1, 1) := dk_27 (dk_at dksX0_part_0 7 rfl rfl)
theorem dX0_part_8 : decode cX0_part 8 = .ok (.i2l, 1) := dk_133 (dk_at dksX0_part_0 8 rfl rfl)
theorem dX0_part_9 : decode cX0_part 9 = .ok (.lconst 0, 1) := dk_9 (dk_at dksX0_part_0 9 rfl rfl)
theorem dX0_part_10 : decode cX0_part 10 = .ok (.aload_n 0, 1) := dk_42 (dk_at dksX0_part_0 10 rfl rfl)
theorem dX0_part_11 : decode cX0_part 11 = .ok (.invokevirtual 164, 3) := dk_182 0 164 (dk_at dksX0_part_0 11 rfl rfl)
theorem dX0_part_14 : decode cX0_part 14 = .ok (.iconst 1, 1) := dk_4 (dk_at dksX0_part_0 14 rfl rfl)
theorem dX0_part_15 : decode cX0_part 15 = .ok (.isub, 1) := dk_100 (dk_at dksX0_part_0 15 rfl rfl)
theorem dX0_part_16 : decode cX0_part 16 = .ok (.i2l, 1) := dk_133 (dk_at dksX0_part_0 16 rfl rfl)
theorem dX0_part_17 : decode cX0_part 17 = .ok (.invokestatic 5, 3) := dk_184 0 5 (dk_at dksX0_part_0 17 rfl rfl)
theorem dX0_part_20 : decode cX0_part 20 = .ok (.ifCond .eq 18, 3) := dk_153 0 18 (dk_at dksX0_part_0 20 rfl rfl)
theorem dX0_part_23 : decode cX0_part 23 = .ok (.aload_n 0, 1) := dk_42 (dk_at dksX0_part_0 23 rfl rfl)
theorem dX0_part_24 : decode cX0_part 24 = .ok (.getfield 27, 3) := dk_180 0 27 (dk_at dksX0_part_1 0 rfl rfl)
theorem dX0_part_27 : decode cX0_part 27 = .ok (.invokevirtual 175, 3) := dk_182 0 175 (dk_at dksX0_part_1 3 rfl rfl)
theorem dX0_part_30 : decode cX0_part 30 = .ok (.getfield 179, 3) := dk_180 0 179 (dk_at dksX0_part_1 6 rfl rfl)
theorem dX0_part_33 : decode cX0_part 33 = .ok (.iload_n 1, 1) := dk_27 (dk_at dksX0_part_1 9 rfl rfl)
theorem dX0_part_34 : decode cX0_part 34 = .ok (.laload, 1) := dk_47 (dk_at dksX0_part_1 10 rfl rfl)
theorem dX0_part_35 : decode cX0_part 35 = .ok (.goto 6, 3) := dk_167 0 6 (dk_at dksX0_part_1 11 rfl rfl)
theorem dX0_part_38 : decode cX0_part 38 = .ok (.ldc2_w 182, 3) := dk_20 0 182 (dk_at dksX0_part_1 14 rfl rfl)
theorem dX0_part_41 : decode cX0_part 41 = .ok (.lreturn, 1) := dk_173 (dk_at dksX0_part_1 17 rfl rfl)
abbrev cX0_isRail : ByteArray := prog_1_method_11_code
def yX0_isRail : MethodName := ⟨RX0, "isRail", "()Z"⟩
def dkwX0_isRail_0 : List UInt8 := [42, 180, 0, 18, 180, 0, 103, 158, 0, 7, 4, 167, 0, 4, 3, 172]
abbrev dktX0_isRail_0 : List UInt8 := dkwX0_isRail_0 ++ []
theorem dksX0_isRail_0 : cX0_isRail.data.toList.drop 0 = dktX0_isRail_0 := by decide +kernel
theorem dX0_isRail_0 : decode cX0_isRail 0 = .ok (.aload_n 0, 1) := dk_42 (dk_at dksX0_isRail_0 0 rfl rfl)
theorem dX0_isRail_1 : decode cX0_isRail 1 = .ok (.getfield 18, 3) := dk_180 0 18 (dk_at dksX0_isRail_0 1 rfl rfl)
theorem dX0_isRail_4 : decode cX0_isRail 4 = .ok (.getfield 103, 3) := dk_180 0 103 (dk_at dksX0_isRail_0 4 rfl rfl)
theorem dX0_isRail_7 : decode cX0_isRail 7 = .ok (.ifCond .le 7, 3) := dk_158 0 7 (dk_at dksX0_isRail_0 7 rfl rfl)
theorem dX0_isRail_10 : decode cX0_isRail 10 = .ok (.iconst 1, 1) := dk_4 (dk_at dksX0_isRail_0 10 rfl rfl)
theorem dX0_isRail_11 : decode cX0_isRail 11 = .ok (.goto 4, 3) := dk_167 0 4 (dk_at dksX0_isRail_0 11 rfl rfl)
theorem dX0_isRail_14 : decode cX0_isRail 14 = .ok (.iconst 0, 1) := dk_3 (dk_at dksX0_isRail_0 14 rfl rfl)
theorem dX0_isRail_15 : decode cX0_isRail 15 = .ok (.ireturn, 1) := dk_172 (dk_at dksX0_isRail_0 15 rfl rfl)
abbrev cX0_hundredth : ByteArray := prog_1_method_4_code
def yX0_hundredth : MethodName := ⟨RX0, "hundredth", "(JI)J"⟩
def dkwX0_hundredth_0 : List UInt8 := [30, 28, 133, 105, 20, 0, 3, 109, 173]
abbrev dktX0_hundredth_0 : List UInt8 := dkwX0_hundredth_0 ++ []
theorem dksX0_hundredth_0 : cX0_hundredth.data.toList.drop 0 = dktX0_hundredth_0 := by decide +kernel
theorem dX0_hundredth_0 : decode cX0_hundredth 0 = .ok (.lload_n 0, 1) := dk_30 (dk_at dksX0_hundredth_0 0 rfl rfl)
theorem dX0_hundredth_1 : decode cX0_hundredth 1 = .ok (.iload_n 2, 1) := dk_28 (dk_at dksX0_hundredth_0 1 rfl rfl)
theorem dX0_hundredth_2 : decode cX0_hundredth 2 = .ok (.i2l, 1) := dk_133 (dk_at dksX0_hundredth_0 2 rfl rfl)
theorem dX0_hundredth_3 : decode cX0_hundredth 3 = .ok (.lmul, 1) := dk_105 (dk_at dksX0_hundredth_0 3 rfl rfl)
theorem dX0_hundredth_4 : decode cX0_hundredth 4 = .ok (.ldc2_w 3, 3) := dk_20 0 3 (dk_at dksX0_hundredth_0 4 rfl rfl)
theorem dX0_hundredth_7 : decode cX0_hundredth 7 = .ok (.ldiv, 1) := dk_109 (dk_at dksX0_hundredth_0 7 rfl rfl)
theorem dX0_hundredth_8 : decode cX0_hundredth 8 = .ok (.lreturn, 1) := dk_173 (dk_at dksX0_hundredth_0 8 rfl rfl)
abbrev cX0_many : ByteArray := prog_1_method_23_code
def yX0_many : MethodName := ⟨RX0, "many", "(I)J"⟩
def dkwX0_many_3 : List UInt8 := [167, 0, 4, 9, 97, 65, 132, 4, 1, 167, 255, 218, 32, 173]
abbrev dktX0_many_3 : List UInt8 := dkwX0_many_3 ++ []
def dkwX0_many_2 : List UInt8 := [162, 0, 35, 32, 21, 4, 184, 0, 184, 27, 160, 0, 16, 42, 180, 0, 27, 180, 0, 179, 21, 4, 47]
abbrev dktX0_many_2 : List UInt8 := dkwX0_many_2 ++ dktX0_many_3
def dkwX0_many_1 : List UInt8 := [20, 0, 182, 173, 42, 180, 0, 27, 182, 0, 175, 87, 9, 65, 3, 54, 4, 21, 4, 42, 182, 0, 164]
abbrev dktX0_many_1 : List UInt8 := dkwX0_many_1 ++ dktX0_many_2
def dkwX0_many_0 : List UInt8 := [42, 182, 0, 171, 153, 0, 20, 27, 133, 9, 42, 180, 0, 18, 182, 0, 106, 133, 184, 0, 5, 154, 0, 7]
abbrev dktX0_many_0 : List UInt8 := dkwX0_many_0 ++ dktX0_many_1
theorem dksX0_many_0 : cX0_many.data.toList.drop 0 = dktX0_many_0 := by decide +kernel
theorem dksX0_many_1 : cX0_many.data.toList.drop 24 = dktX0_many_1 := dk_seg dksX0_many_0 24 rfl rfl
theorem dksX0_many_2 : cX0_many.data.toList.drop 47 = dktX0_many_2 := dk_seg dksX0_many_1 23 rfl rfl
theorem dksX0_many_3 : cX0_many.data.toList.drop 70 = dktX0_many_3 := dk_seg dksX0_many_2 23 rfl rfl
theorem dX0_many_0 : decode cX0_many 0 = .ok (.aload_n 0, 1) := dk_42 (dk_at dksX0_many_0 0 rfl rfl)
theorem dX0_many_1 : decode cX0_many 1 = .ok (.invokevirtual 171, 3) := dk_182 0 171 (dk_at dksX0_many_0 1 rfl rfl)
theorem dX0_many_4 : decode cX0_many 4 = .ok (.ifCond .eq 20, 3) := dk_153 0 20 (dk_at dksX0_many_0 4 rfl rfl)
theorem dX0_many_7 : decode cX0_many 7 = .ok (.iload_n 1, 1) := dk_27 (dk_at dksX0_many_0 7 rfl rfl)
theorem dX0_many_8 : decode cX0_many 8 = .ok (.i2l, 1) := dk_133 (dk_at dksX0_many_0 8 rfl rfl)
theorem dX0_many_9 : decode cX0_many 9 = .ok (.lconst 0, 1) := dk_9 (dk_at dksX0_many_0 9 rfl rfl)
theorem dX0_many_10 : decode cX0_many 10 = .ok (.aload_n 0, 1) := dk_42 (dk_at dksX0_many_0 10 rfl rfl)
theorem dX0_many_11 : decode cX0_many 11 = .ok (.getfield 18, 3) := dk_180 0 18 (dk_at dksX0_many_0 11 rfl rfl)
theorem dX0_many_14 : decode cX0_many 14 = .ok (.invokevirtual 106, 3) := dk_182 0 106 (dk_at dksX0_many_0 14 rfl rfl)
theorem dX0_many_17 : decode cX0_many 17 = .ok (.i2l, 1) := dk_133 (dk_at dksX0_many_0 17 rfl rfl)
theorem dX0_many_18 : decode cX0_many 18 = .ok (.invokestatic 5, 3) := dk_184 0 5 (dk_at dksX0_many_0 18 rfl rfl)
theorem dX0_many_21 : decode cX0_many 21 = .ok (.ifCond .ne 7, 3) := dk_154 0 7 (dk_at dksX0_many_0 21 rfl rfl)
theorem dX0_many_24 : decode cX0_many 24 = .ok (.ldc2_w 182, 3) := dk_20 0 182 (dk_at dksX0_many_1 0 rfl rfl)
theorem dX0_many_27 : decode cX0_many 27 = .ok (.lreturn, 1) := dk_173 (dk_at dksX0_many_1 3 rfl rfl)
theorem dX0_many_28 : decode cX0_many 28 = .ok (.aload_n 0, 1) := dk_42 (dk_at dksX0_many_1 4 rfl rfl)
theorem dX0_many_29 : decode cX0_many 29 = .ok (.getfield 27, 3) := dk_180 0 27 (dk_at dksX0_many_1 5 rfl rfl)
theorem dX0_many_32 : decode cX0_many 32 = .ok (.invokevirtual 175, 3) := dk_182 0 175 (dk_at dksX0_many_1 8 rfl rfl)
theorem dX0_many_35 : decode cX0_many 35 = .ok (.pop, 1) := dk_87 (dk_at dksX0_many_1 11 rfl rfl)
theorem dX0_many_36 : decode cX0_many 36 = .ok (.lconst 0, 1) := dk_9 (dk_at dksX0_many_1 12 rfl rfl)
theorem dX0_many_37 : decode cX0_many 37 = .ok (.lstore_n 2, 1) := dk_65 (dk_at dksX0_many_1 13 rfl rfl)
theorem dX0_many_38 : decode cX0_many 38 = .ok (.iconst 0, 1) := dk_3 (dk_at dksX0_many_1 14 rfl rfl)
theorem dX0_many_39 : decode cX0_many 39 = .ok (.istore 4, 2) := dk_54 4 (dk_at dksX0_many_1 15 rfl rfl)
theorem dX0_many_41 : decode cX0_many 41 = .ok (.iload 4, 2) := dk_21 4 (dk_at dksX0_many_1 17 rfl rfl)
theorem dX0_many_43 : decode cX0_many 43 = .ok (.aload_n 0, 1) := dk_42 (dk_at dksX0_many_1 19 rfl rfl)
theorem dX0_many_44 : decode cX0_many 44 = .ok (.invokevirtual 164, 3) := dk_182 0 164 (dk_at dksX0_many_1 20 rfl rfl)
theorem dX0_many_47 : decode cX0_many 47 = .ok (.if_icmp .ge 35, 3) := dk_162 0 35 (dk_at dksX0_many_2 0 rfl rfl)
theorem dX0_many_50 : decode cX0_many 50 = .ok (.lload_n 2, 1) := dk_32 (dk_at dksX0_many_2 3 rfl rfl)
theorem dX0_many_51 : decode cX0_many 51 = .ok (.iload 4, 2) := dk_21 4 (dk_at dksX0_many_2 4 rfl rfl)
theorem dX0_many_53 : decode cX0_many 53 = .ok (.invokestatic 184, 3) := dk_184 0 184 (dk_at dksX0_many_2 6 rfl rfl)
theorem dX0_many_56 : decode cX0_many 56 = .ok (.iload_n 1, 1) := dk_27 (dk_at dksX0_many_2 9 rfl rfl)
theorem dX0_many_57 : decode cX0_many 57 = .ok (.if_icmp .ne 16, 3) := dk_160 0 16 (dk_at dksX0_many_2 10 rfl rfl)
theorem dX0_many_60 : decode cX0_many 60 = .ok (.aload_n 0, 1) := dk_42 (dk_at dksX0_many_2 13 rfl rfl)
theorem dX0_many_61 : decode cX0_many 61 = .ok (.getfield 27, 3) := dk_180 0 27 (dk_at dksX0_many_2 14 rfl rfl)
theorem dX0_many_64 : decode cX0_many 64 = .ok (.getfield 179, 3) := dk_180 0 179 (dk_at dksX0_many_2 17 rfl rfl)
theorem dX0_many_67 : decode cX0_many 67 = .ok (.iload 4, 2) := dk_21 4 (dk_at dksX0_many_2 20 rfl rfl)
theorem dX0_many_69 : decode cX0_many 69 = .ok (.laload, 1) := dk_47 (dk_at dksX0_many_2 22 rfl rfl)
theorem dX0_many_70 : decode cX0_many 70 = .ok (.goto 4, 3) := dk_167 0 4 (dk_at dksX0_many_3 0 rfl rfl)
theorem dX0_many_73 : decode cX0_many 73 = .ok (.lconst 0, 1) := dk_9 (dk_at dksX0_many_3 3 rfl rfl)
theorem dX0_many_74 : decode cX0_many 74 = .ok (.ladd, 1) := dk_97 (dk_at dksX0_many_3 4 rfl rfl)
theorem dX0_many_75 : decode cX0_many 75 = .ok (.lstore_n 2, 1) := dk_65 (dk_at dksX0_many_3 5 rfl rfl)
theorem dX0_many_76 : decode cX0_many 76 = .ok (.iinc 4 1, 3) := dk_132 4 1 (dk_at dksX0_many_3 6 rfl rfl)
theorem dX0_many_79 : decode cX0_many 79 = .ok (.goto (-38), 3) := dk_167 255 218 (dk_at dksX0_many_3 9 rfl rfl)
theorem dX0_many_82 : decode cX0_many 82 = .ok (.lload_n 2, 1) := dk_32 (dk_at dksX0_many_3 12 rfl rfl)
theorem dX0_many_83 : decode cX0_many 83 = .ok (.lreturn, 1) := dk_173 (dk_at dksX0_many_3 13 rfl rfl)
abbrev cX0_risk : ByteArray := prog_1_method_24_code
def yX0_risk : MethodName := ⟨RX0, "risk", "(I)J"⟩
def dkwX0_risk_1 : List UInt8 := [20, 0, 182, 173]
abbrev dktX0_risk_1 : List UInt8 := dkwX0_risk_1 ++ []
def dkwX0_risk_0 : List UInt8 := [42, 27, 182, 0, 127, 153, 0, 17, 42, 180, 0, 27, 182, 0, 175, 27, 182, 0, 189, 167, 0, 6]
abbrev dktX0_risk_0 : List UInt8 := dkwX0_risk_0 ++ dktX0_risk_1
theorem dksX0_risk_0 : cX0_risk.data.toList.drop 0 = dktX0_risk_0 := by decide +kernel
theorem dksX0_risk_1 : cX0_risk.data.toList.drop 22 = dktX0_risk_1 := dk_seg dksX0_risk_0 22 rfl rfl
theorem dX0_risk_0 : decode cX0_risk 0 = .ok (.aload_n 0, 1) := dk_42 (dk_at dksX0_risk_0 0 rfl rfl)
theorem dX0_risk_1 : decode cX0_risk 1 = .ok (.iload_n 1, 1) := dk_27 (dk_at dksX0_risk_0 1 rfl rfl)
theorem dX0_risk_2 : decode cX0_risk 2 = .ok (.invokevirtual 127, 3) := dk_182 0 127 (dk_at dksX0_risk_0 2 rfl rfl)
theorem dX0_risk_5 : decode cX0_risk 5 = .ok (.ifCond .eq 17, 3) := dk_153 0 17 (dk_at dksX0_risk_0 5 rfl rfl)
theorem dX0_risk_8 : decode cX0_risk 8 = .ok (.aload_n 0, 1) := dk_42 (dk_at dksX0_risk_0 8 rfl rfl)
theorem dX0_risk_9 : decode cX0_risk 9 = .ok (.getfield 27, 3) := dk_180 0 27 (dk_at dksX0_risk_0 9 rfl rfl)
theorem dX0_risk_12 : decode cX0_risk 12 = .ok (.invokevirtual 175, 3) := dk_182 0 175 (dk_at dksX0_risk_0 12 rfl rfl)
theorem dX0_risk_15 : decode cX0_risk 15 = .ok (.iload_n 1, 1) := dk_27 (dk_at dksX0_risk_0 15 rfl rfl)
theorem dX0_risk_16 : decode cX0_risk 16 = .ok (.invokevirtual 189, 3) := dk_182 0 189 (dk_at dksX0_risk_0 16 rfl rfl)
theorem dX0_risk_19 : decode cX0_risk 19 = .ok (.goto 6, 3) := dk_167 0 6 (dk_at dksX0_risk_0 19 rfl rfl)
theorem dX0_risk_22 : decode cX0_risk 22 = .ok (.ldc2_w 182, 3) := dk_20 0 182 (dk_at dksX0_risk_1 0 rfl rfl)
theorem dX0_risk_25 : decode cX0_risk 25 = .ok (.lreturn, 1) := dk_173 (dk_at dksX0_risk_1 3 rfl rfl)
abbrev cX0_has : ByteArray := prog_1_method_25_code
def yX0_has : MethodName := ⟨RX0, "has", "(II)J"⟩
def dkwX0_has_1 : List UInt8 := [180, 0, 196, 28, 47, 167, 0, 6, 20, 0, 182, 173]
abbrev dktX0_has_1 : List UInt8 := dkwX0_has_1 ++ []
def dkwX0_has_0 : List UInt8 := [42, 27, 182, 0, 152, 153, 0, 27, 42, 28, 182, 0, 127, 153, 0, 19, 42, 180, 0, 27, 27, 182, 0, 193]
abbrev dktX0_has_0 : List UInt8 := dkwX0_has_0 ++ dktX0_has_1
theorem dksX0_has_0 : cX0_has.data.toList.drop 0 = dktX0_has_0 := by decide +kernel
theorem dksX0_has_1 : cX0_has.data.toList.drop 24 = dktX0_has_1 := dk_seg dksX0_has_0 24 rfl rfl
theorem dX0_has_0 : decode cX0_has 0 = .ok (.aload_n 0, 1) := dk_42 (dk_at dksX0_has_0 0 rfl rfl)
theorem dX0_has_1 : decode cX0_has 1 = .ok (.iload_n 1, 1) := dk_27 (dk_at dksX0_has_0 1 rfl rfl)
theorem dX0_has_2 : decode cX0_has 2 = .ok (.invokevirtual 152, 3) := dk_182 0 152 (dk_at dksX0_has_0 2 rfl rfl)
theorem dX0_has_5 : decode cX0_has 5 = .ok (.ifCond .eq 27, 3) := dk_153 0 27 (dk_at dksX0_has_0 5 rfl rfl)
theorem dX0_has_8 : decode cX0_has 8 = .ok (.aload_n 0, 1) := dk_42 (dk_at dksX0_has_0 8 rfl rfl)
theorem dX0_has_9 : decode cX0_has 9 = .ok (.iload_n 2, 1) := dk_28 (dk_at dksX0_has_0 9 rfl rfl)
theorem dX0_has_10 : decode cX0_has 10 = .ok (.invokevirtual 127, 3) := dk_182 0 127 (dk_at dksX0_has_0 10 rfl rfl)
theorem dX0_has_13 : decode cX0_has 13 = .ok (.ifCond .eq 19, 3) := dk_153 0 19 (dk_at dksX0_has_0 13 rfl rfl)
theorem dX0_has_16 : decode cX0_has 16 = .ok (.aload_n 0, 1) := dk_42 (dk_at dksX0_has_0 16 rfl rfl)
theorem dX0_has_17 : decode cX0_has 17 = .ok (.getfield 27, 3) := dk_180 0 27 (dk_at dksX0_has_0 17 rfl rfl)
theorem dX0_has_20 : decode cX0_has 20 = .ok (.iload_n 1, 1) := dk_27 (dk_at dksX0_has_0 20 rfl rfl)
theorem dX0_has_21 : decode cX0_has 21 = .ok (.invokevirtual 193, 3) := dk_182 0 193 (dk_at dksX0_has_0 21 rfl rfl)
theorem dX0_has_24 : decode cX0_has 24 = .ok (.getfield 196, 3) := dk_180 0 196 (dk_at dksX0_has_1 0 rfl rfl)
theorem dX0_has_27 : decode cX0_has 27 = .ok (.iload_n 2, 1) := dk_28 (dk_at dksX0_has_1 3 rfl rfl)
theorem dX0_has_28 : decode cX0_has 28 = .ok (.laload, 1) := dk_47 (dk_at dksX0_has_1 4 rfl rfl)
theorem dX0_has_29 : decode cX0_has 29 = .ok (.goto 6, 3) := dk_167 0 6 (dk_at dksX0_has_1 5 rfl rfl)
theorem dX0_has_32 : decode cX0_has 32 = .ok (.ldc2_w 182, 3) := dk_20 0 182 (dk_at dksX0_has_1 8 rfl rfl)
theorem dX0_has_35 : decode cX0_has 35 = .ok (.lreturn, 1) := dk_173 (dk_at dksX0_has_1 11 rfl rfl)
abbrev cX0_cost : ByteArray := prog_1_method_29_code
def yX0_cost : MethodName := ⟨RX0, "cost", "(II)J"⟩
def dkwX0_cost_2 : List UInt8 := [182, 0, 175, 27, 182, 0, 209, 167, 0, 8, 42, 27, 182, 0, 217, 173]
abbrev dktX0_cost_2 : List UInt8 := dkwX0_cost_2 ++ []
def dkwX0_cost_1 : List UInt8 := [28, 154, 0, 14, 42, 180, 0, 18, 27, 182, 0, 206, 167, 0, 27, 28, 4, 160, 0, 17, 42, 180, 0, 27]
abbrev dktX0_cost_1 : List UInt8 := dkwX0_cost_1 ++ dktX0_cost_2
def dkwX0_cost_0 : List UInt8 := [42, 27, 182, 0, 127, 153, 0, 15, 28, 133, 9, 20, 0, 215, 184, 0, 5, 154, 0, 7, 20, 0, 182, 173]
abbrev dktX0_cost_0 : List UInt8 := dkwX0_cost_0 ++ dktX0_cost_1
theorem dksX0_cost_0 : cX0_cost.data.toList.drop 0 = dktX0_cost_0 := by decide +kernel
theorem dksX0_cost_1 : cX0_cost.data.toList.drop 24 = dktX0_cost_1 := dk_seg dksX0_cost_0 24 rfl rfl
theorem dksX0_cost_2 : cX0_cost.data.toList.drop 48 = dktX0_cost_2 := dk_seg dksX0_cost_1 24 rfl rfl
theorem dX0_cost_0 : decode cX0_cost 0 = .ok (.aload_n 0, 1) := dk_42 (dk_at dksX0_cost_0 0 rfl rfl)
theorem dX0_cost_1 : decode cX0_cost 1 = .ok (.iload_n 1, 1) := dk_27 (dk_at dksX0_cost_0 1 rfl rfl)
theorem dX0_cost_2 : decode cX0_cost 2 = .ok (.invokevirtual 127, 3) := dk_182 0 127 (dk_at dksX0_cost_0 2 rfl rfl)
theorem dX0_cost_5 : decode cX0_cost 5 = .ok (.ifCond .eq 15, 3) := dk_153 0 15 (dk_at dksX0_cost_0 5 rfl rfl)
theorem dX0_cost_8 : decode cX0_cost 8 = .ok (.iload_n 2, 1) := dk_28 (dk_at dksX0_cost_0 8 rfl rfl)
theorem dX0_cost_9 : decode cX0_cost 9 = .ok (.i2l, 1) := dk_133 (dk_at dksX0_cost_0 9 rfl rfl)
theorem dX0_cost_10 : decode cX0_cost 10 = .ok (.lconst 0, 1) := dk_9 (dk_at dksX0_cost_0 10 rfl rfl)
theorem dX0_cost_11 : decode cX0_cost 11 = .ok (.ldc2_w 215, 3) := dk_20 0 215 (dk_at dksX0_cost_0 11 rfl rfl)
theorem dX0_cost_14 : decode cX0_cost 14 = .ok (.invokestatic 5, 3) := dk_184 0 5 (dk_at dksX0_cost_0 14 rfl rfl)
theorem dX0_cost_17 : decode cX0_cost 17 = .ok (.ifCond .ne 7, 3) := dk_154 0 7 (dk_at dksX0_cost_0 17 rfl rfl)
theorem dX0_cost_20 : decode cX0_cost 20 = .ok (.ldc2_w 182, 3) := dk_20 0 182 (dk_at dksX0_cost_0 20 rfl rfl)
theorem dX0_cost_23 : decode cX0_cost 23 = .ok (.lreturn, 1) := dk_173 (dk_at dksX0_cost_0 23 rfl rfl)
theorem dX0_cost_24 : decode cX0_cost 24 = .ok (.iload_n 2, 1) := dk_28 (dk_at dksX0_cost_1 0 rfl rfl)
theorem dX0_cost_25 : decode cX0_cost 25 = .ok (.ifCond .ne 14, 3) := dk_154 0 14 (dk_at dksX0_cost_1 1 rfl rfl)
theorem dX0_cost_28 : decode cX0_cost 28 = .ok (.aload_n 0, 1) := dk_42 (dk_at dksX0_cost_1 4 rfl rfl)
theorem dX0_cost_29 : decode cX0_cost 29 = .ok (.getfield 18, 3) := dk_180 0 18 (dk_at dksX0_cost_1 5 rfl rfl)
theorem dX0_cost_32 : decode cX0_cost 32 = .ok (.iload_n 1, 1) := dk_27 (dk_at dksX0_cost_1 8 rfl rfl)
theorem dX0_cost_33 : decode cX0_cost 33 = .ok (.invokevirtual 206, 3) := dk_182 0 206 (dk_at dksX0_cost_1 9 rfl rfl)
theorem dX0_cost_36 : decode cX0_cost 36 = .ok (.goto 27, 3) := dk_167 0 27 (dk_at dksX0_cost_1 12 rfl rfl)
theorem dX0_cost_39 : decode cX0_cost 39 = .ok (.iload_n 2, 1) := dk_28 (dk_at dksX0_cost_1 15 rfl rfl)
theorem dX0_cost_40 : decode cX0_cost 40 = .ok (.iconst 1, 1) := dk_4 (dk_at dksX0_cost_1 16 rfl rfl)
theorem dX0_cost_41 : decode cX0_cost 41 = .ok (.if_icmp .ne 17, 3) := dk_160 0 17 (dk_at dksX0_cost_1 17 rfl rfl)
theorem dX0_cost_44 : decode cX0_cost 44 = .ok (.aload_n 0, 1) := dk_42 (dk_at dksX0_cost_1 20 rfl rfl)
theorem dX0_cost_45 : decode cX0_cost 45 = .ok (.getfield 27, 3) := dk_180 0 27 (dk_at dksX0_cost_1 21 rfl rfl)
theorem dX0_cost_48 : decode cX0_cost 48 = .ok (.invokevirtual 175, 3) := dk_182 0 175 (dk_at dksX0_cost_2 0 rfl rfl)
theorem dX0_cost_51 : decode cX0_cost 51 = .ok (.iload_n 1, 1) := dk_27 (dk_at dksX0_cost_2 3 rfl rfl)
theorem dX0_cost_52 : decode cX0_cost 52 = .ok (.invokevirtual 209, 3) := dk_182 0 209 (dk_at dksX0_cost_2 4 rfl rfl)
theorem dX0_cost_55 : decode cX0_cost 55 = .ok (.goto 8, 3) := dk_167 0 8 (dk_at dksX0_cost_2 7 rfl rfl)
theorem dX0_cost_58 : decode cX0_cost 58 = .ok (.aload_n 0, 1) := dk_42 (dk_at dksX0_cost_2 10 rfl rfl)
theorem dX0_cost_59 : decode cX0_cost 59 = .ok (.iload_n 1, 1) := dk_27 (dk_at dksX0_cost_2 11 rfl rfl)
theorem dX0_cost_60 : decode cX0_cost 60 = .ok (.invokevirtual 217, 3) := dk_182 0 217 (dk_at dksX0_cost_2 12 rfl rfl)
theorem dX0_cost_63 : decode cX0_cost 63 = .ok (.lreturn, 1) := dk_173 (dk_at dksX0_cost_2 15 rfl rfl)
abbrev cX0_costOf : ByteArray := prog_1_method_27_code
def yX0_costOf : MethodName := ⟨RX0, "costOf", "(I)J"⟩
def dkwX0_costOf_1 : List UInt8 := [97, 173]
abbrev dktX0_costOf_1 : List UInt8 := dkwX0_costOf_1 ++ []
def dkwX0_costOf_0 : List UInt8 := [42, 180, 0, 18, 27, 182, 0, 206, 42, 180, 0, 27, 182, 0, 175, 27, 182, 0, 209, 97, 42, 182, 0, 212]
abbrev dktX0_costOf_0 : List UInt8 := dkwX0_costOf_0 ++ dktX0_costOf_1
theorem dksX0_costOf_0 : cX0_costOf.data.toList.drop 0 = dktX0_costOf_0 := by decide +kernel
theorem dksX0_costOf_1 : cX0_costOf.data.toList.drop 24 = dktX0_costOf_1 := dk_seg dksX0_costOf_0 24 rfl rfl
theorem dX0_costOf_0 : decode cX0_costOf 0 = .ok (.aload_n 0, 1) := dk_42 (dk_at dksX0_costOf_0 0 rfl rfl)
theorem dX0_costOf_1 : decode cX0_costOf 1 = .ok (.getfield 18, 3) := dk_180 0 18 (dk_at dksX0_costOf_0 1 rfl rfl)
theorem dX0_costOf_4 : decode cX0_costOf 4 = .ok (.iload_n 1, 1) := dk_27 (dk_at dksX0_costOf_0 4 rfl rfl)
theorem dX0_costOf_5 : decode cX0_costOf 5 = .ok (.invokevirtual 206, 3) := dk_182 0 206 (dk_at dksX0_costOf_0 5 rfl rfl)
theorem dX0_costOf_8 : decode cX0_costOf 8 = .ok (.aload_n 0, 1) := dk_42 (dk_at dksX0_costOf_0 8 rfl rfl)
theorem dX0_costOf_9 : decode cX0_costOf 9 = .ok (.getfield 27, 3) := dk_180 0 27 (dk_at dksX0_costOf_0 9 rfl rfl)
theorem dX0_costOf_12 : decode cX0_costOf 12 = .ok (.invokevirtual 175, 3) := dk_182 0 175 (dk_at dksX0_costOf_0 12 rfl rfl)
theorem dX0_costOf_15 : decode cX0_costOf 15 = .ok (.iload_n 1, 1) := dk_27 (dk_at dksX0_costOf_0 15 rfl rfl)
theorem dX0_costOf_16 : decode cX0_costOf 16 = .ok (.invokevirtual 209, 3) := dk_182 0 209 (dk_at dksX0_costOf_0 16 rfl rfl)
theorem dX0_costOf_19 : decode cX0_costOf 19 = .ok (.ladd, 1) := dk_97 (dk_at dksX0_costOf_0 19 rfl rfl)
theorem dX0_costOf_20 : decode cX0_costOf 20 = .ok (.aload_n 0, 1) := dk_42 (dk_at dksX0_costOf_0 20 rfl rfl)
theorem dX0_costOf_21 : decode cX0_costOf 21 = .ok (.invokevirtual 212, 3) := dk_182 0 212 (dk_at dksX0_costOf_0 21 rfl rfl)
theorem dX0_costOf_24 : decode cX0_costOf 24 = .ok (.ladd, 1) := dk_97 (dk_at dksX0_costOf_1 0 rfl rfl)
theorem dX0_costOf_25 : decode cX0_costOf 25 = .ok (.lreturn, 1) := dk_173 (dk_at dksX0_costOf_1 1 rfl rfl)
abbrev cX0_wageOf : ByteArray := prog_1_method_26_code
def yX0_wageOf : MethodName := ⟨RX0, "wageOf", "()J"⟩
def dkwX0_wageOf_1 : List UInt8 := [133, 109, 167, 0, 4, 9, 173]
abbrev dktX0_wageOf_1 : List UInt8 := dkwX0_wageOf_1 ++ []
def dkwX0_wageOf_0 : List UInt8 := [42, 180, 0, 18, 180, 0, 199, 153, 0, 22, 42, 180, 0, 18, 182, 0, 202, 42, 180, 0, 18, 182, 0, 106]
abbrev dktX0_wageOf_0 : List UInt8 := dkwX0_wageOf_0 ++ dktX0_wageOf_1
theorem dksX0_wageOf_0 : cX0_wageOf.data.toList.drop 0 = dktX0_wageOf_0 := by decide +kernel
theorem dksX0_wageOf_1 : cX0_wageOf.data.toList.drop 24 = dktX0_wageOf_1 := dk_seg dksX0_wageOf_0 24 rfl rfl
theorem dX0_wageOf_0 : decode cX0_wageOf 0 = .ok (.aload_n 0, 1) := dk_42 (dk_at dksX0_wageOf_0 0 rfl rfl)
theorem dX0_wageOf_1 : decode cX0_wageOf 1 = .ok (.getfield 18, 3) := dk_180 0 18 (dk_at dksX0_wageOf_0 1 rfl rfl)
theorem dX0_wageOf_4 : decode cX0_wageOf 4 = .ok (.getfield 199, 3) := dk_180 0 199 (dk_at dksX0_wageOf_0 4 rfl rfl)
theorem dX0_wageOf_7 : decode cX0_wageOf 7 = .ok (.ifCond .eq 22, 3) := dk_153 0 22 (dk_at dksX0_wageOf_0 7 rfl rfl)
theorem dX0_wageOf_10 : decode cX0_wageOf 10 = .ok (.aload_n 0, 1) := dk_42 (dk_at dksX0_wageOf_0 10 rfl rfl)
theorem dX0_wageOf_11 : decode cX0_wageOf 11 = .ok (.getfield 18, 3) := dk_180 0 18 (dk_at dksX0_wageOf_0 11 rfl rfl)
theorem dX0_wageOf_14 : decode cX0_wageOf 14 = .ok (.invokevirtual 202, 3) := dk_182 0 202 (dk_at dksX0_wageOf_0 14 rfl rfl)
theorem dX0_wageOf_17 : decode cX0_wageOf 17 = .ok (.aload_n 0, 1) := dk_42 (dk_at dksX0_wageOf_0 17 rfl rfl)
theorem dX0_wageOf_18 : decode cX0_wageOf 18 = .ok (.getfield 18, 3) := dk_180 0 18 (dk_at dksX0_wageOf_0 18 rfl rfl)
theorem dX0_wageOf_21 : decode cX0_wageOf 21 = .ok (.invokevirtual 106, 3) := dk_182 0 106 (dk_at dksX0_wageOf_0 21 rfl rfl)
theorem dX0_wageOf_24 : decode cX0_wageOf 24 = .ok (.i2l, 1) := dk_133 (dk_at dksX0_wageOf_1 0 rfl rfl)
theorem dX0_wageOf_25 : decode cX0_wageOf 25 = .ok (.ldiv, 1) := dk_109 (dk_at dksX0_wageOf_1 1 rfl rfl)
theorem dX0_wageOf_26 : decode cX0_wageOf 26 = .ok (.goto 4, 3) := dk_167 0 4 (dk_at dksX0_wageOf_1 2 rfl rfl)
theorem dX0_wageOf_29 : decode cX0_wageOf 29 = .ok (.lconst 0, 1) := dk_9 (dk_at dksX0_wageOf_1 5 rfl rfl)
theorem dX0_wageOf_30 : decode cX0_wageOf 30 = .ok (.lreturn, 1) := dk_173 (dk_at dksX0_wageOf_1 6 rfl rfl)
abbrev cX0_all : ByteArray := prog_1_method_30_code
def yX0_all : MethodName := ⟨RX0, "all", "(I)J"⟩
def dkwX0_all_1 : List UInt8 := [167, 0, 6, 20, 0, 182, 173]
abbrev dktX0_all_1 : List UInt8 := dkwX0_all_1 ++ []
def dkwX0_all_0 : List UInt8 := [42, 182, 0, 171, 153, 0, 23, 27, 133, 9, 20, 0, 215, 184, 0, 5, 153, 0, 11, 42, 27, 182, 0, 220]
abbrev dktX0_all_0 : List UInt8 := dkwX0_all_0 ++ dktX0_all_1
theorem dksX0_all_0 : cX0_all.data.toList.drop 0 = dktX0_all_0 := by decide +kernel
theorem dksX0_all_1 : cX0_all.data.toList.drop 24 = dktX0_all_1 := dk_seg dksX0_all_0 24 rfl rfl
theorem dX0_all_0 : decode cX0_all 0 = .ok (.aload_n 0, 1) := dk_42 (dk_at dksX0_all_0 0 rfl rfl)
theorem dX0_all_1 : decode cX0_all 1 = .ok (.invokevirtual 171, 3) := dk_182 0 171 (dk_at dksX0_all_0 1 rfl rfl)
theorem dX0_all_4 : decode cX0_all 4 = .ok (.ifCond .eq 23, 3) := dk_153 0 23 (dk_at dksX0_all_0 4 rfl rfl)
theorem dX0_all_7 : decode cX0_all 7 = .ok (.iload_n 1, 1) := dk_27 (dk_at dksX0_all_0 7 rfl rfl)
theorem dX0_all_8 : decode cX0_all 8 = .ok (.i2l, 1) := dk_133 (dk_at dksX0_all_0 8 rfl rfl)
theorem dX0_all_9 : decode cX0_all 9 = .ok (.lconst 0, 1) := dk_9 (dk_at dksX0_all_0 9 rfl rfl)
theorem dX0_all_10 : decode cX0_all 10 = .ok (.ldc2_w 215, 3) := dk_20 0 215 (dk_at dksX0_all_0 10 rfl rfl)
theorem dX0_all_13 : decode cX0_all 13 = .ok (.invokestatic 5, 3) := dk_184 0 5 (dk_at dksX0_all_0 13 rfl rfl)
theorem dX0_all_16 : decode cX0_all 16 = .ok (.ifCond .eq 11, 3) := dk_153 0 11 (dk_at dksX0_all_0 16 rfl rfl)
theorem dX0_all_19 : decode cX0_all 19 = .ok (.aload_n 0, 1) := dk_42 (dk_at dksX0_all_0 19 rfl rfl)
theorem dX0_all_20 : decode cX0_all 20 = .ok (.iload_n 1, 1) := dk_27 (dk_at dksX0_all_0 20 rfl rfl)
theorem dX0_all_21 : decode cX0_all 21 = .ok (.invokevirtual 220, 3) := dk_182 0 220 (dk_at dksX0_all_0 21 rfl rfl)
theorem dX0_all_24 : decode cX0_all 24 = .ok (.goto 6, 3) := dk_167 0 6 (dk_at dksX0_all_1 0 rfl rfl)
theorem dX0_all_27 : decode cX0_all 27 = .ok (.ldc2_w 182, 3) := dk_20 0 182 (dk_at dksX0_all_1 3 rfl rfl)
theorem dX0_all_30 : decode cX0_all 30 = .ok (.lreturn, 1) := dk_173 (dk_at dksX0_all_1 6 rfl rfl)
abbrev cX0_costs : ByteArray := prog_1_method_28_code
def yX0_costs : MethodName := ⟨RX0, "costs", "(I)J"⟩
def dkwX0_costs_3 : List UInt8 := [182, 0, 212, 167, 0, 4, 9, 97, 97, 65, 132, 4, 1, 167, 255, 188, 32, 173]
abbrev dktX0_costs_3 : List UInt8 := dkwX0_costs_3 ++ []
def dkwX0_costs_2 : List UInt8 := [153, 0, 15, 42, 180, 0, 27, 21, 4, 182, 0, 209, 167, 0, 4, 9, 97, 27, 5, 160, 0, 10, 42]
abbrev dktX0_costs_2 : List UInt8 := dkwX0_costs_2 ++ dktX0_costs_3
def dkwX0_costs_1 : List UInt8 := [162, 0, 62, 32, 27, 4, 159, 0, 15, 42, 180, 0, 18, 21, 4, 182, 0, 206, 167, 0, 4, 9, 27]
abbrev dktX0_costs_1 : List UInt8 := dkwX0_costs_1 ++ dktX0_costs_2
def dkwX0_costs_0 : List UInt8 := [9, 65, 42, 180, 0, 27, 182, 0, 175, 87, 3, 54, 4, 21, 4, 42, 180, 0, 18, 182, 0, 106]
abbrev dktX0_costs_0 : List UInt8 := dkwX0_costs_0 ++ dktX0_costs_1
theorem dksX0_costs_0 : cX0_costs.data.toList.drop 0 = dktX0_costs_0 := by decide +kernel
theorem dksX0_costs_1 : cX0_costs.data.toList.drop 22 = dktX0_costs_1 := dk_seg dksX0_costs_0 22 rfl rfl
theorem dksX0_costs_2 : cX0_costs.data.toList.drop 45 = dktX0_costs_2 := dk_seg dksX0_costs_1 23 rfl rfl
theorem dksX0_costs_3 : cX0_costs.data.toList.drop 68 = dktX0_costs_3 := dk_seg dksX0_costs_2 23 rfl rfl
theorem dX0_costs_0 : decode cX0_costs 0 = .ok (.lconst 0, 1) := dk_9 (dk_at dksX0_costs_0 0 rfl rfl)
theorem dX0_costs_1 : decode cX0_costs 1 = .ok (.lstore_n 2, 1) := dk_65 (dk_at dksX0_costs_0 1 rfl rfl)
theorem dX0_costs_2 : decode cX0_costs 2 = .ok (.aload_n 0, 1) := dk_42 (dk_at dksX0_costs_0 2 rfl rfl)
theorem dX0_costs_3 : decode cX0_costs 3 = .ok (.getfield 27, 3) := dk_180 0 27 (dk_at dksX0_costs_0 3 rfl rfl)
theorem dX0_costs_6 : decode cX0_costs 6 = .ok (.invokevirtual 175, 3) := dk_182 0 175 (dk_at dksX0_costs_0 6 rfl rfl)
theorem dX0_costs_9 : decode cX0_costs 9 = .ok (.pop, 1) := dk_87 (dk_at dksX0_costs_0 9 rfl rfl)
theorem dX0_costs_10 : decode cX0_costs 10 = .ok (.iconst 0, 1) := dk_3 (dk_at dksX0_costs_0 10 rfl rfl)
theorem dX0_costs_11 : decode cX0_costs 11 = .ok (.istore 4, 2) := dk_54 4 (dk_at dksX0_costs_0 11 rfl rfl)
theorem dX0_costs_13 : decode cX0_costs 13 = .ok (.iload 4, 2) := dk_21 4 (dk_at dksX0_costs_0 13 rfl rfl)
theorem dX0_costs_15 : decode cX0_costs 15 = .ok (.aload_n 0, 1) := dk_42 (dk_at dksX0_costs_0 15 rfl rfl)
theorem dX0_costs_16 : decode cX0_costs 16 = .ok (.getfield 18, 3) := dk_180 0 18 (dk_at dksX0_costs_0 16 rfl rfl)
theorem dX0_costs_19 : decode cX0_costs 19 = .ok (.invokevirtual 106, 3) := dk_182 0 106 (dk_at dksX0_costs_0 19 rfl rfl)
theorem dX0_costs_22 : decode cX0_costs 22 = .ok (.if_icmp .ge 62, 3) := dk_162 0 62 (dk_at dksX0_costs_1 0 rfl rfl)
theorem dX0_costs_25 : decode cX0_costs 25 = .ok (.lload_n 2, 1) := dk_32 (dk_at dksX0_costs_1 3 rfl rfl)
theorem dX0_costs_26 : decode cX0_costs 26 = .ok (.iload_n 1, 1) := dk_27 (dk_at dksX0_costs_1 4 rfl rfl)
theorem dX0_costs_27 : decode cX0_costs 27 = .ok (.iconst 1, 1) := dk_4 (dk_at dksX0_costs_1 5 rfl rfl)
theorem dX0_costs_28 : decode cX0_costs 28 = .ok (.if_icmp .eq 15, 3) := dk_159 0 15 (dk_at dksX0_costs_1 6 rfl rfl)
theorem dX0_costs_31 : decode cX0_costs 31 = .ok (.aload_n 0, 1) := dk_42 (dk_at dksX0_costs_1 9 rfl rfl)
theorem dX0_costs_32 : decode cX0_costs 32 = .ok (.getfield 18, 3) := dk_180 0 18 (dk_at dksX0_costs_1 10 rfl rfl)
theorem dX0_costs_35 : decode cX0_costs 35 = .ok (.iload 4, 2) := dk_21 4 (dk_at dksX0_costs_1 13 rfl rfl)
theorem dX0_costs_37 : decode cX0_costs 37 = .ok (.invokevirtual 206, 3) := dk_182 0 206 (dk_at dksX0_costs_1 15 rfl rfl)
theorem dX0_costs_40 : decode cX0_costs 40 = .ok (.goto 4, 3) := dk_167 0 4 (dk_at dksX0_costs_1 18 rfl rfl)
theorem dX0_costs_43 : decode cX0_costs 43 = .ok (.lconst 0, 1) := dk_9 (dk_at dksX0_costs_1 21 rfl rfl)
theorem dX0_costs_44 : decode cX0_costs 44 = .ok (.iload_n 1, 1) := dk_27 (dk_at dksX0_costs_1 22 rfl rfl)
theorem dX0_costs_45 : decode cX0_costs 45 = .ok (.ifCond .eq 15, 3) := dk_153 0 15 (dk_at dksX0_costs_2 0 rfl rfl)
theorem dX0_costs_48 : decode cX0_costs 48 = .ok (.aload_n 0, 1) := dk_42 (dk_at dksX0_costs_2 3 rfl rfl)
theorem dX0_costs_49 : decode cX0_costs 49 = .ok (.getfield 27, 3) := dk_180 0 27 (dk_at dksX0_costs_2 4 rfl rfl)
theorem dX0_costs_52 : decode cX0_costs 52 = .ok (.iload 4, 2) := dk_21 4 (dk_at dksX0_costs_2 7 rfl rfl)
theorem dX0_costs_54 : decode cX0_costs 54 = .ok (.invokevirtual 209, 3) := dk_182 0 209 (dk_at dksX0_costs_2 9 rfl rfl)
theorem dX0_costs_57 : decode cX0_costs 57 = .ok (.goto 4, 3) := dk_167 0 4 (dk_at dksX0_costs_2 12 rfl rfl)
theorem dX0_costs_60 : decode cX0_costs 60 = .ok (.lconst 0, 1) := dk_9 (dk_at dksX0_costs_2 15 rfl rfl)
theorem dX0_costs_61 : decode cX0_costs 61 = .ok (.ladd, 1) := dk_97 (dk_at dksX0_costs_2 16 rfl rfl)
theorem dX0_costs_62 : decode cX0_costs 62 = .ok (.iload_n 1, 1) := dk_27 (dk_at dksX0_costs_2 17 rfl rfl)
theorem dX0_costs_63 : decode cX0_costs 63 = .ok (.iconst 2, 1) := dk_5 (dk_at dksX0_costs_2 18 rfl rfl)
theorem dX0_costs_64 : decode cX0_costs 64 = .ok (.if_icmp .ne 10, 3) := dk_160 0 10 (dk_at dksX0_costs_2 19 rfl rfl)
theorem dX0_costs_67 : decode cX0_costs 67 = .ok (.aload_n 0, 1) := dk_42 (dk_at dksX0_costs_2 22 rfl rfl)
theorem dX0_costs_68 : decode cX0_costs 68 = .ok (.invokevirtual 212, 3) := dk_182 0 212 (dk_at dksX0_costs_3 0 rfl rfl)
theorem dX0_costs_71 : decode cX0_costs 71 = .ok (.goto 4, 3) := dk_167 0 4 (dk_at dksX0_costs_3 3 rfl rfl)
theorem dX0_costs_74 : decode cX0_costs 74 = .ok (.lconst 0, 1) := dk_9 (dk_at dksX0_costs_3 6 rfl rfl)
theorem dX0_costs_75 : decode cX0_costs 75 = .ok (.ladd, 1) := dk_97 (dk_at dksX0_costs_3 7 rfl rfl)
theorem dX0_costs_76 : decode cX0_costs 76 = .ok (.ladd, 1) := dk_97 (dk_at dksX0_costs_3 8 rfl rfl)
theorem dX0_costs_77 : decode cX0_costs 77 = .ok (.lstore_n 2, 1) := dk_65 (dk_at dksX0_costs_3 9 rfl rfl)
theorem dX0_costs_78 : decode cX0_costs 78 = .ok (.iinc 4 1, 3) := dk_132 4 1 (dk_at dksX0_costs_3 10 rfl rfl)
theorem dX0_costs_81 : decode cX0_costs 81 = .ok (.goto (-68), 3) := dk_167 255 188 (dk_at dksX0_costs_3 13 rfl rfl)
theorem dX0_costs_84 : decode cX0_costs 84 = .ok (.lload_n 2, 1) := dk_32 (dk_at dksX0_costs_3 16 rfl rfl)
theorem dX0_costs_85 : decode cX0_costs 85 = .ok (.lreturn, 1) := dk_173 (dk_at dksX0_costs_3 17 rfl rfl)
abbrev cX0_option : ByteArray := prog_1_method_32_code
def yX0_option : MethodName := ⟨RX0, "option", "(II)I"⟩
def dkwX0_option_2 : List UInt8 := [182, 0, 133, 192, 0, 137, 28, 182, 0, 232, 29, 172]
abbrev dktX0_option_2 : List UInt8 := dkwX0_option_2 ++ []
def dkwX0_option_1 : List UInt8 := [180, 0, 130, 27, 182, 0, 133, 192, 0, 137, 182, 0, 229, 62, 42, 180, 0, 18, 180, 0, 130, 27]
abbrev dktX0_option_1 : List UInt8 := dkwX0_option_1 ++ dktX0_option_2
def dkwX0_option_0 : List UInt8 := [42, 27, 182, 0, 127, 153, 0, 11, 42, 28, 182, 0, 226, 154, 0, 6, 16, 254, 172, 42, 180, 0, 18]
abbrev dktX0_option_0 : List UInt8 := dkwX0_option_0 ++ dktX0_option_1
theorem dksX0_option_0 : cX0_option.data.toList.drop 0 = dktX0_option_0 := by decide +kernel
theorem dksX0_option_1 : cX0_option.data.toList.drop 23 = dktX0_option_1 := dk_seg dksX0_option_0 23 rfl rfl
theorem dksX0_option_2 : cX0_option.data.toList.drop 45 = dktX0_option_2 := dk_seg dksX0_option_1 22 rfl rfl
theorem dX0_option_0 : decode cX0_option 0 = .ok (.aload_n 0, 1) := dk_42 (dk_at dksX0_option_0 0 rfl rfl)
theorem dX0_option_1 : decode cX0_option 1 = .ok (.iload_n 1, 1) := dk_27 (dk_at dksX0_option_0 1 rfl rfl)
theorem dX0_option_2 : decode cX0_option 2 = .ok (.invokevirtual 127, 3) := dk_182 0 127 (dk_at dksX0_option_0 2 rfl rfl)
theorem dX0_option_5 : decode cX0_option 5 = .ok (.ifCond .eq 11, 3) := dk_153 0 11 (dk_at dksX0_option_0 5 rfl rfl)
theorem dX0_option_8 : decode cX0_option 8 = .ok (.aload_n 0, 1) := dk_42 (dk_at dksX0_option_0 8 rfl rfl)
theorem dX0_option_9 : decode cX0_option 9 = .ok (.iload_n 2, 1) := dk_28 (dk_at dksX0_option_0 9 rfl rfl)
theorem dX0_option_10 : decode cX0_option 10 = .ok (.invokevirtual 226, 3) := dk_182 0 226 (dk_at dksX0_option_0 10 rfl rfl)
theorem dX0_option_13 : decode cX0_option 13 = .ok (.ifCond .ne 6, 3) := dk_154 0 6 (dk_at dksX0_option_0 13 rfl rfl)
theorem dX0_option_16 : decode cX0_option 16 = .ok (.bipush (-2), 2) := dk_16 254 (dk_at dksX0_option_0 16 rfl rfl)
theorem dX0_option_18 : decode cX0_option 18 = .ok (.ireturn, 1) := dk_172 (dk_at dksX0_option_0 18 rfl rfl)
theorem dX0_option_19 : decode cX0_option 19 = .ok (.aload_n 0, 1) := dk_42 (dk_at dksX0_option_0 19 rfl rfl)
theorem dX0_option_20 : decode cX0_option 20 = .ok (.getfield 18, 3) := dk_180 0 18 (dk_at dksX0_option_0 20 rfl rfl)
theorem dX0_option_23 : decode cX0_option 23 = .ok (.getfield 130, 3) := dk_180 0 130 (dk_at dksX0_option_1 0 rfl rfl)
theorem dX0_option_26 : decode cX0_option 26 = .ok (.iload_n 1, 1) := dk_27 (dk_at dksX0_option_1 3 rfl rfl)
theorem dX0_option_27 : decode cX0_option 27 = .ok (.invokevirtual 133, 3) := dk_182 0 133 (dk_at dksX0_option_1 4 rfl rfl)
theorem dX0_option_30 : decode cX0_option 30 = .ok (.checkcast 137, 3) := dk_192 0 137 (dk_at dksX0_option_1 7 rfl rfl)
theorem dX0_option_33 : decode cX0_option 33 = .ok (.invokevirtual 229, 3) := dk_182 0 229 (dk_at dksX0_option_1 10 rfl rfl)
theorem dX0_option_36 : decode cX0_option 36 = .ok (.istore_n 3, 1) := dk_62 (dk_at dksX0_option_1 13 rfl rfl)
theorem dX0_option_37 : decode cX0_option 37 = .ok (.aload_n 0, 1) := dk_42 (dk_at dksX0_option_1 14 rfl rfl)
theorem dX0_option_38 : decode cX0_option 38 = .ok (.getfield 18, 3) := dk_180 0 18 (dk_at dksX0_option_1 15 rfl rfl)
theorem dX0_option_41 : decode cX0_option 41 = .ok (.getfield 130, 3) := dk_180 0 130 (dk_at dksX0_option_1 18 rfl rfl)
theorem dX0_option_44 : decode cX0_option 44 = .ok (.iload_n 1, 1) := dk_27 (dk_at dksX0_option_1 21 rfl rfl)
theorem dX0_option_45 : decode cX0_option 45 = .ok (.invokevirtual 133, 3) := dk_182 0 133 (dk_at dksX0_option_2 0 rfl rfl)
theorem dX0_option_48 : decode cX0_option 48 = .ok (.checkcast 137, 3) := dk_192 0 137 (dk_at dksX0_option_2 3 rfl rfl)
theorem dX0_option_51 : decode cX0_option 51 = .ok (.iload_n 2, 1) := dk_28 (dk_at dksX0_option_2 6 rfl rfl)
theorem dX0_option_52 : decode cX0_option 52 = .ok (.invokevirtual 232, 3) := dk_182 0 232 (dk_at dksX0_option_2 7 rfl rfl)
theorem dX0_option_55 : decode cX0_option 55 = .ok (.iload_n 3, 1) := dk_29 (dk_at dksX0_option_2 10 rfl rfl)
theorem dX0_option_56 : decode cX0_option 56 = .ok (.ireturn, 1) := dk_172 (dk_at dksX0_option_2 11 rfl rfl)
abbrev cX0_isOption : ByteArray := prog_1_method_31_code
def yX0_isOption : MethodName := ⟨RX0, "isOption", "(I)Z"⟩
def dkwX0_isOption_0 : List UInt8 := [27, 133, 9, 42, 180, 0, 18, 182, 0, 223, 4, 100, 133, 184, 0, 5, 172]
abbrev dktX0_isOption_0 : List UInt8 := dkwX0_isOption_0 ++ []
theorem dksX0_isOption_0 : cX0_isOption.data.toList.drop 0 = dktX0_isOption_0 := by decide +kernel
theorem dX0_isOption_0 : decode cX0_isOption 0 = .ok (.iload_n 1, 1) := dk_27 (dk_at dksX0_isOption_0 0 rfl rfl)
theorem dX0_isOption_1 : decode cX0_isOption 1 = .ok (.i2l, 1) := dk_133 (dk_at dksX0_isOption_0 1 rfl rfl)
theorem dX0_isOption_2 : decode cX0_isOption 2 = .ok (.lconst 0, 1) := dk_9 (dk_at dksX0_isOption_0 2 rfl rfl)
theorem dX0_isOption_3 : decode cX0_isOption 3 = .ok (.aload_n 0, 1) := dk_42 (dk_at dksX0_isOption_0 3 rfl rfl)
theorem dX0_isOption_4 : decode cX0_isOption 4 = .ok (.getfield 18, 3) := dk_180 0 18 (dk_at dksX0_isOption_0 4 rfl rfl)
theorem dX0_isOption_7 : decode cX0_isOption 7 = .ok (.invokevirtual 223, 3) := dk_182 0 223 (dk_at dksX0_isOption_0 7 rfl rfl)
theorem dX0_isOption_10 : decode cX0_isOption 10 = .ok (.iconst 1, 1) := dk_4 (dk_at dksX0_isOption_0 10 rfl rfl)
theorem dX0_isOption_11 : decode cX0_isOption 11 = .ok (.isub, 1) := dk_100 (dk_at dksX0_isOption_0 11 rfl rfl)
theorem dX0_isOption_12 : decode cX0_isOption 12 = .ok (.i2l, 1) := dk_133 (dk_at dksX0_isOption_0 12 rfl rfl)
theorem dX0_isOption_13 : decode cX0_isOption 13 = .ok (.invokestatic 5, 3) := dk_184 0 5 (dk_at dksX0_isOption_0 13 rfl rfl)
theorem dX0_isOption_16 : decode cX0_isOption 16 = .ok (.ireturn, 1) := dk_172 (dk_at dksX0_isOption_0 16 rfl rfl)
abbrev cX0_would : ByteArray := prog_1_method_34_code
def yX0_would : MethodName := ⟨RX0, "would", "(II)J"⟩
def dkwX0_would_1 : List UInt8 := [167, 0, 6, 20, 0, 182, 173]
abbrev dktX0_would_1 : List UInt8 := dkwX0_would_1 ++ []
def dkwX0_would_0 : List UInt8 := [42, 27, 182, 0, 127, 153, 0, 20, 42, 28, 182, 0, 226, 153, 0, 12, 42, 27, 28, 182, 0, 234]
abbrev dktX0_would_0 : List UInt8 := dkwX0_would_0 ++ dktX0_would_1
theorem dksX0_would_0 : cX0_would.data.toList.drop 0 = dktX0_would_0 := by decide +kernel
theorem dksX0_would_1 : cX0_would.data.toList.drop 22 = dktX0_would_1 := dk_seg dksX0_would_0 22 rfl rfl
theorem dX0_would_0 : decode cX0_would 0 = .ok (.aload_n 0, 1) := dk_42 (dk_at dksX0_would_0 0 rfl rfl)
theorem dX0_would_1 : decode cX0_would 1 = .ok (.iload_n 1, 1) := dk_27 (dk_at dksX0_would_0 1 rfl rfl)
theorem dX0_would_2 : decode cX0_would 2 = .ok (.invokevirtual 127, 3) := dk_182 0 127 (dk_at dksX0_would_0 2 rfl rfl)
theorem dX0_would_5 : decode cX0_would 5 = .ok (.ifCond .eq 20, 3) := dk_153 0 20 (dk_at dksX0_would_0 5 rfl rfl)
theorem dX0_would_8 : decode cX0_would 8 = .ok (.aload_n 0, 1) := dk_42 (dk_at dksX0_would_0 8 rfl rfl)
theorem dX0_would_9 : decode cX0_would 9 = .ok (.iload_n 2, 1) := dk_28 (dk_at dksX0_would_0 9 rfl rfl)
theorem dX0_would_10 : decode cX0_would 10 = .ok (.invokevirtual 226, 3) := dk_182 0 226 (dk_at dksX0_would_0 10 rfl rfl)
theorem dX0_would_13 : decode cX0_would 13 = .ok (.ifCond .eq 12, 3) := dk_153 0 12 (dk_at dksX0_would_0 13 rfl rfl)
theorem dX0_would_16 : decode cX0_would 16 = .ok (.aload_n 0, 1) := dk_42 (dk_at dksX0_would_0 16 rfl rfl)
theorem dX0_would_17 : decode cX0_would 17 = .ok (.iload_n 1, 1) := dk_27 (dk_at dksX0_would_0 17 rfl rfl)
theorem dX0_would_18 : decode cX0_would 18 = .ok (.iload_n 2, 1) := dk_28 (dk_at dksX0_would_0 18 rfl rfl)
theorem dX0_would_19 : decode cX0_would 19 = .ok (.invokevirtual 234, 3) := dk_182 0 234 (dk_at dksX0_would_0 19 rfl rfl)
theorem dX0_would_22 : decode cX0_would 22 = .ok (.goto 6, 3) := dk_167 0 6 (dk_at dksX0_would_1 0 rfl rfl)
theorem dX0_would_25 : decode cX0_would 25 = .ok (.ldc2_w 182, 3) := dk_20 0 182 (dk_at dksX0_would_1 3 rfl rfl)
theorem dX0_would_28 : decode cX0_would 28 = .ok (.lreturn, 1) := dk_173 (dk_at dksX0_would_1 6 rfl rfl)
abbrev cX0_wouldOf : ByteArray := prog_1_method_33_code
def yX0_wouldOf : MethodName := ⟨RX0, "wouldOf", "(II)J"⟩
def dkwX0_wouldOf_1 : List UInt8 := [182, 0, 232, 42, 27, 182, 0, 217, 55, 5, 45, 21, 4, 182, 0, 232, 22, 5, 173]
abbrev dktX0_wouldOf_1 : List UInt8 := dkwX0_wouldOf_1 ++ []
def dkwX0_wouldOf_0 : List UInt8 := [42, 180, 0, 18, 180, 0, 130, 27, 182, 0, 133, 192, 0, 137, 78, 45, 182, 0, 229, 54, 4, 45, 28]
abbrev dktX0_wouldOf_0 : List UInt8 := dkwX0_wouldOf_0 ++ dktX0_wouldOf_1
theorem dksX0_wouldOf_0 : cX0_wouldOf.data.toList.drop 0 = dktX0_wouldOf_0 := by decide +kernel
theorem dksX0_wouldOf_1 : cX0_wouldOf.data.toList.drop 23 = dktX0_wouldOf_1 := dk_seg dksX0_wouldOf_0 23 rfl rfl
theorem dX0_wouldOf_0 : decode cX0_wouldOf 0 = .ok (.aload_n 0, 1) := dk_42 (dk_at dksX0_wouldOf_0 0 rfl rfl)
theorem dX0_wouldOf_1 : decode cX0_wouldOf 1 = .ok (.getfield 18, 3) := dk_180 0 18 (dk_at dksX0_wouldOf_0 1 rfl rfl)
theorem dX0_wouldOf_4 : decode cX0_wouldOf 4 = .ok (.getfield 130, 3) := dk_180 0 130 (dk_at dksX0_wouldOf_0 4 rfl rfl)
theorem dX0_wouldOf_7 : decode cX0_wouldOf 7 = .ok (.iload_n 1, 1) := dk_27 (dk_at dksX0_wouldOf_0 7 rfl rfl)
theorem dX0_wouldOf_8 : decode cX0_wouldOf 8 = .ok (.invokevirtual 133, 3) := dk_182 0 133 (dk_at dksX0_wouldOf_0 8 rfl rfl)
theorem dX0_wouldOf_11 : decode cX0_wouldOf 11 = .ok (.checkcast 137, 3) := dk_192 0 137 (dk_at dksX0_wouldOf_0 11 rfl rfl)
theorem dX0_wouldOf_14 : decode cX0_wouldOf 14 = .ok (.astore_n 3, 1) := dk_78 (dk_at dksX0_wouldOf_0 14 rfl rfl)
theorem dX0_wouldOf_15 : decode cX0_wouldOf 15 = .ok (.aload_n 3, 1) := dk_45 (dk_at dksX0_wouldOf_0 15 rfl rfl)
theorem dX0_wouldOf_16 : decode cX0_wouldOf 16 = .ok (.invokevirtual 229, 3) := dk_182 0 229 (dk_at dksX0_wouldOf_0 16 rfl rfl)
theorem dX0_wouldOf_19 : decode cX0_wouldOf 19 = .ok (.istore 4, 2) := dk_54 4 (dk_at dksX0_wouldOf_0 19 rfl rfl)
theorem dX0_wouldOf_21 : decode cX0_wouldOf 21 = .ok (.aload_n 3, 1) := dk_45 (dk_at dksX0_wouldOf_0 21 rfl rfl)
theorem dX0_wouldOf_22 : decode cX0_wouldOf 22 = .ok (.iload_n 2, 1) := dk_28 (dk_at dksX0_wouldOf_0 22 rfl rfl)
theorem dX0_wouldOf_23 : decode cX0_wouldOf 23 = .ok (.invokevirtual 232, 3) := dk_182 0 232 (dk_at dksX0_wouldOf_1 0 rfl rfl)
theorem dX0_wouldOf_26 : decode cX0_wouldOf 26 = .ok (.aload_n 0, 1) := dk_42 (dk_at dksX0_wouldOf_1 3 rfl rfl)
theorem dX0_wouldOf_27 : decode cX0_wouldOf 27 = .ok (.iload_n 1, 1) := dk_27 (dk_at dksX0_wouldOf_1 4 rfl rfl)
theorem dX0_wouldOf_28 : decode cX0_wouldOf 28 = .ok (.invokevirtual 217, 3) := dk_182 0 217 (dk_at dksX0_wouldOf_1 5 rfl rfl)
theorem dX0_wouldOf_31 : decode cX0_wouldOf 31 = .ok (.lstore 5, 2) := dk_55 5 (dk_at dksX0_wouldOf_1 8 rfl rfl)
theorem dX0_wouldOf_33 : decode cX0_wouldOf 33 = .ok (.aload_n 3, 1) := dk_45 (dk_at dksX0_wouldOf_1 10 rfl rfl)
theorem dX0_wouldOf_34 : decode cX0_wouldOf 34 = .ok (.iload 4, 2) := dk_21 4 (dk_at dksX0_wouldOf_1 11 rfl rfl)
theorem dX0_wouldOf_36 : decode cX0_wouldOf 36 = .ok (.invokevirtual 232, 3) := dk_182 0 232 (dk_at dksX0_wouldOf_1 13 rfl rfl)
theorem dX0_wouldOf_39 : decode cX0_wouldOf 39 = .ok (.lload 5, 2) := dk_22 5 (dk_at dksX0_wouldOf_1 16 rfl rfl)
theorem dX0_wouldOf_41 : decode cX0_wouldOf 41 = .ok (.lreturn, 1) := dk_173 (dk_at dksX0_wouldOf_1 18 rfl rfl)
abbrev cX0_best : ByteArray := prog_1_method_36_code
def yX0_best : MethodName := ⟨RX0, "best", "(I)I"⟩
def dkwX0_best_0 : List UInt8 := [42, 27, 182, 0, 127, 153, 0, 11, 42, 27, 182, 0, 238, 167, 0, 5, 16, 254, 172]
abbrev dktX0_best_0 : List UInt8 := dkwX0_best_0 ++ []
theorem dksX0_best_0 : cX0_best.data.toList.drop 0 = dktX0_best_0 := by decide +kernel
theorem dX0_best_0 : decode cX0_best 0 = .ok (.aload_n 0, 1) := dk_42 (dk_at dksX0_best_0 0 rfl rfl)
theorem dX0_best_1 : decode cX0_best 1 = .ok (.iload_n 1, 1) := dk_27 (dk_at dksX0_best_0 1 rfl rfl)
theorem dX0_best_2 : decode cX0_best 2 = .ok (.invokevirtual 127, 3) := dk_182 0 127 (dk_at dksX0_best_0 2 rfl rfl)
theorem dX0_best_5 : decode cX0_best 5 = .ok (.ifCond .eq 11, 3) := dk_153 0 11 (dk_at dksX0_best_0 5 rfl rfl)
theorem dX0_best_8 : decode cX0_best 8 = .ok (.aload_n 0, 1) := dk_42 (dk_at dksX0_best_0 8 rfl rfl)
theorem dX0_best_9 : decode cX0_best 9 = .ok (.iload_n 1, 1) := dk_27 (dk_at dksX0_best_0 9 rfl rfl)
theorem dX0_best_10 : decode cX0_best 10 = .ok (.invokevirtual 238, 3) := dk_182 0 238 (dk_at dksX0_best_0 10 rfl rfl)
theorem dX0_best_13 : decode cX0_best 13 = .ok (.goto 5, 3) := dk_167 0 5 (dk_at dksX0_best_0 13 rfl rfl)
theorem dX0_best_16 : decode cX0_best 16 = .ok (.bipush (-2), 2) := dk_16 254 (dk_at dksX0_best_0 16 rfl rfl)
theorem dX0_best_18 : decode cX0_best 18 = .ok (.ireturn, 1) := dk_172 (dk_at dksX0_best_0 18 rfl rfl)
abbrev cX0_bestOf : ByteArray := prog_1_method_35_code
def yX0_bestOf : MethodName := ⟨RX0, "bestOf", "(I)I"⟩
def dkwX0_bestOf_2 : List UInt8 := [66, 132, 5, 1, 167, 255, 216, 28, 172]
abbrev dktX0_bestOf_2 : List UInt8 := dkwX0_bestOf_2 ++ []
def dkwX0_bestOf_1 : List UInt8 := [42, 27, 21, 5, 182, 0, 234, 55, 6, 22, 6, 33, 148, 155, 0, 6, 167, 0, 9, 21, 5, 61, 22, 6]
abbrev dktX0_bestOf_1 : List UInt8 := dkwX0_bestOf_1 ++ dktX0_bestOf_2
def dkwX0_bestOf_0 : List UInt8 := [3, 61, 42, 27, 3, 182, 0, 234, 66, 4, 54, 5, 21, 5, 42, 180, 0, 18, 182, 0, 223, 162, 0, 34]
abbrev dktX0_bestOf_0 : List UInt8 := dkwX0_bestOf_0 ++ dktX0_bestOf_1
theorem dksX0_bestOf_0 : cX0_bestOf.data.toList.drop 0 = dktX0_bestOf_0 := by decide +kernel
theorem dksX0_bestOf_1 : cX0_bestOf.data.toList.drop 24 = dktX0_bestOf_1 := dk_seg dksX0_bestOf_0 24 rfl rfl
theorem dksX0_bestOf_2 : cX0_bestOf.data.toList.drop 48 = dktX0_bestOf_2 := dk_seg dksX0_bestOf_1 24 rfl rfl
theorem dX0_bestOf_0 : decode cX0_bestOf 0 = .ok (.iconst 0, 1) := dk_3 (dk_at dksX0_bestOf_0 0 rfl rfl)
theorem dX0_bestOf_1 : decode cX0_bestOf 1 = .ok (.istore_n 2, 1) := dk_61 (dk_at dksX0_bestOf_0 1 rfl rfl)
theorem dX0_bestOf_2 : decode cX0_bestOf 2 = .ok (.aload_n 0, 1) := dk_42 (dk_at dksX0_bestOf_0 2 rfl rfl)
theorem dX0_bestOf_3 : decode cX0_bestOf 3 = .ok (.iload_n 1, 1) := dk_27 (dk_at dksX0_bestOf_0 3 rfl rfl)
theorem dX0_bestOf_4 : decode cX0_bestOf 4 = .ok (.iconst 0, 1) := dk_3 (dk_at dksX0_bestOf_0 4 rfl rfl)
theorem dX0_bestOf_5 : decode cX0_bestOf 5 = .ok (.invokevirtual 234, 3) := dk_182 0 234 (dk_at dksX0_bestOf_0 5 rfl rfl)
theorem dX0_bestOf_8 : decode cX0_bestOf 8 = .ok (.lstore_n 3, 1) := dk_66 (dk_at dksX0_bestOf_0 8 rfl rfl)
theorem dX0_bestOf_9 : decode cX0_bestOf 9 = .ok (.iconst 1, 1) := dk_4 (dk_at dksX0_bestOf_0 9 rfl rfl)
theorem dX0_bestOf_10 : decode cX0_bestOf 10 = .ok (.istore 5, 2) := dk_54 5 (dk_at dksX0_bestOf_0 10 rfl rfl)
theorem dX0_bestOf_12 : decode cX0_bestOf 12 = .ok (.iload 5, 2) := dk_21 5 (dk_at dksX0_bestOf_0 12 rfl rfl)
theorem dX0_bestOf_14 : decode cX0_bestOf 14 = .ok (.aload_n 0, 1) := dk_42 (dk_at dksX0_bestOf_0 14 rfl rfl)
theorem dX0_bestOf_15 : decode cX0_bestOf 15 = .ok (.getfield 18, 3) := dk_180 0 18 (dk_at dksX0_bestOf_0 15 rfl rfl)
theorem dX0_bestOf_18 : decode cX0_bestOf 18 = .ok (.invokevirtual 223, 3) := dk_182 0 223 (dk_at dksX0_bestOf_0 18 rfl rfl)
theorem dX0_bestOf_21 : decode cX0_bestOf 21 = .ok (.if_icmp .ge 34, 3) := dk_162 0 34 (dk_at dksX0_bestOf_0 21 rfl rfl)
theorem dX0_bestOf_24 : decode cX0_bestOf 24 = .ok (.aload_n 0, 1) := dk_42 (dk_at dksX0_bestOf_1 0 rfl rfl)
theorem dX0_bestOf_25 : decode cX0_bestOf 25 = .ok (.iload_n 1, 1) := dk_27 (dk_at dksX0_bestOf_1 1 rfl rfl)
theorem dX0_bestOf_26 : decode cX0_bestOf 26 = .ok (.iload 5, 2) := dk_21 5 (dk_at dksX0_bestOf_1 2 rfl rfl)
theorem dX0_bestOf_28 : decode cX0_bestOf 28 = .ok (.invokevirtual 234, 3) := dk_182 0 234 (dk_at dksX0_bestOf_1 4 rfl rfl)
theorem dX0_bestOf_31 : decode cX0_bestOf 31 = .ok (.lstore 6, 2) := dk_55 6 (dk_at dksX0_bestOf_1 7 rfl rfl)
theorem dX0_bestOf_33 : decode cX0_bestOf 33 = .ok (.lload 6, 2) := dk_22 6 (dk_at dksX0_bestOf_1 9 rfl rfl)
theorem dX0_bestOf_35 : decode cX0_bestOf 35 = .ok (.lload_n 3, 1) := dk_33 (dk_at dksX0_bestOf_1 11 rfl rfl)
theorem dX0_bestOf_36 : decode cX0_bestOf 36 = .ok (.lcmp, 1) := dk_148 (dk_at dksX0_bestOf_1 12 rfl rfl)
theorem dX0_bestOf_37 : decode cX0_bestOf 37 = .ok (.ifCond .lt 6, 3) := dk_155 0 6 (dk_at dksX0_bestOf_1 13 rfl rfl)
theorem dX0_bestOf_40 : decode cX0_bestOf 40 = .ok (.goto 9, 3) := dk_167 0 9 (dk_at dksX0_bestOf_1 16 rfl rfl)
theorem dX0_bestOf_43 : decode cX0_bestOf 43 = .ok (.iload 5, 2) := dk_21 5 (dk_at dksX0_bestOf_1 19 rfl rfl)
theorem dX0_bestOf_45 : decode cX0_bestOf 45 = .ok (.istore_n 2, 1) := dk_61 (dk_at dksX0_bestOf_1 21 rfl rfl)
theorem dX0_bestOf_46 : decode cX0_bestOf 46 = .ok (.lload 6, 2) := dk_22 6 (dk_at dksX0_bestOf_1 22 rfl rfl)
theorem dX0_bestOf_48 : decode cX0_bestOf 48 = .ok (.lstore_n 3, 1) := dk_66 (dk_at dksX0_bestOf_2 0 rfl rfl)
theorem dX0_bestOf_49 : decode cX0_bestOf 49 = .ok (.iinc 5 1, 3) := dk_132 5 1 (dk_at dksX0_bestOf_2 1 rfl rfl)
theorem dX0_bestOf_52 : decode cX0_bestOf 52 = .ok (.goto (-40), 3) := dk_167 255 216 (dk_at dksX0_bestOf_2 4 rfl rfl)
theorem dX0_bestOf_55 : decode cX0_bestOf 55 = .ok (.iload_n 2, 1) := dk_28 (dk_at dksX0_bestOf_2 7 rfl rfl)
theorem dX0_bestOf_56 : decode cX0_bestOf 56 = .ok (.ireturn, 1) := dk_172 (dk_at dksX0_bestOf_2 8 rfl rfl)
abbrev cX0_restless : ByteArray := prog_1_method_38_code
def yX0_restless : MethodName := ⟨RX0, "restless", "()I"⟩
def dkwX0_restless_2 : List UInt8 := [167, 255, 225, 27, 172]
abbrev dktX0_restless_2 : List UInt8 := dkwX0_restless_2 ++ []
def dkwX0_restless_1 : List UInt8 := [162, 0, 26, 27, 42, 28, 182, 0, 241, 2, 159, 0, 7, 4, 167, 0, 4, 3, 96, 60, 132, 2, 1]
abbrev dktX0_restless_1 : List UInt8 := dkwX0_restless_1 ++ dktX0_restless_2
def dkwX0_restless_0 : List UInt8 := [42, 182, 0, 171, 154, 0, 6, 16, 254, 172, 3, 60, 3, 61, 28, 42, 180, 0, 18, 182, 0, 106]
abbrev dktX0_restless_0 : List UInt8 := dkwX0_restless_0 ++ dktX0_restless_1
theorem dksX0_restless_0 : cX0_restless.data.toList.drop 0 = dktX0_restless_0 := by decide +kernel
theorem dksX0_restless_1 : cX0_restless.data.toList.drop 22 = dktX0_restless_1 := dk_seg dksX0_restless_0 22 rfl rfl
theorem dksX0_restless_2 : cX0_restless.data.toList.drop 45 = dktX0_restless_2 := dk_seg dksX0_restless_1 23 rfl rfl
theorem dX0_restless_0 : decode cX0_restless 0 = .ok (.aload_n 0, 1) := dk_42 (dk_at dksX0_restless_0 0 rfl rfl)
theorem dX0_restless_1 : decode cX0_restless 1 = .ok (.invokevirtual 171, 3) := dk_182 0 171 (dk_at dksX0_restless_0 1 rfl rfl)
theorem dX0_restless_4 : decode cX0_restless 4 = .ok (.ifCond .ne 6, 3) := dk_154 0 6 (dk_at dksX0_restless_0 4 rfl rfl)
theorem dX0_restless_7 : decode cX0_restless 7 = .ok (.bipush (-2), 2) := dk_16 254 (dk_at dksX0_restless_0 7 rfl rfl)
theorem dX0_restless_9 : decode cX0_restless 9 = .ok (.ireturn, 1) := dk_172 (dk_at dksX0_restless_0 9 rfl rfl)
theorem dX0_restless_10 : decode cX0_restless 10 = .ok (.iconst 0, 1) := dk_3 (dk_at dksX0_restless_0 10 rfl rfl)
theorem dX0_restless_11 : decode cX0_restless 11 = .ok (.istore_n 1, 1) := dk_60 (dk_at dksX0_restless_0 11 rfl rfl)
theorem dX0_restless_12 : decode cX0_restless 12 = .ok (.iconst 0, 1) := dk_3 (dk_at dksX0_restless_0 12 rfl rfl)
theorem dX0_restless_13 : decode cX0_restless 13 = .ok (.istore_n 2, 1) := dk_61 (dk_at dksX0_restless_0 13 rfl rfl)
theorem dX0_restless_14 : decode cX0_restless 14 = .ok (.iload_n 2, 1) := dk_28 (dk_at dksX0_restless_0 14 rfl rfl)
theorem dX0_restless_15 : decode cX0_restless 15 = .ok (.aload_n 0, 1) := dk_42 (dk_at dksX0_restless_0 15 rfl rfl)
theorem dX0_restless_16 : decode cX0_restless 16 = .ok (.getfield 18, 3) := dk_180 0 18 (dk_at dksX0_restless_0 16 rfl rfl)
theorem dX0_restless_19 : decode cX0_restless 19 = .ok (.invokevirtual 106, 3) := dk_182 0 106 (dk_at dksX0_restless_0 19 rfl rfl)
theorem dX0_restless_22 : decode cX0_restless 22 = .ok (.if_icmp .ge 26, 3) := dk_162 0 26 (dk_at dksX0_restless_1 0 rfl rfl)
theorem dX0_restless_25 : decode cX0_restless 25 = .ok (.iload_n 1, 1) := dk_27 (dk_at dksX0_restless_1 3 rfl rfl)
theorem dX0_restless_26 : decode cX0_restless 26 = .ok (.aload_n 0, 1) := dk_42 (dk_at dksX0_restless_1 4 rfl rfl)
theorem dX0_restless_27 : decode cX0_restless 27 = .ok (.iload_n 2, 1) := dk_28 (dk_at dksX0_restless_1 5 rfl rfl)
theorem dX0_restless_28 : decode cX0_restless 28 = .ok (.invokevirtual 241, 3) := dk_182 0 241 (dk_at dksX0_restless_1 6 rfl rfl)
theorem dX0_restless_31 : decode cX0_restless 31 = .ok (.iconst (-1), 1) := dk_2 (dk_at dksX0_restless_1 9 rfl rfl)
theorem dX0_restless_32 : decode cX0_restless 32 = .ok (.if_icmp .eq 7, 3) := dk_159 0 7 (dk_at dksX0_restless_1 10 rfl rfl)
theorem dX0_restless_35 : decode cX0_restless 35 = .ok (.iconst 1, 1) := dk_4 (dk_at dksX0_restless_1 13 rfl rfl)
theorem dX0_restless_36 : decode cX0_restless 36 = .ok (.goto 4, 3) := dk_167 0 4 (dk_at dksX0_restless_1 14 rfl rfl)
theorem dX0_restless_39 : decode cX0_restless 39 = .ok (.iconst 0, 1) := dk_3 (dk_at dksX0_restless_1 17 rfl rfl)
theorem dX0_restless_40 : decode cX0_restless 40 = .ok (.iadd, 1) := dk_96 (dk_at dksX0_restless_1 18 rfl rfl)
theorem dX0_restless_41 : decode cX0_restless 41 = .ok (.istore_n 1, 1) := dk_60 (dk_at dksX0_restless_1 19 rfl rfl)
theorem dX0_restless_42 : decode cX0_restless 42 = .ok (.iinc 2 1, 3) := dk_132 2 1 (dk_at dksX0_restless_1 20 rfl rfl)
theorem dX0_restless_45 : decode cX0_restless 45 = .ok (.goto (-31), 3) := dk_167 255 225 (dk_at dksX0_restless_2 0 rfl rfl)
theorem dX0_restless_48 : decode cX0_restless 48 = .ok (.iload_n 1, 1) := dk_27 (dk_at dksX0_restless_2 3 rfl rfl)
theorem dX0_restless_49 : decode cX0_restless 49 = .ok (.ireturn, 1) := dk_172 (dk_at dksX0_restless_2 4 rfl rfl)
abbrev cX0_change : ByteArray := prog_1_method_37_code
def yX0_change : MethodName := ⟨RX0, "change", "(I)I"⟩
def dkwX0_change_1 : List UInt8 := [167, 0, 4, 2, 172]
abbrev dktX0_change_1 : List UInt8 := dkwX0_change_1 ++ []
def dkwX0_change_0 : List UInt8 := [42, 27, 182, 0, 238, 61, 42, 27, 28, 182, 0, 234, 42, 27, 182, 0, 217, 148, 156, 0, 7, 28]
abbrev dktX0_change_0 : List UInt8 := dkwX0_change_0 ++ dktX0_change_1
theorem dksX0_change_0 : cX0_change.data.toList.drop 0 = dktX0_change_0 := by decide +kernel
theorem dksX0_change_1 : cX0_change.data.toList.drop 22 = dktX0_change_1 := dk_seg dksX0_change_0 22 rfl rfl
theorem dX0_change_0 : decode cX0_change 0 = .ok (.aload_n 0, 1) := dk_42 (dk_at dksX0_change_0 0 rfl rfl)
theorem dX0_change_1 : decode cX0_change 1 = .ok (.iload_n 1, 1) := dk_27 (dk_at dksX0_change_0 1 rfl rfl)
theorem dX0_change_2 : decode cX0_change 2 = .ok (.invokevirtual 238, 3) := dk_182 0 238 (dk_at dksX0_change_0 2 rfl rfl)
theorem dX0_change_5 : decode cX0_change 5 = .ok (.istore_n 2, 1) := dk_61 (dk_at dksX0_change_0 5 rfl rfl)
theorem dX0_change_6 : decode cX0_change 6 = .ok (.aload_n 0, 1) := dk_42 (dk_at dksX0_change_0 6 rfl rfl)
theorem dX0_change_7 : decode cX0_change 7 = .ok (.iload_n 1, 1) := dk_27 (dk_at dksX0_change_0 7 rfl rfl)
theorem dX0_change_8 : decode cX0_change 8 = .ok (.iload_n 2, 1) := dk_28 (dk_at dksX0_change_0 8 rfl rfl)
theorem dX0_change_9 : decode cX0_change 9 = .ok (.invokevirtual 234, 3) := dk_182 0 234 (dk_at dksX0_change_0 9 rfl rfl)
theorem dX0_change_12 : decode cX0_change 12 = .ok (.aload_n 0, 1) := dk_42 (dk_at dksX0_change_0 12 rfl rfl)
theorem dX0_change_13 : decode cX0_change 13 = .ok (.iload_n 1, 1) := dk_27 (dk_at dksX0_change_0 13 rfl rfl)
theorem dX0_change_14 : decode cX0_change 14 = .ok (.invokevirtual 217, 3) := dk_182 0 217 (dk_at dksX0_change_0 14 rfl rfl)
theorem dX0_change_17 : decode cX0_change 17 = .ok (.lcmp, 1) := dk_148 (dk_at dksX0_change_0 17 rfl rfl)
theorem dX0_change_18 : decode cX0_change 18 = .ok (.ifCond .ge 7, 3) := dk_156 0 7 (dk_at dksX0_change_0 18 rfl rfl)
theorem dX0_change_21 : decode cX0_change 21 = .ok (.iload_n 2, 1) := dk_28 (dk_at dksX0_change_0 21 rfl rfl)
theorem dX0_change_22 : decode cX0_change 22 = .ok (.goto 4, 3) := dk_167 0 4 (dk_at dksX0_change_1 0 rfl rfl)
theorem dX0_change_25 : decode cX0_change 25 = .ok (.iconst (-1), 1) := dk_2 (dk_at dksX0_change_1 3 rfl rfl)
theorem dX0_change_26 : decode cX0_change 26 = .ok (.ireturn, 1) := dk_172 (dk_at dksX0_change_1 4 rfl rfl)
abbrev cX0_settle : ByteArray := prog_1_method_41_code
def yX0_settle : MethodName := ⟨RX0, "settle", "(I)I"⟩
def dkwX0_settle_1 : List UInt8 := [167, 0, 5, 16, 254, 172]
abbrev dktX0_settle_1 : List UInt8 := dkwX0_settle_1 ++ []
def dkwX0_settle_0 : List UInt8 := [42, 182, 0, 171, 153, 0, 23, 27, 133, 9, 20, 0, 250, 184, 0, 5, 153, 0, 11, 42, 27, 182, 0, 252]
abbrev dktX0_settle_0 : List UInt8 := dkwX0_settle_0 ++ dktX0_settle_1
theorem dksX0_settle_0 : cX0_settle.data.toList.drop 0 = dktX0_settle_0 := by decide +kernel
theorem dksX0_settle_1 : cX0_settle.data.toList.drop 24 = dktX0_settle_1 := dk_seg dksX0_settle_0 24 rfl rfl
theorem dX0_settle_0 : decode cX0_settle 0 = .ok (.aload_n 0, 1) := dk_42 (dk_at dksX0_settle_0 0 rfl rfl)
theorem dX0_settle_1 : decode cX0_settle 1 = .ok (.invokevirtual 171, 3) := dk_182 0 171 (dk_at dksX0_settle_0 1 rfl rfl)
theorem dX0_settle_4 : decode cX0_settle 4 = .ok (.ifCond .eq 23, 3) := dk_153 0 23 (dk_at dksX0_settle_0 4 rfl rfl)
theorem dX0_settle_7 : decode cX0_settle 7 = .ok (.iload_n 1, 1) := dk_27 (dk_at dksX0_settle_0 7 rfl rfl)
theorem dX0_settle_8 : decode cX0_settle 8 = .ok (.i2l, 1) := dk_133 (dk_at dksX0_settle_0 8 rfl rfl)
theorem dX0_settle_9 : decode cX0_settle 9 = .ok (.lconst 0, 1) := dk_9 (dk_at dksX0_settle_0 9 rfl rfl)
theorem dX0_settle_10 : decode cX0_settle 10 = .ok (.ldc2_w 250, 3) := dk_20 0 250 (dk_at dksX0_settle_0 10 rfl rfl)
theorem dX0_settle_13 : decode cX0_settle 13 = .ok (.invokestatic 5, 3) := dk_184 0 5 (dk_at dksX0_settle_0 13 rfl rfl)
theorem dX0_settle_16 : decode cX0_settle 16 = .ok (.ifCond .eq 11, 3) := dk_153 0 11 (dk_at dksX0_settle_0 16 rfl rfl)
theorem dX0_settle_19 : decode cX0_settle 19 = .ok (.aload_n 0, 1) := dk_42 (dk_at dksX0_settle_0 19 rfl rfl)
theorem dX0_settle_20 : decode cX0_settle 20 = .ok (.iload_n 1, 1) := dk_27 (dk_at dksX0_settle_0 20 rfl rfl)
theorem dX0_settle_21 : decode cX0_settle 21 = .ok (.invokevirtual 252, 3) := dk_182 0 252 (dk_at dksX0_settle_0 21 rfl rfl)
theorem dX0_settle_24 : decode cX0_settle 24 = .ok (.goto 5, 3) := dk_167 0 5 (dk_at dksX0_settle_1 0 rfl rfl)
theorem dX0_settle_27 : decode cX0_settle 27 = .ok (.bipush (-2), 2) := dk_16 254 (dk_at dksX0_settle_1 3 rfl rfl)
theorem dX0_settle_29 : decode cX0_settle 29 = .ok (.ireturn, 1) := dk_172 (dk_at dksX0_settle_1 5 rfl rfl)
abbrev cX0_settleBy : ByteArray := prog_1_method_40_code
def yX0_settleBy : MethodName := ⟨RX0, "settleBy", "(I)I"⟩
def dkwX0_settleBy_1 : List UInt8 := [154, 0, 7, 4, 167, 0, 4, 3, 181, 0, 244, 132, 2, 1, 167, 255, 225, 28, 172]
abbrev dktX0_settleBy_1 : List UInt8 := dkwX0_settleBy_1 ++ []
def dkwX0_settleBy_0 : List UInt8 := [3, 61, 42, 3, 181, 0, 244, 28, 27, 162, 0, 32, 42, 180, 0, 244, 154, 0, 25, 42, 42, 182, 0, 247]
abbrev dktX0_settleBy_0 : List UInt8 := dkwX0_settleBy_0 ++ dktX0_settleBy_1
theorem dksX0_settleBy_0 : cX0_settleBy.data.toList.drop 0 = dktX0_settleBy_0 := by decide +kernel
theorem dksX0_settleBy_1 : cX0_settleBy.data.toList.drop 24 = dktX0_settleBy_1 := dk_seg dksX0_settleBy_0 24 rfl rfl
theorem dX0_settleBy_0 : decode cX0_settleBy 0 = .ok (.iconst 0, 1) := dk_3 (dk_at dksX0_settleBy_0 0 rfl rfl)
theorem dX0_settleBy_1 : decode cX0_settleBy 1 = .ok (.istore_n 2, 1) := dk_61 (dk_at dksX0_settleBy_0 1 rfl rfl)
theorem dX0_settleBy_2 : decode cX0_settleBy 2 = .ok (.aload_n 0, 1) := dk_42 (dk_at dksX0_settleBy_0 2 rfl rfl)
theorem dX0_settleBy_3 : decode cX0_settleBy 3 = .ok (.iconst 0, 1) := dk_3 (dk_at dksX0_settleBy_0 3 rfl rfl)
theorem dX0_settleBy_4 : decode cX0_settleBy 4 = .ok (.putfield 244, 3) := dk_181 0 244 (dk_at dksX0_settleBy_0 4 rfl rfl)
theorem dX0_settleBy_7 : decode cX0_settleBy 7 = .ok (.iload_n 2, 1) := dk_28 (dk_at dksX0_settleBy_0 7 rfl rfl)
theorem dX0_settleBy_8 : decode cX0_settleBy 8 = .ok (.iload_n 1, 1) := dk_27 (dk_at dksX0_settleBy_0 8 rfl rfl)
theorem dX0_settleBy_9 : decode cX0_settleBy 9 = .ok (.if_icmp .ge 32, 3) := dk_162 0 32 (dk_at dksX0_settleBy_0 9 rfl rfl)
theorem dX0_settleBy_12 : decode cX0_settleBy 12 = .ok (.aload_n 0, 1) := dk_42 (dk_at dksX0_settleBy_0 12 rfl rfl)
theorem dX0_settleBy_13 : decode cX0_settleBy 13 = .ok (.getfield 244, 3) := dk_180 0 244 (dk_at dksX0_settleBy_0 13 rfl rfl)
theorem dX0_settleBy_16 : decode cX0_settleBy 16 = .ok (.ifCond .ne 25, 3) := dk_154 0 25 (dk_at dksX0_settleBy_0 16 rfl rfl)
theorem dX0_settleBy_19 : decode cX0_settleBy 19 = .ok (.aload_n 0, 1) := dk_42 (dk_at dksX0_settleBy_0 19 rfl rfl)
theorem dX0_settleBy_20 : decode cX0_settleBy 20 = .ok (.aload_n 0, 1) := dk_42 (dk_at dksX0_settleBy_0 20 rfl rfl)
theorem dX0_settleBy_21 : decode cX0_settleBy 21 = .ok (.invokevirtual 247, 3) := dk_182 0 247 (dk_at dksX0_settleBy_0 21 rfl rfl)
theorem dX0_settleBy_24 : decode cX0_settleBy 24 = .ok (.ifCond .ne 7, 3) := dk_154 0 7 (dk_at dksX0_settleBy_1 0 rfl rfl)
theorem dX0_settleBy_27 : decode cX0_settleBy 27 = .ok (.iconst 1, 1) := dk_4 (dk_at dksX0_settleBy_1 3 rfl rfl)
theorem dX0_settleBy_28 : decode cX0_settleBy 28 = .ok (.goto 4, 3) := dk_167 0 4 (dk_at dksX0_settleBy_1 4 rfl rfl)
theorem dX0_settleBy_31 : decode cX0_settleBy 31 = .ok (.iconst 0, 1) := dk_3 (dk_at dksX0_settleBy_1 7 rfl rfl)
theorem dX0_settleBy_32 : decode cX0_settleBy 32 = .ok (.putfield 244, 3) := dk_181 0 244 (dk_at dksX0_settleBy_1 8 rfl rfl)
theorem dX0_settleBy_35 : decode cX0_settleBy 35 = .ok (.iinc 2 1, 3) := dk_132 2 1 (dk_at dksX0_settleBy_1 11 rfl rfl)
theorem dX0_settleBy_38 : decode cX0_settleBy 38 = .ok (.goto (-31), 3) := dk_167 255 225 (dk_at dksX0_settleBy_1 14 rfl rfl)
theorem dX0_settleBy_41 : decode cX0_settleBy 41 = .ok (.iload_n 2, 1) := dk_28 (dk_at dksX0_settleBy_1 17 rfl rfl)
theorem dX0_settleBy_42 : decode cX0_settleBy 42 = .ok (.ireturn, 1) := dk_172 (dk_at dksX0_settleBy_1 18 rfl rfl)
abbrev cX0_round : ByteArray := prog_1_method_39_code
def yX0_round : MethodName := ⟨RX0, "round", "()Z"⟩
def dkwX0_round_2 : List UInt8 := [4, 60, 132, 2, 1, 167, 255, 208, 27, 172]
abbrev dktX0_round_2 : List UInt8 := dkwX0_round_2 ++ []
def dkwX0_round_1 : List UInt8 := [160, 0, 6, 167, 0, 23, 42, 180, 0, 18, 180, 0, 130, 28, 182, 0, 133, 192, 0, 137, 29, 182, 0, 232]
abbrev dktX0_round_1 : List UInt8 := dkwX0_round_1 ++ dktX0_round_2
def dkwX0_round_0 : List UInt8 := [3, 60, 3, 61, 28, 42, 180, 0, 18, 182, 0, 106, 162, 0, 43, 42, 28, 182, 0, 241, 62, 29, 2]
abbrev dktX0_round_0 : List UInt8 := dkwX0_round_0 ++ dktX0_round_1
theorem dksX0_round_0 : cX0_round.data.toList.drop 0 = dktX0_round_0 := by decide +kernel
theorem dksX0_round_1 : cX0_round.data.toList.drop 23 = dktX0_round_1 := dk_seg dksX0_round_0 23 rfl rfl
theorem dksX0_round_2 : cX0_round.data.toList.drop 47 = dktX0_round_2 := dk_seg dksX0_round_1 24 rfl rfl
theorem dX0_round_0 : decode cX0_round 0 = .ok (.iconst 0, 1) := dk_3 (dk_at dksX0_round_0 0 rfl rfl)
theorem dX0_round_1 : decode cX0_round 1 = .ok (.istore_n 1, 1) := dk_60 (dk_at dksX0_round_0 1 rfl rfl)
theorem dX0_round_2 : decode cX0_round 2 = .ok (.iconst 0, 1) := dk_3 (dk_at dksX0_round_0 2 rfl rfl)
theorem dX0_round_3 : decode cX0_round 3 = .ok (.istore_n 2, 1) := dk_61 (dk_at dksX0_round_0 3 rfl rfl)
theorem dX0_round_4 : decode cX0_round 4 = .ok (.iload_n 2, 1) := dk_28 (dk_at dksX0_round_0 4 rfl rfl)
theorem dX0_round_5 : decode cX0_round 5 = .ok (.aload_n 0, 1) := dk_42 (dk_at dksX0_round_0 5 rfl rfl)
theorem dX0_round_6 : decode cX0_round 6 = .ok (.getfield 18, 3) := dk_180 0 18 (dk_at dksX0_round_0 6 rfl rfl)
theorem dX0_round_9 : decode cX0_round 9 = .ok (.invokevirtual 106, 3) := dk_182 0 106 (dk_at dksX0_round_0 9 rfl rfl)
theorem dX0_round_12 : decode cX0_round 12 = .ok (.if_icmp .ge 43, 3) := dk_162 0 43 (dk_at dksX0_round_0 12 rfl rfl)
theorem dX0_round_15 : decode cX0_round 15 = .ok (.aload_n 0, 1) := dk_42 (dk_at dksX0_round_0 15 rfl rfl)
theorem dX0_round_16 : decode cX0_round 16 = .ok (.iload_n 2, 1) := dk_28 (dk_at dksX0_round_0 16 rfl rfl)
theorem dX0_round_17 : decode cX0_round 17 = .ok (.invokevirtual 241, 3) := dk_182 0 241 (dk_at dksX0_round_0 17 rfl rfl)
theorem dX0_round_20 : decode cX0_round 20 = .ok (.istore_n 3, 1) := dk_62 (dk_at dksX0_round_0 20 rfl rfl)
theorem dX0_round_21 : decode cX0_round 21 = .ok (.iload_n 3, 1) := dk_29 (dk_at dksX0_round_0 21 rfl rfl)
theorem dX0_round_22 : decode cX0_round 22 = .ok (.iconst (-1), 1) := dk_2 (dk_at dksX0_round_0 22 rfl rfl)
theorem dX0_round_23 : decode cX0_round 23 = .ok (.if_icmp .ne 6, 3) := dk_160 0 6 (dk_at dksX0_round_1 0 rfl rfl)
theorem dX0_round_26 : decode cX0_round 26 = .ok (.goto 23, 3) := dk_167 0 23 (dk_at dksX0_round_1 3 rfl rfl)
theorem dX0_round_29 : decode cX0_round 29 = .ok (.aload_n 0, 1) := dk_42 (dk_at dksX0_round_1 6 rfl rfl)
theorem dX0_round_30 : decode cX0_round 30 = .ok (.getfield 18, 3) := dk_180 0 18 (dk_at dksX0_round_1 7 rfl rfl)
theorem dX0_round_33 : decode cX0_round 33 = .ok (.getfield 130, 3) := dk_180 0 130 (dk_at dksX0_round_1 10 rfl rfl)
theorem dX0_round_36 : decode cX0_round 36 = .ok (.iload_n 2, 1) := dk_28 (dk_at dksX0_round_1 13 rfl rfl)
theorem dX0_round_37 : decode cX0_round 37 = .ok (.invokevirtual 133, 3) := dk_182 0 133 (dk_at dksX0_round_1 14 rfl rfl)
theorem dX0_round_40 : decode cX0_round 40 = .ok (.checkcast 137, 3) := dk_192 0 137 (dk_at dksX0_round_1 17 rfl rfl)
theorem dX0_round_43 : decode cX0_round 43 = .ok (.iload_n 3, 1) := dk_29 (dk_at dksX0_round_1 20 rfl rfl)
theorem dX0_round_44 : decode cX0_round 44 = .ok (.invokevirtual 232, 3) := dk_182 0 232 (dk_at dksX0_round_1 21 rfl rfl)
theorem dX0_round_47 : decode cX0_round 47 = .ok (.iconst 1, 1) := dk_4 (dk_at dksX0_round_2 0 rfl rfl)
theorem dX0_round_48 : decode cX0_round 48 = .ok (.istore_n 1, 1) := dk_60 (dk_at dksX0_round_2 1 rfl rfl)
theorem dX0_round_49 : decode cX0_round 49 = .ok (.iinc 2 1, 3) := dk_132 2 1 (dk_at dksX0_round_2 2 rfl rfl)
theorem dX0_round_52 : decode cX0_round 52 = .ok (.goto (-48), 3) := dk_167 255 208 (dk_at dksX0_round_2 5 rfl rfl)
theorem dX0_round_55 : decode cX0_round 55 = .ok (.iload_n 1, 1) := dk_27 (dk_at dksX0_round_2 8 rfl rfl)
theorem dX0_round_56 : decode cX0_round 56 = .ok (.ireturn, 1) := dk_172 (dk_at dksX0_round_2 9 rfl rfl)
abbrev cX0_settles : ByteArray := prog_1_method_44_code
def yX0_settles : MethodName := ⟨RX0, "settles", "()I"⟩
def dkwX0_settles_1 : List UInt8 := [182, 1, 2, 42, 180, 0, 244, 153, 0, 7, 27, 167, 0, 4, 2, 172]
abbrev dktX0_settles_1 : List UInt8 := dkwX0_settles_1 ++ []
def dkwX0_settles_0 : List UInt8 := [42, 182, 0, 171, 154, 0, 6, 16, 254, 172, 42, 182, 0, 255, 42, 16, 30, 182, 0, 252, 60, 42]
abbrev dktX0_settles_0 : List UInt8 := dkwX0_settles_0 ++ dktX0_settles_1
theorem dksX0_settles_0 : cX0_settles.data.toList.drop 0 = dktX0_settles_0 := by decide +kernel
theorem dksX0_settles_1 : cX0_settles.data.toList.drop 22 = dktX0_settles_1 := dk_seg dksX0_settles_0 22 rfl rfl
theorem dX0_settles_0 : decode cX0_settles 0 = .ok (.aload_n 0, 1) := dk_42 (dk_at dksX0_settles_0 0 rfl rfl)
theorem dX0_settles_1 : decode cX0_settles 1 = .ok (.invokevirtual 171, 3) := dk_182 0 171 (dk_at dksX0_settles_0 1 rfl rfl)
theorem dX0_settles_4 : decode cX0_settles 4 = .ok (.ifCond .ne 6, 3) := dk_154 0 6 (dk_at dksX0_settles_0 4 rfl rfl)
theorem dX0_settles_7 : decode cX0_settles 7 = .ok (.bipush (-2), 2) := dk_16 254 (dk_at dksX0_settles_0 7 rfl rfl)
theorem dX0_settles_9 : decode cX0_settles 9 = .ok (.ireturn, 1) := dk_172 (dk_at dksX0_settles_0 9 rfl rfl)
theorem dX0_settles_10 : decode cX0_settles 10 = .ok (.aload_n 0, 1) := dk_42 (dk_at dksX0_settles_0 10 rfl rfl)
theorem dX0_settles_11 : decode cX0_settles 11 = .ok (.invokevirtual 255, 3) := dk_182 0 255 (dk_at dksX0_settles_0 11 rfl rfl)
theorem dX0_settles_14 : decode cX0_settles 14 = .ok (.aload_n 0, 1) := dk_42 (dk_at dksX0_settles_0 14 rfl rfl)
theorem dX0_settles_15 : decode cX0_settles 15 = .ok (.bipush 30, 2) := dk_16 30 (dk_at dksX0_settles_0 15 rfl rfl)
theorem dX0_settles_17 : decode cX0_settles 17 = .ok (.invokevirtual 252, 3) := dk_182 0 252 (dk_at dksX0_settles_0 17 rfl rfl)
theorem dX0_settles_20 : decode cX0_settles 20 = .ok (.istore_n 1, 1) := dk_60 (dk_at dksX0_settles_0 20 rfl rfl)
theorem dX0_settles_21 : decode cX0_settles 21 = .ok (.aload_n 0, 1) := dk_42 (dk_at dksX0_settles_0 21 rfl rfl)
theorem dX0_settles_22 : decode cX0_settles 22 = .ok (.invokevirtual 258, 3) := dk_182 1 2 (dk_at dksX0_settles_1 0 rfl rfl)
theorem dX0_settles_25 : decode cX0_settles 25 = .ok (.aload_n 0, 1) := dk_42 (dk_at dksX0_settles_1 3 rfl rfl)
theorem dX0_settles_26 : decode cX0_settles 26 = .ok (.getfield 244, 3) := dk_180 0 244 (dk_at dksX0_settles_1 4 rfl rfl)
theorem dX0_settles_29 : decode cX0_settles 29 = .ok (.ifCond .eq 7, 3) := dk_153 0 7 (dk_at dksX0_settles_1 7 rfl rfl)
theorem dX0_settles_32 : decode cX0_settles 32 = .ok (.iload_n 1, 1) := dk_27 (dk_at dksX0_settles_1 10 rfl rfl)
theorem dX0_settles_33 : decode cX0_settles 33 = .ok (.goto 4, 3) := dk_167 0 4 (dk_at dksX0_settles_1 11 rfl rfl)
theorem dX0_settles_36 : decode cX0_settles 36 = .ok (.iconst (-1), 1) := dk_2 (dk_at dksX0_settles_1 14 rfl rfl)
theorem dX0_settles_37 : decode cX0_settles 37 = .ok (.ireturn, 1) := dk_172 (dk_at dksX0_settles_1 15 rfl rfl)
abbrev cX0_keepsOptions : ByteArray := prog_1_method_42_code
def yX0_keepsOptions : MethodName := ⟨RX0, "keepsOptions", "()V"⟩
def dkwX0_keepsOptions_1 : List UInt8 := [180, 0, 130, 27, 182, 0, 133, 192, 0, 137, 182, 0, 229, 79, 132, 1, 1, 167, 255, 219, 177]
abbrev dktX0_keepsOptions_1 : List UInt8 := dkwX0_keepsOptions_1 ++ []
def dkwX0_keepsOptions_0 : List UInt8 := [3, 60, 27, 42, 180, 0, 18, 182, 0, 106, 162, 0, 32, 42, 180, 0, 39, 27, 42, 180, 0, 18]
abbrev dktX0_keepsOptions_0 : List UInt8 := dkwX0_keepsOptions_0 ++ dktX0_keepsOptions_1
theorem dksX0_keepsOptions_0 : cX0_keepsOptions.data.toList.drop 0 = dktX0_keepsOptions_0 := by decide +kernel
theorem dksX0_keepsOptions_1 : cX0_keepsOptions.data.toList.drop 22 = dktX0_keepsOptions_1 := dk_seg dksX0_keepsOptions_0 22 rfl rfl
theorem dX0_keepsOptions_0 : decode cX0_keepsOptions 0 = .ok (.iconst 0, 1) := dk_3 (dk_at dksX0_keepsOptions_0 0 rfl rfl)
theorem dX0_keepsOptions_1 : decode cX0_keepsOptions 1 = .ok (.istore_n 1, 1) := dk_60 (dk_at dksX0_keepsOptions_0 1 rfl rfl)
theorem dX0_keepsOptions_2 : decode cX0_keepsOptions 2 = .ok (.iload_n 1, 1) := dk_27 (dk_at dksX0_keepsOptions_0 2 rfl rfl)
theorem dX0_keepsOptions_3 : decode cX0_keepsOptions 3 = .ok (.aload_n 0, 1) := dk_42 (dk_at dksX0_keepsOptions_0 3 rfl rfl)
theorem dX0_keepsOptions_4 : decode cX0_keepsOptions 4 = .ok (.getfield 18, 3) := dk_180 0 18 (dk_at dksX0_keepsOptions_0 4 rfl rfl)
theorem dX0_keepsOptions_7 : decode cX0_keepsOptions 7 = .ok (.invokevirtual 106, 3) := dk_182 0 106 (dk_at dksX0_keepsOptions_0 7 rfl rfl)
theorem dX0_keepsOptions_10 : decode cX0_keepsOptions 10 = .ok (.if_icmp .ge 32, 3) := dk_162 0 32 (dk_at dksX0_keepsOptions_0 10 rfl rfl)
theorem dX0_keepsOptions_13 : decode cX0_keepsOptions 13 = .ok (.aload_n 0, 1) := dk_42 (dk_at dksX0_keepsOptions_0 13 rfl rfl)
theorem dX0_keepsOptions_14 : decode cX0_keepsOptions 14 = .ok (.getfield 39, 3) := dk_180 0 39 (dk_at dksX0_keepsOptions_0 14 rfl rfl)
theorem dX0_keepsOptions_17 : decode cX0_keepsOptions 17 = .ok (.iload_n 1, 1) := dk_27 (dk_at dksX0_keepsOptions_0 17 rfl rfl)
theorem dX0_keepsOptions_18 : decode cX0_keepsOptions 18 = .ok (.aload_n 0, 1) := dk_42 (dk_at dksX0_keepsOptions_0 18 rfl rfl)
theorem dX0_keepsOptions_19 : decode cX0_keepsOptions 19 = .ok (.getfield 18, 3) := dk_180 0 18 (dk_at dksX0_keepsOptions_0 19 rfl rfl)
theorem dX0_keepsOptions_22 : decode cX0_keepsOptions 22 = .ok (.getfield 130, 3) := dk_180 0 130 (dk_at dksX0_keepsOptions_1 0 rfl rfl)
theorem dX0_keepsOptions_25 : decode cX0_keepsOptions 25 = .ok (.iload_n 1, 1) := dk_27 (dk_at dksX0_keepsOptions_1 3 rfl rfl)
theorem dX0_keepsOptions_26 : decode cX0_keepsOptions 26 = .ok (.invokevirtual 133, 3) := dk_182 0 133 (dk_at dksX0_keepsOptions_1 4 rfl rfl)
theorem dX0_keepsOptions_29 : decode cX0_keepsOptions 29 = .ok (.checkcast 137, 3) := dk_192 0 137 (dk_at dksX0_keepsOptions_1 7 rfl rfl)
theorem dX0_keepsOptions_32 : decode cX0_keepsOptions 32 = .ok (.invokevirtual 229, 3) := dk_182 0 229 (dk_at dksX0_keepsOptions_1 10 rfl rfl)
theorem dX0_keepsOptions_35 : decode cX0_keepsOptions 35 = .ok (.iastore, 1) := dk_79 (dk_at dksX0_keepsOptions_1 13 rfl rfl)
theorem dX0_keepsOptions_36 : decode cX0_keepsOptions 36 = .ok (.iinc 1 1, 3) := dk_132 1 1 (dk_at dksX0_keepsOptions_1 14 rfl rfl)
theorem dX0_keepsOptions_39 : decode cX0_keepsOptions 39 = .ok (.goto (-37), 3) := dk_167 255 219 (dk_at dksX0_keepsOptions_1 17 rfl rfl)
theorem dX0_keepsOptions_42 : decode cX0_keepsOptions 42 = .ok (.return_, 1) := dk_177 (dk_at dksX0_keepsOptions_1 20 rfl rfl)
abbrev cX0_givesBack : ByteArray := prog_1_method_43_code
def yX0_givesBack : MethodName := ⟨RX0, "givesBack", "()V"⟩
def dkwX0_givesBack_1 : List UInt8 := [192, 0, 137, 42, 180, 0, 39, 27, 46, 182, 0, 232, 132, 1, 1, 167, 255, 219, 177]
abbrev dktX0_givesBack_1 : List UInt8 := dkwX0_givesBack_1 ++ []
def dkwX0_givesBack_0 : List UInt8 := [3, 60, 27, 42, 180, 0, 18, 182, 0, 106, 162, 0, 32, 42, 180, 0, 18, 180, 0, 130, 27, 182, 0, 133]
abbrev dktX0_givesBack_0 : List UInt8 := dkwX0_givesBack_0 ++ dktX0_givesBack_1
theorem dksX0_givesBack_0 : cX0_givesBack.data.toList.drop 0 = dktX0_givesBack_0 := by decide +kernel
theorem dksX0_givesBack_1 : cX0_givesBack.data.toList.drop 24 = dktX0_givesBack_1 := dk_seg dksX0_givesBack_0 24 rfl rfl
theorem dX0_givesBack_0 : decode cX0_givesBack 0 = .ok (.iconst 0, 1) := dk_3 (dk_at dksX0_givesBack_0 0 rfl rfl)
theorem dX0_givesBack_1 : decode cX0_givesBack 1 = .ok (.istore_n 1, 1) := dk_60 (dk_at dksX0_givesBack_0 1 rfl rfl)
theorem dX0_givesBack_2 : decode cX0_givesBack 2 = .ok (.iload_n 1, 1) := dk_27 (dk_at dksX0_givesBack_0 2 rfl rfl)
theorem dX0_givesBack_3 : decode cX0_givesBack 3 = .ok (.aload_n 0, 1) := dk_42 (dk_at dksX0_givesBack_0 3 rfl rfl)
theorem dX0_givesBack_4 : decode cX0_givesBack 4 = .ok (.getfield 18, 3) := dk_180 0 18 (dk_at dksX0_givesBack_0 4 rfl rfl)
theorem dX0_givesBack_7 : decode cX0_givesBack 7 = .ok (.invokevirtual 106, 3) := dk_182 0 106 (dk_at dksX0_givesBack_0 7 rfl rfl)
theorem dX0_givesBack_10 : decode cX0_givesBack 10 = .ok (.if_icmp .ge 32, 3) := dk_162 0 32 (dk_at dksX0_givesBack_0 10 rfl rfl)
theorem dX0_givesBack_13 : decode cX0_givesBack 13 = .ok (.aload_n 0, 1) := dk_42 (dk_at dksX0_givesBack_0 13 rfl rfl)
theorem dX0_givesBack_14 : decode cX0_givesBack 14 = .ok (.getfield 18, 3) := dk_180 0 18 (dk_at dksX0_givesBack_0 14 rfl rfl)
theorem dX0_givesBack_17 : decode cX0_givesBack 17 = .ok (.getfield 130, 3) := dk_180 0 130 (dk_at dksX0_givesBack_0 17 rfl rfl)
theorem dX0_givesBack_20 : decode cX0_givesBack 20 = .ok (.iload_n 1, 1) := dk_27 (dk_at dksX0_givesBack_0 20 rfl rfl)
theorem dX0_givesBack_21 : decode cX0_givesBack 21 = .ok (.invokevirtual 133, 3) := dk_182 0 133 (dk_at dksX0_givesBack_0 21 rfl rfl)
theorem dX0_givesBack_24 : decode cX0_givesBack 24 = .ok (.checkcast 137, 3) := dk_192 0 137 (dk_at dksX0_givesBack_1 0 rfl rfl)
theorem dX0_givesBack_27 : decode cX0_givesBack 27 = .ok (.aload_n 0, 1) := dk_42 (dk_at dksX0_givesBack_1 3 rfl rfl)
theorem dX0_givesBack_28 : decode cX0_givesBack 28 = .ok (.getfield 39, 3) := dk_180 0 39 (dk_at dksX0_givesBack_1 4 rfl rfl)
theorem dX0_givesBack_31 : decode cX0_givesBack 31 = .ok (.iload_n 1, 1) := dk_27 (dk_at dksX0_givesBack_1 7 rfl rfl)
theorem dX0_givesBack_32 : decode cX0_givesBack 32 = .ok (.iaload, 1) := dk_46 (dk_at dksX0_givesBack_1 8 rfl rfl)
theorem dX0_givesBack_33 : decode cX0_givesBack 33 = .ok (.invokevirtual 232, 3) := dk_182 0 232 (dk_at dksX0_givesBack_1 9 rfl rfl)
theorem dX0_givesBack_36 : decode cX0_givesBack 36 = .ok (.iinc 1 1, 3) := dk_132 1 1 (dk_at dksX0_givesBack_1 12 rfl rfl)
theorem dX0_givesBack_39 : decode cX0_givesBack 39 = .ok (.goto (-37), 3) := dk_167 255 219 (dk_at dksX0_givesBack_1 15 rfl rfl)
theorem dX0_givesBack_42 : decode cX0_givesBack 42 = .ok (.return_, 1) := dk_177 (dk_at dksX0_givesBack_1 18 rfl rfl)
abbrev cX0_settled : ByteArray := prog_1_method_45_code
def yX0_settled : MethodName := ⟨RX0, "settled", "()J"⟩
def dkwX0_settled_2 : List UInt8 := [182, 1, 2, 32, 173]
abbrev dktX0_settled_2 : List UInt8 := dkwX0_settled_2 ++ []
def dkwX0_settled_1 : List UInt8 := [180, 0, 244, 153, 0, 15, 27, 158, 0, 11, 42, 5, 182, 0, 220, 167, 0, 6, 20, 1, 5, 65, 42]
abbrev dktX0_settled_1 : List UInt8 := dkwX0_settled_1 ++ dktX0_settled_2
def dkwX0_settled_0 : List UInt8 := [42, 182, 0, 171, 154, 0, 7, 20, 0, 182, 173, 42, 182, 0, 255, 42, 16, 30, 182, 0, 252, 60, 42]
abbrev dktX0_settled_0 : List UInt8 := dkwX0_settled_0 ++ dktX0_settled_1
theorem dksX0_settled_0 : cX0_settled.data.toList.drop 0 = dktX0_settled_0 := by decide +kernel
theorem dksX0_settled_1 : cX0_settled.data.toList.drop 23 = dktX0_settled_1 := dk_seg dksX0_settled_0 23 rfl rfl
theorem dksX0_settled_2 : cX0_settled.data.toList.drop 46 = dktX0_settled_2 := dk_seg dksX0_settled_1 23 rfl rfl
theorem dX0_settled_0 : decode cX0_settled 0 = .ok (.aload_n 0, 1) := dk_42 (dk_at dksX0_settled_0 0 rfl rfl)
theorem dX0_settled_1 : decode cX0_settled 1 = .ok (.invokevirtual 171, 3) := dk_182 0 171 (dk_at dksX0_settled_0 1 rfl rfl)
theorem dX0_settled_4 : decode cX0_settled 4 = .ok (.ifCond .ne 7, 3) := dk_154 0 7 (dk_at dksX0_settled_0 4 rfl rfl)
theorem dX0_settled_7 : decode cX0_settled 7 = .ok (.ldc2_w 182, 3) := dk_20 0 182 (dk_at dksX0_settled_0 7 rfl rfl)
theorem dX0_settled_10 : decode cX0_settled 10 = .ok (.lreturn, 1) := dk_173 (dk_at dksX0_settled_0 10 rfl rfl)
theorem dX0_settled_11 : decode cX0_settled 11 = .ok (.aload_n 0, 1) := dk_42 (dk_at dksX0_settled_0 11 rfl rfl)
theorem dX0_settled_12 : decode cX0_settled 12 = .ok (.invokevirtual 255, 3) := dk_182 0 255 (dk_at dksX0_settled_0 12 rfl rfl)
theorem dX0_settled_15 : decode cX0_settled 15 = .ok (.aload_n 0, 1) := dk_42 (dk_at dksX0_settled_0 15 rfl rfl)
theorem dX0_settled_16 : decode cX0_settled 16 = .ok (.bipush 30, 2) := dk_16 30 (dk_at dksX0_settled_0 16 rfl rfl)
theorem dX0_settled_18 : decode cX0_settled 18 = .ok (.invokevirtual 252, 3) := dk_182 0 252 (dk_at dksX0_settled_0 18 rfl rfl)
theorem dX0_settled_21 : decode cX0_settled 21 = .ok (.istore_n 1, 1) := dk_60 (dk_at dksX0_settled_0 21 rfl rfl)
theorem dX0_settled_22 : decode cX0_settled 22 = .ok (.aload_n 0, 1) := dk_42 (dk_at dksX0_settled_0 22 rfl rfl)
theorem dX0_settled_23 : decode cX0_settled 23 = .ok (.getfield 244, 3) := dk_180 0 244 (dk_at dksX0_settled_1 0 rfl rfl)
theorem dX0_settled_26 : decode cX0_settled 26 = .ok (.ifCond .eq 15, 3) := dk_153 0 15 (dk_at dksX0_settled_1 3 rfl rfl)
theorem dX0_settled_29 : decode cX0_settled 29 = .ok (.iload_n 1, 1) := dk_27 (dk_at dksX0_settled_1 6 rfl rfl)
theorem dX0_settled_30 : decode cX0_settled 30 = .ok (.ifCond .le 11, 3) := dk_158 0 11 (dk_at dksX0_settled_1 7 rfl rfl)
theorem dX0_settled_33 : decode cX0_settled 33 = .ok (.aload_n 0, 1) := dk_42 (dk_at dksX0_settled_1 10 rfl rfl)
theorem dX0_settled_34 : decode cX0_settled 34 = .ok (.iconst 2, 1) := dk_5 (dk_at dksX0_settled_1 11 rfl rfl)
theorem dX0_settled_35 : decode cX0_settled 35 = .ok (.invokevirtual 220, 3) := dk_182 0 220 (dk_at dksX0_settled_1 12 rfl rfl)
theorem dX0_settled_38 : decode cX0_settled 38 = .ok (.goto 6, 3) := dk_167 0 6 (dk_at dksX0_settled_1 15 rfl rfl)
theorem dX0_settled_41 : decode cX0_settled 41 = .ok (.ldc2_w 261, 3) := dk_20 1 5 (dk_at dksX0_settled_1 18 rfl rfl)
theorem dX0_settled_44 : decode cX0_settled 44 = .ok (.lstore_n 2, 1) := dk_65 (dk_at dksX0_settled_1 21 rfl rfl)
theorem dX0_settled_45 : decode cX0_settled 45 = .ok (.aload_n 0, 1) := dk_42 (dk_at dksX0_settled_1 22 rfl rfl)
theorem dX0_settled_46 : decode cX0_settled 46 = .ok (.invokevirtual 258, 3) := dk_182 1 2 (dk_at dksX0_settled_2 0 rfl rfl)
theorem dX0_settled_49 : decode cX0_settled 49 = .ok (.lload_n 2, 1) := dk_32 (dk_at dksX0_settled_2 3 rfl rfl)
theorem dX0_settled_50 : decode cX0_settled 50 = .ok (.lreturn, 1) := dk_173 (dk_at dksX0_settled_2 4 rfl rfl)
abbrev cX0_better : ByteArray := prog_1_method_48_code
def yX0_better : MethodName := ⟨RX0, "better", "(I)I"⟩
def dkwX0_better_1 : List UInt8 := [167, 0, 5, 16, 254, 172]
abbrev dktX0_better_1 : List UInt8 := dkwX0_better_1 ++ []
def dkwX0_better_0 : List UInt8 := [42, 182, 0, 171, 153, 0, 23, 27, 133, 9, 20, 1, 10, 184, 0, 5, 153, 0, 11, 42, 27, 182, 1, 12]
abbrev dktX0_better_0 : List UInt8 := dkwX0_better_0 ++ dktX0_better_1
theorem dksX0_better_0 : cX0_better.data.toList.drop 0 = dktX0_better_0 := by decide +kernel
theorem dksX0_better_1 : cX0_better.data.toList.drop 24 = dktX0_better_1 := dk_seg dksX0_better_0 24 rfl rfl
theorem dX0_better_0 : decode cX0_better 0 = .ok (.aload_n 0, 1) := dk_42 (dk_at dksX0_better_0 0 rfl rfl)
theorem dX0_better_1 : decode cX0_better 1 = .ok (.invokevirtual 171, 3) := dk_182 0 171 (dk_at dksX0_better_0 1 rfl rfl)
theorem dX0_better_4 : decode cX0_better 4 = .ok (.ifCond .eq 23, 3) := dk_153 0 23 (dk_at dksX0_better_0 4 rfl rfl)
theorem dX0_better_7 : decode cX0_better 7 = .ok (.iload_n 1, 1) := dk_27 (dk_at dksX0_better_0 7 rfl rfl)
theorem dX0_better_8 : decode cX0_better 8 = .ok (.i2l, 1) := dk_133 (dk_at dksX0_better_0 8 rfl rfl)
theorem dX0_better_9 : decode cX0_better 9 = .ok (.lconst 0, 1) := dk_9 (dk_at dksX0_better_0 9 rfl rfl)
theorem dX0_better_10 : decode cX0_better 10 = .ok (.ldc2_w 266, 3) := dk_20 1 10 (dk_at dksX0_better_0 10 rfl rfl)
theorem dX0_better_13 : decode cX0_better 13 = .ok (.invokestatic 5, 3) := dk_184 0 5 (dk_at dksX0_better_0 13 rfl rfl)
theorem dX0_better_16 : decode cX0_better 16 = .ok (.ifCond .eq 11, 3) := dk_153 0 11 (dk_at dksX0_better_0 16 rfl rfl)
theorem dX0_better_19 : decode cX0_better 19 = .ok (.aload_n 0, 1) := dk_42 (dk_at dksX0_better_0 19 rfl rfl)
theorem dX0_better_20 : decode cX0_better 20 = .ok (.iload_n 1, 1) := dk_27 (dk_at dksX0_better_0 20 rfl rfl)
theorem dX0_better_21 : decode cX0_better 21 = .ok (.invokevirtual 268, 3) := dk_182 1 12 (dk_at dksX0_better_0 21 rfl rfl)
theorem dX0_better_24 : decode cX0_better 24 = .ok (.goto 5, 3) := dk_167 0 5 (dk_at dksX0_better_1 0 rfl rfl)
theorem dX0_better_27 : decode cX0_better 27 = .ok (.bipush (-2), 2) := dk_16 254 (dk_at dksX0_better_1 3 rfl rfl)
theorem dX0_better_29 : decode cX0_better 29 = .ok (.ireturn, 1) := dk_172 (dk_at dksX0_better_1 5 rfl rfl)
abbrev cX0_betterBy : ByteArray := prog_1_method_47_code
def yX0_betterBy : MethodName := ⟨RX0, "betterBy", "(I)I"⟩
def dkwX0_betterBy_0 : List UInt8 := [3, 61, 28, 27, 162, 0, 16, 42, 182, 1, 7, 153, 0, 9, 132, 2, 1, 167, 255, 241, 28, 172]
abbrev dktX0_betterBy_0 : List UInt8 := dkwX0_betterBy_0 ++ []
theorem dksX0_betterBy_0 : cX0_betterBy.data.toList.drop 0 = dktX0_betterBy_0 := by decide +kernel
theorem dX0_betterBy_0 : decode cX0_betterBy 0 = .ok (.iconst 0, 1) := dk_3 (dk_at dksX0_betterBy_0 0 rfl rfl)
theorem dX0_betterBy_1 : decode cX0_betterBy 1 = .ok (.istore_n 2, 1) := dk_61 (dk_at dksX0_betterBy_0 1 rfl rfl)
theorem dX0_betterBy_2 : decode cX0_betterBy 2 = .ok (.iload_n 2, 1) := dk_28 (dk_at dksX0_betterBy_0 2 rfl rfl)
theorem dX0_betterBy_3 : decode cX0_betterBy 3 = .ok (.iload_n 1, 1) := dk_27 (dk_at dksX0_betterBy_0 3 rfl rfl)
theorem dX0_betterBy_4 : decode cX0_betterBy 4 = .ok (.if_icmp .ge 16, 3) := dk_162 0 16 (dk_at dksX0_betterBy_0 4 rfl rfl)
theorem dX0_betterBy_7 : decode cX0_betterBy 7 = .ok (.aload_n 0, 1) := dk_42 (dk_at dksX0_betterBy_0 7 rfl rfl)
theorem dX0_betterBy_8 : decode cX0_betterBy 8 = .ok (.invokevirtual 263, 3) := dk_182 1 7 (dk_at dksX0_betterBy_0 8 rfl rfl)
theorem dX0_betterBy_11 : decode cX0_betterBy 11 = .ok (.ifCond .eq 9, 3) := dk_153 0 9 (dk_at dksX0_betterBy_0 11 rfl rfl)
theorem dX0_betterBy_14 : decode cX0_betterBy 14 = .ok (.iinc 2 1, 3) := dk_132 2 1 (dk_at dksX0_betterBy_0 14 rfl rfl)
theorem dX0_betterBy_17 : decode cX0_betterBy 17 = .ok (.goto (-15), 3) := dk_167 255 241 (dk_at dksX0_betterBy_0 17 rfl rfl)
theorem dX0_betterBy_20 : decode cX0_betterBy 20 = .ok (.iload_n 2, 1) := dk_28 (dk_at dksX0_betterBy_0 20 rfl rfl)
theorem dX0_betterBy_21 : decode cX0_betterBy 21 = .ok (.ireturn, 1) := dk_172 (dk_at dksX0_betterBy_0 21 rfl rfl)
abbrev cX0_betters : ByteArray := prog_1_method_46_code
def yX0_betters : MethodName := ⟨RX0, "betters", "()Z"⟩
def dkwX0_betters_6 : List UInt8 := [21, 4, 182, 0, 232, 4, 172]
abbrev dktX0_betters_6 : List UInt8 := dkwX0_betters_6 ++ []
def dkwX0_betters_5 : List UInt8 := [167, 255, 155, 29, 2, 160, 0, 5, 3, 172, 42, 180, 0, 18, 180, 0, 130, 29, 182, 0, 133, 192, 0, 137]
abbrev dktX0_betters_5 : List UInt8 := dkwX0_betters_5 ++ dktX0_betters_6
def dkwX0_betters_4 : List UInt8 := [21, 5, 62, 21, 8, 54, 4, 132, 8, 1, 167, 255, 207, 25, 6, 21, 7, 182, 0, 232, 132, 5, 1]
abbrev dktX0_betters_4 : List UInt8 := dkwX0_betters_4 ++ dktX0_betters_5
def dkwX0_betters_3 : List UInt8 := [182, 0, 232, 42, 5, 182, 0, 220, 55, 9, 22, 9, 31, 148, 155, 0, 6, 167, 0, 13, 22, 9, 64]
abbrev dktX0_betters_3 : List UInt8 := dkwX0_betters_3 ++ dktX0_betters_4
def dkwX0_betters_2 : List UInt8 := [182, 0, 229, 54, 7, 3, 54, 8, 21, 8, 42, 180, 0, 18, 182, 0, 223, 162, 0, 43, 25, 6, 21, 8]
abbrev dktX0_betters_2 : List UInt8 := dkwX0_betters_2 ++ dktX0_betters_3
def dkwX0_betters_1 : List UInt8 := [162, 0, 95, 42, 180, 0, 18, 180, 0, 130, 21, 5, 182, 0, 133, 192, 0, 137, 58, 6, 25, 6]
abbrev dktX0_betters_1 : List UInt8 := dkwX0_betters_1 ++ dktX0_betters_2
def dkwX0_betters_0 : List UInt8 := [42, 5, 182, 0, 220, 64, 2, 62, 3, 54, 4, 3, 54, 5, 21, 5, 42, 180, 0, 18, 182, 0, 106]
abbrev dktX0_betters_0 : List UInt8 := dkwX0_betters_0 ++ dktX0_betters_1
theorem dksX0_betters_0 : cX0_betters.data.toList.drop 0 = dktX0_betters_0 := by decide +kernel
theorem dksX0_betters_1 : cX0_betters.data.toList.drop 23 = dktX0_betters_1 := dk_seg dksX0_betters_0 23 rfl rfl
theorem dksX0_betters_2 : cX0_betters.data.toList.drop 45 = dktX0_betters_2 := dk_seg dksX0_betters_1 22 rfl rfl
theorem dksX0_betters_3 : cX0_betters.data.toList.drop 69 = dktX0_betters_3 := dk_seg dksX0_betters_2 24 rfl rfl
theorem dksX0_betters_4 : cX0_betters.data.toList.drop 92 = dktX0_betters_4 := dk_seg dksX0_betters_3 23 rfl rfl
theorem dksX0_betters_5 : cX0_betters.data.toList.drop 115 = dktX0_betters_5 := dk_seg dksX0_betters_4 23 rfl rfl
theorem dksX0_betters_6 : cX0_betters.data.toList.drop 139 = dktX0_betters_6 := dk_seg dksX0_betters_5 24 rfl rfl
theorem dX0_betters_0 : decode cX0_betters 0 = .ok (.aload_n 0, 1) := dk_42 (dk_at dksX0_betters_0 0 rfl rfl)
theorem dX0_betters_1 : decode cX0_betters 1 = .ok (.iconst 2, 1) := dk_5 (dk_at dksX0_betters_0 1 rfl rfl)
theorem dX0_betters_2 : decode cX0_betters 2 = .ok (.invokevirtual 220, 3) := dk_182 0 220 (dk_at dksX0_betters_0 2 rfl rfl)
theorem dX0_betters_5 : decode cX0_betters 5 = .ok (.lstore_n 1, 1) := dk_64 (dk_at dksX0_betters_0 5 rfl rfl)
theorem dX0_betters_6 : decode cX0_betters 6 = .ok (.iconst (-1), 1) := dk_2 (dk_at dksX0_betters_0 6 rfl rfl)
theorem dX0_betters_7 : decode cX0_betters 7 = .ok (.istore_n 3, 1) := dk_62 (dk_at dksX0_betters_0 7 rfl rfl)
theorem dX0_betters_8 : decode cX0_betters 8 = .ok (.iconst 0, 1) := dk_3 (dk_at dksX0_betters_0 8 rfl rfl)
theorem dX0_betters_9 : decode cX0_betters 9 = .ok (.istore 4, 2) := dk_54 4 (dk_at dksX0_betters_0 9 rfl rfl)
theorem dX0_betters_11 : decode cX0_betters 11 = .ok (.iconst 0, 1) := dk_3 (dk_at dksX0_betters_0 11 rfl rfl)
theorem dX0_betters_12 : decode cX0_betters 12 = .ok (.istore 5, 2) := dk_54 5 (dk_at dksX0_betters_0 12 rfl rfl)
theorem dX0_betters_14 : decode cX0_betters 14 = .ok (.iload 5, 2) := dk_21 5 (dk_at dksX0_betters_0 14 rfl rfl)
theorem dX0_betters_16 : decode cX0_betters 16 = .ok (.aload_n 0, 1) := dk_42 (dk_at dksX0_betters_0 16 rfl rfl)
theorem dX0_betters_17 : decode cX0_betters 17 = .ok (.getfield 18, 3) := dk_180 0 18 (dk_at dksX0_betters_0 17 rfl rfl)
theorem dX0_betters_20 : decode cX0_betters 20 = .ok (.invokevirtual 106, 3) := dk_182 0 106 (dk_at dksX0_betters_0 20 rfl rfl)
theorem dX0_betters_23 : decode cX0_betters 23 = .ok (.if_icmp .ge 95, 3) := dk_162 0 95 (dk_at dksX0_betters_1 0 rfl rfl)
theorem dX0_betters_26 : decode cX0_betters 26 = .ok (.aload_n 0, 1) := dk_42 (dk_at dksX0_betters_1 3 rfl rfl)
theorem dX0_betters_27 : decode cX0_betters 27 = .ok (.getfield 18, 3) := dk_180 0 18 (dk_at dksX0_betters_1 4 rfl rfl)
theorem dX0_betters_30 : decode cX0_betters 30 = .ok (.getfield 130, 3) := dk_180 0 130 (dk_at dksX0_betters_1 7 rfl rfl)
theorem dX0_betters_33 : decode cX0_betters 33 = .ok (.iload 5, 2) := dk_21 5 (dk_at dksX0_betters_1 10 rfl rfl)
theorem dX0_betters_35 : decode cX0_betters 35 = .ok (.invokevirtual 133, 3) := dk_182 0 133 (dk_at dksX0_betters_1 12 rfl rfl)
theorem dX0_betters_38 : decode cX0_betters 38 = .ok (.checkcast 137, 3) := dk_192 0 137 (dk_at dksX0_betters_1 15 rfl rfl)
theorem dX0_betters_41 : decode cX0_betters 41 = .ok (.astore 6, 2) := dk_58 6 (dk_at dksX0_betters_1 18 rfl rfl)
theorem dX0_betters_43 : decode cX0_betters 43 = .ok (.aload 6, 2) := dk_25 6 (dk_at dksX0_betters_1 20 rfl rfl)
theorem dX0_betters_45 : decode cX0_betters 45 = .ok (.invokevirtual 229, 3) := dk_182 0 229 (dk_at dksX0_betters_2 0 rfl rfl)
theorem dX0_betters_48 : decode cX0_betters 48 = .ok (.istore 7, 2) := dk_54 7 (dk_at dksX0_betters_2 3 rfl rfl)
theorem dX0_betters_50 : decode cX0_betters 50 = .ok (.iconst 0, 1) := dk_3 (dk_at dksX0_betters_2 5 rfl rfl)
theorem dX0_betters_51 : decode cX0_betters 51 = .ok (.istore 8, 2) := dk_54 8 (dk_at dksX0_betters_2 6 rfl rfl)
theorem dX0_betters_53 : decode cX0_betters 53 = .ok (.iload 8, 2) := dk_21 8 (dk_at dksX0_betters_2 8 rfl rfl)
theorem dX0_betters_55 : decode cX0_betters 55 = .ok (.aload_n 0, 1) := dk_42 (dk_at dksX0_betters_2 10 rfl rfl)
theorem dX0_betters_56 : decode cX0_betters 56 = .ok (.getfield 18, 3) := dk_180 0 18 (dk_at dksX0_betters_2 11 rfl rfl)
theorem dX0_betters_59 : decode cX0_betters 59 = .ok (.invokevirtual 223, 3) := dk_182 0 223 (dk_at dksX0_betters_2 14 rfl rfl)
theorem dX0_betters_62 : decode cX0_betters 62 = .ok (.if_icmp .ge 43, 3) := dk_162 0 43 (dk_at dksX0_betters_2 17 rfl rfl)
theorem dX0_betters_65 : decode cX0_betters 65 = .ok (.aload 6, 2) := dk_25 6 (dk_at dksX0_betters_2 20 rfl rfl)
theorem dX0_betters_67 : decode cX0_betters 67 = .ok (.iload 8, 2) := dk_21 8 (dk_at dksX0_betters_2 22 rfl rfl)
theorem dX0_betters_69 : decode cX0_betters 69 = .ok (.invokevirtual 232, 3) := dk_182 0 232 (dk_at dksX0_betters_3 0 rfl rfl)
theorem dX0_betters_72 : decode cX0_betters 72 = .ok (.aload_n 0, 1) := dk_42 (dk_at dksX0_betters_3 3 rfl rfl)
theorem dX0_betters_73 : decode cX0_betters 73 = .ok (.iconst 2, 1) := dk_5 (dk_at dksX0_betters_3 4 rfl rfl)
theorem dX0_betters_74 : decode cX0_betters 74 = .ok (.invokevirtual 220, 3) := dk_182 0 220 (dk_at dksX0_betters_3 5 rfl rfl)
theorem dX0_betters_77 : decode cX0_betters 77 = .ok (.lstore 9, 2) := dk_55 9 (dk_at dksX0_betters_3 8 rfl rfl)
theorem dX0_betters_79 : decode cX0_betters 79 = .ok (.lload 9, 2) := dk_22 9 (dk_at dksX0_betters_3 10 rfl rfl)
theorem dX0_betters_81 : decode cX0_betters 81 = .ok (.lload_n 1, 1) := dk_31 (dk_at dksX0_betters_3 12 rfl rfl)
theorem dX0_betters_82 : decode cX0_betters 82 = .ok (.lcmp, 1) := dk_148 (dk_at dksX0_betters_3 13 rfl rfl)
theorem dX0_betters_83 : decode cX0_betters 83 = .ok (.ifCond .lt 6, 3) := dk_155 0 6 (dk_at dksX0_betters_3 14 rfl rfl)
theorem dX0_betters_86 : decode cX0_betters 86 = .ok (.goto 13, 3) := dk_167 0 13 (dk_at dksX0_betters_3 17 rfl rfl)
theorem dX0_betters_89 : decode cX0_betters 89 = .ok (.lload 9, 2) := dk_22 9 (dk_at dksX0_betters_3 20 rfl rfl)
theorem dX0_betters_91 : decode cX0_betters 91 = .ok (.lstore_n 1, 1) := dk_64 (dk_at dksX0_betters_3 22 rfl rfl)
theorem dX0_betters_92 : decode cX0_betters 92 = .ok (.iload 5, 2) := dk_21 5 (dk_at dksX0_betters_4 0 rfl rfl)
theorem dX0_betters_94 : decode cX0_betters 94 = .ok (.istore_n 3, 1) := dk_62 (dk_at dksX0_betters_4 2 rfl rfl)
theorem dX0_betters_95 : decode cX0_betters 95 = .ok (.iload 8, 2) := dk_21 8 (dk_at dksX0_betters_4 3 rfl rfl)
theorem dX0_betters_97 : decode cX0_betters 97 = .ok (.istore 4, 2) := dk_54 4 (dk_at dksX0_betters_4 5 rfl rfl)
theorem dX0_betters_99 : decode cX0_betters 99 = .ok (.iinc 8 1, 3) := dk_132 8 1 (dk_at dksX0_betters_4 7 rfl rfl)
theorem dX0_betters_102 : decode cX0_betters 102 = .ok (.goto (-49), 3) := dk_167 255 207 (dk_at dksX0_betters_4 10 rfl rfl)
theorem dX0_betters_105 : decode cX0_betters 105 = .ok (.aload 6, 2) := dk_25 6 (dk_at dksX0_betters_4 13 rfl rfl)
theorem dX0_betters_107 : decode cX0_betters 107 = .ok (.iload 7, 2) := dk_21 7 (dk_at dksX0_betters_4 15 rfl rfl)
theorem dX0_betters_109 : decode cX0_betters 109 = .ok (.invokevirtual 232, 3) := dk_182 0 232 (dk_at dksX0_betters_4 17 rfl rfl)
theorem dX0_betters_112 : decode cX0_betters 112 = .ok (.iinc 5 1, 3) := dk_132 5 1 (dk_at dksX0_betters_4 20 rfl rfl)
theorem dX0_betters_115 : decode cX0_betters 115 = .ok (.goto (-101), 3) := dk_167 255 155 (dk_at dksX0_betters_5 0 rfl rfl)
theorem dX0_betters_118 : decode cX0_betters 118 = .ok (.iload_n 3, 1) := dk_29 (dk_at dksX0_betters_5 3 rfl rfl)
theorem dX0_betters_119 : decode cX0_betters 119 = .ok (.iconst (-1), 1) := dk_2 (dk_at dksX0_betters_5 4 rfl rfl)
theorem dX0_betters_120 : decode cX0_betters 120 = .ok (.if_icmp .ne 5, 3) := dk_160 0 5 (dk_at dksX0_betters_5 5 rfl rfl)
theorem dX0_betters_123 : decode cX0_betters 123 = .ok (.iconst 0, 1) := dk_3 (dk_at dksX0_betters_5 8 rfl rfl)
theorem dX0_betters_124 : decode cX0_betters 124 = .ok (.ireturn, 1) := dk_172 (dk_at dksX0_betters_5 9 rfl rfl)
theorem dX0_betters_125 : decode cX0_betters 125 = .ok (.aload_n 0, 1) := dk_42 (dk_at dksX0_betters_5 10 rfl rfl)
theorem dX0_betters_126 : decode cX0_betters 126 = .ok (.getfield 18, 3) := dk_180 0 18 (dk_at dksX0_betters_5 11 rfl rfl)
theorem dX0_betters_129 : decode cX0_betters 129 = .ok (.getfield 130, 3) := dk_180 0 130 (dk_at dksX0_betters_5 14 rfl rfl)
theorem dX0_betters_132 : decode cX0_betters 132 = .ok (.iload_n 3, 1) := dk_29 (dk_at dksX0_betters_5 17 rfl rfl)
theorem dX0_betters_133 : decode cX0_betters 133 = .ok (.invokevirtual 133, 3) := dk_182 0 133 (dk_at dksX0_betters_5 18 rfl rfl)
theorem dX0_betters_136 : decode cX0_betters 136 = .ok (.checkcast 137, 3) := dk_192 0 137 (dk_at dksX0_betters_5 21 rfl rfl)
theorem dX0_betters_139 : decode cX0_betters 139 = .ok (.iload 4, 2) := dk_21 4 (dk_at dksX0_betters_6 0 rfl rfl)
theorem dX0_betters_141 : decode cX0_betters 141 = .ok (.invokevirtual 232, 3) := dk_182 0 232 (dk_at dksX0_betters_6 2 rfl rfl)
theorem dX0_betters_144 : decode cX0_betters 144 = .ok (.iconst 1, 1) := dk_4 (dk_at dksX0_betters_6 5 rfl rfl)
theorem dX0_betters_145 : decode cX0_betters 145 = .ok (.ireturn, 1) := dk_172 (dk_at dksX0_betters_6 6 rfl rfl)
abbrev cX0_good : ByteArray := prog_1_method_49_code
def yX0_good : MethodName := ⟨RX0, "good", "()J"⟩
def dkwX0_good_1 : List UInt8 := [156, 0, 9, 20, 1, 5, 167, 0, 8, 42, 5, 182, 0, 220, 65, 42, 182, 1, 2, 32, 173]
abbrev dktX0_good_1 : List UInt8 := dkwX0_good_1 ++ []
def dkwX0_good_0 : List UInt8 := [42, 182, 0, 171, 154, 0, 7, 20, 0, 182, 173, 42, 182, 0, 255, 42, 16, 60, 182, 1, 12, 60, 27]
abbrev dktX0_good_0 : List UInt8 := dkwX0_good_0 ++ dktX0_good_1
theorem dksX0_good_0 : cX0_good.data.toList.drop 0 = dktX0_good_0 := by decide +kernel
theorem dksX0_good_1 : cX0_good.data.toList.drop 23 = dktX0_good_1 := dk_seg dksX0_good_0 23 rfl rfl
theorem dX0_good_0 : decode cX0_good 0 = .ok (.aload_n 0, 1) := dk_42 (dk_at dksX0_good_0 0 rfl rfl)
theorem dX0_good_1 : decode cX0_good 1 = .ok (.invokevirtual 171, 3) := dk_182 0 171 (dk_at dksX0_good_0 1 rfl rfl)
theorem dX0_good_4 : decode cX0_good 4 = .ok (.ifCond .ne 7, 3) := dk_154 0 7 (dk_at dksX0_good_0 4 rfl rfl)
theorem dX0_good_7 : decode cX0_good 7 = .ok (.ldc2_w 182, 3) := dk_20 0 182 (dk_at dksX0_good_0 7 rfl rfl)
theorem dX0_good_10 : decode cX0_good 10 = .ok (.lreturn, 1) := dk_173 (dk_at dksX0_good_0 10 rfl rfl)
theorem dX0_good_11 : decode cX0_good 11 = .ok (.aload_n 0, 1) := dk_42 (dk_at dksX0_good_0 11 rfl rfl)
theorem dX0_good_12 : decode cX0_good 12 = .ok (.invokevirtual 255, 3) := dk_182 0 255 (dk_at dksX0_good_0 12 rfl rfl)
theorem dX0_good_15 : decode cX0_good 15 = .ok (.aload_n 0, 1) := dk_42 (dk_at dksX0_good_0 15 rfl rfl)
theorem dX0_good_16 : decode cX0_good 16 = .ok (.bipush 60, 2) := dk_16 60 (dk_at dksX0_good_0 16 rfl rfl)
theorem dX0_good_18 : decode cX0_good 18 = .ok (.invokevirtual 268, 3) := dk_182 1 12 (dk_at dksX0_good_0 18 rfl rfl)
theorem dX0_good_21 : decode cX0_good 21 = .ok (.istore_n 1, 1) := dk_60 (dk_at dksX0_good_0 21 rfl rfl)
theorem dX0_good_22 : decode cX0_good 22 = .ok (.iload_n 1, 1) := dk_27 (dk_at dksX0_good_0 22 rfl rfl)
theorem dX0_good_23 : decode cX0_good 23 = .ok (.ifCond .ge 9, 3) := dk_156 0 9 (dk_at dksX0_good_1 0 rfl rfl)
theorem dX0_good_26 : decode cX0_good 26 = .ok (.ldc2_w 261, 3) := dk_20 1 5 (dk_at dksX0_good_1 3 rfl rfl)
theorem dX0_good_29 : decode cX0_good 29 = .ok (.goto 8, 3) := dk_167 0 8 (dk_at dksX0_good_1 6 rfl rfl)
theorem dX0_good_32 : decode cX0_good 32 = .ok (.aload_n 0, 1) := dk_42 (dk_at dksX0_good_1 9 rfl rfl)
theorem dX0_good_33 : decode cX0_good 33 = .ok (.iconst 2, 1) := dk_5 (dk_at dksX0_good_1 10 rfl rfl)
theorem dX0_good_34 : decode cX0_good 34 = .ok (.invokevirtual 220, 3) := dk_182 0 220 (dk_at dksX0_good_1 11 rfl rfl)
theorem dX0_good_37 : decode cX0_good 37 = .ok (.lstore_n 2, 1) := dk_65 (dk_at dksX0_good_1 14 rfl rfl)
theorem dX0_good_38 : decode cX0_good 38 = .ok (.aload_n 0, 1) := dk_42 (dk_at dksX0_good_1 15 rfl rfl)
theorem dX0_good_39 : decode cX0_good 39 = .ok (.invokevirtual 258, 3) := dk_182 1 2 (dk_at dksX0_good_1 16 rfl rfl)
theorem dX0_good_42 : decode cX0_good 42 = .ok (.lload_n 2, 1) := dk_32 (dk_at dksX0_good_1 19 rfl rfl)
theorem dX0_good_43 : decode cX0_good 43 = .ok (.lreturn, 1) := dk_173 (dk_at dksX0_good_1 20 rfl rfl)
abbrev cX0_pair : ByteArray := prog_1_method_51_code
def yX0_pair : MethodName := ⟨RX0, "pair", "(II)I"⟩
def dkwX0_pair_6 : List UInt8 := [167, 255, 140, 42, 182, 1, 2, 29, 172]
abbrev dktX0_pair_6 : List UInt8 := dkwX0_pair_6 ++ []
def dkwX0_pair_5 : List UInt8 := [16, 100, 21, 6, 104, 21, 7, 96, 62, 22, 8, 55, 4, 132, 7, 1, 167, 255, 161, 132, 6, 1]
abbrev dktX0_pair_5 : List UInt8 := dkwX0_pair_5 ++ dktX0_pair_6
def dkwX0_pair_4 : List UInt8 := [28, 182, 0, 217, 97, 55, 8, 29, 2, 159, 0, 14, 22, 8, 22, 4, 148, 155, 0, 6, 167, 0, 16]
abbrev dktX0_pair_4 : List UInt8 := dkwX0_pair_4 ++ dktX0_pair_5
def dkwX0_pair_3 : List UInt8 := [180, 0, 18, 180, 0, 130, 28, 182, 0, 133, 192, 0, 137, 21, 7, 182, 0, 232, 42, 27, 182, 0, 217, 42]
abbrev dktX0_pair_3 : List UInt8 := dkwX0_pair_3 ++ dktX0_pair_4
def dkwX0_pair_2 : List UInt8 := [162, 0, 89, 42, 180, 0, 18, 180, 0, 130, 27, 182, 0, 133, 192, 0, 137, 21, 6, 182, 0, 232, 42]
abbrev dktX0_pair_2 : List UInt8 := dkwX0_pair_2 ++ dktX0_pair_3
def dkwX0_pair_1 : List UInt8 := [21, 6, 42, 180, 0, 18, 182, 0, 223, 162, 0, 110, 3, 54, 7, 21, 7, 42, 180, 0, 18, 182, 0, 223]
abbrev dktX0_pair_1 : List UInt8 := dkwX0_pair_1 ++ dktX0_pair_2
def dkwX0_pair_0 : List UInt8 := [42, 27, 28, 182, 1, 15, 154, 0, 6, 16, 254, 172, 42, 182, 0, 255, 2, 62, 9, 55, 4, 3, 54, 6]
abbrev dktX0_pair_0 : List UInt8 := dkwX0_pair_0 ++ dktX0_pair_1
theorem dksX0_pair_0 : cX0_pair.data.toList.drop 0 = dktX0_pair_0 := by decide +kernel
theorem dksX0_pair_1 : cX0_pair.data.toList.drop 24 = dktX0_pair_1 := dk_seg dksX0_pair_0 24 rfl rfl
theorem dksX0_pair_2 : cX0_pair.data.toList.drop 48 = dktX0_pair_2 := dk_seg dksX0_pair_1 24 rfl rfl
theorem dksX0_pair_3 : cX0_pair.data.toList.drop 71 = dktX0_pair_3 := dk_seg dksX0_pair_2 23 rfl rfl
theorem dksX0_pair_4 : cX0_pair.data.toList.drop 95 = dktX0_pair_4 := dk_seg dksX0_pair_3 24 rfl rfl
theorem dksX0_pair_5 : cX0_pair.data.toList.drop 118 = dktX0_pair_5 := dk_seg dksX0_pair_4 23 rfl rfl
theorem dksX0_pair_6 : cX0_pair.data.toList.drop 140 = dktX0_pair_6 := dk_seg dksX0_pair_5 22 rfl rfl
theorem dX0_pair_0 : decode cX0_pair 0 = .ok (.aload_n 0, 1) := dk_42 (dk_at dksX0_pair_0 0 rfl rfl)
theorem dX0_pair_1 : decode cX0_pair 1 = .ok (.iload_n 1, 1) := dk_27 (dk_at dksX0_pair_0 1 rfl rfl)
theorem dX0_pair_2 : decode cX0_pair 2 = .ok (.iload_n 2, 1) := dk_28 (dk_at dksX0_pair_0 2 rfl rfl)
theorem dX0_pair_3 : decode cX0_pair 3 = .ok (.invokevirtual 271, 3) := dk_182 1 15 (dk_at dksX0_pair_0 3 rfl rfl)
theorem dX0_pair_6 : decode cX0_pair 6 = .ok (.ifCond .ne 6, 3) := dk_154 0 6 (dk_at dksX0_pair_0 6 rfl rfl)
theorem dX0_pair_9 : decode cX0_pair 9 = .ok (.bipush (-2), 2) := dk_16 254 (dk_at dksX0_pair_0 9 rfl rfl)
theorem dX0_pair_11 : decode cX0_pair 11 = .ok (.ireturn, 1) := dk_172 (dk_at dksX0_pair_0 11 rfl rfl)
theorem dX0_pair_12 : decode cX0_pair 12 = .ok (.aload_n 0, 1) := dk_42 (dk_at dksX0_pair_0 12 rfl rfl)
theorem dX0_pair_13 : decode cX0_pair 13 = .ok (.invokevirtual 255, 3) := dk_182 0 255 (dk_at dksX0_pair_0 13 rfl rfl)
theorem dX0_pair_16 : decode cX0_pair 16 = .ok (.iconst (-1), 1) := dk_2 (dk_at dksX0_pair_0 16 rfl rfl)
theorem dX0_pair_17 : decode cX0_pair 17 = .ok (.istore_n 3, 1) := dk_62 (dk_at dksX0_pair_0 17 rfl rfl)
theorem dX0_pair_18 : decode cX0_pair 18 = .ok (.lconst 0, 1) := dk_9 (dk_at dksX0_pair_0 18 rfl rfl)
theorem dX0_pair_19 : decode cX0_pair 19 = .ok (.lstore 4, 2) := dk_55 4 (dk_at dksX0_pair_0 19 rfl rfl)
theorem dX0_pair_21 : decode cX0_pair 21 = .ok (.iconst 0, 1) := dk_3 (dk_at dksX0_pair_0 21 rfl rfl)
theorem dX0_pair_22 : decode cX0_pair 22 = .ok (.istore 6, 2) := dk_54 6 (dk_at dksX0_pair_0 22 rfl rfl)
theorem dX0_pair_24 : decode cX0_pair 24 = .ok (.iload 6, 2) := dk_21 6 (dk_at dksX0_pair_1 0 rfl rfl)
theorem dX0_pair_26 : decode cX0_pair 26 = .ok (.aload_n 0, 1) := dk_42 (dk_at dksX0_pair_1 2 rfl rfl)
theorem dX0_pair_27 : decode cX0_pair 27 = .ok (.getfield 18, 3) := dk_180 0 18 (dk_at dksX0_pair_1 3 rfl rfl)
theorem dX0_pair_30 : decode cX0_pair 30 = .ok (.invokevirtual 223, 3) := dk_182 0 223 (dk_at dksX0_pair_1 6 rfl rfl)
theorem dX0_pair_33 : decode cX0_pair 33 = .ok (.if_icmp .ge 110, 3) := dk_162 0 110 (dk_at dksX0_pair_1 9 rfl rfl)
theorem dX0_pair_36 : decode cX0_pair 36 = .ok (.iconst 0, 1) := dk_3 (dk_at dksX0_pair_1 12 rfl rfl)
theorem dX0_pair_37 : decode cX0_pair 37 = .ok (.istore 7, 2) := dk_54 7 (dk_at dksX0_pair_1 13 rfl rfl)
theorem dX0_pair_39 : decode cX0_pair 39 = .ok (.iload 7, 2) := dk_21 7 (dk_at dksX0_pair_1 15 rfl rfl)
theorem dX0_pair_41 : decode cX0_pair 41 = .ok (.aload_n 0, 1) := dk_42 (dk_at dksX0_pair_1 17 rfl rfl)
theorem dX0_pair_42 : decode cX0_pair 42 = .ok (.getfield 18, 3) := dk_180 0 18 (dk_at dksX0_pair_1 18 rfl rfl)
theorem dX0_pair_45 : decode cX0_pair 45 = .ok (.invokevirtual 223, 3) := dk_182 0 223 (dk_at dksX0_pair_1 21 rfl rfl)
theorem dX0_pair_48 : decode cX0_pair 48 = .ok (.if_icmp .ge 89, 3) := dk_162 0 89 (dk_at dksX0_pair_2 0 rfl rfl)
theorem dX0_pair_51 : decode cX0_pair 51 = .ok (.aload_n 0, 1) := dk_42 (dk_at dksX0_pair_2 3 rfl rfl)
theorem dX0_pair_52 : decode cX0_pair 52 = .ok (.getfield 18, 3) := dk_180 0 18 (dk_at dksX0_pair_2 4 rfl rfl)
theorem dX0_pair_55 : decode cX0_pair 55 = .ok (.getfield 130, 3) := dk_180 0 130 (dk_at dksX0_pair_2 7 rfl rfl)
theorem dX0_pair_58 : decode cX0_pair 58 = .ok (.iload_n 1, 1) := dk_27 (dk_at dksX0_pair_2 10 rfl rfl)
theorem dX0_pair_59 : decode cX0_pair 59 = .ok (.invokevirtual 133, 3) := dk_182 0 133 (dk_at dksX0_pair_2 11 rfl rfl)
theorem dX0_pair_62 : decode cX0_pair 62 = .ok (.checkcast 137, 3) := dk_192 0 137 (dk_at dksX0_pair_2 14 rfl rfl)
theorem dX0_pair_65 : decode cX0_pair 65 = .ok (.iload 6, 2) := dk_21 6 (dk_at dksX0_pair_2 17 rfl rfl)
theorem dX0_pair_67 : decode cX0_pair 67 = .ok (.invokevirtual 232, 3) := dk_182 0 232 (dk_at dksX0_pair_2 19 rfl rfl)
theorem dX0_pair_70 : decode cX0_pair 70 = .ok (.aload_n 0, 1) := dk_42 (dk_at dksX0_pair_2 22 rfl rfl)
theorem dX0_pair_71 : decode cX0_pair 71 = .ok (.getfield 18, 3) := dk_180 0 18 (dk_at dksX0_pair_3 0 rfl rfl)
theorem dX0_pair_74 : decode cX0_pair 74 = .ok (.getfield 130, 3) := dk_180 0 130 (dk_at dksX0_pair_3 3 rfl rfl)
theorem dX0_pair_77 : decode cX0_pair 77 = .ok (.iload_n 2, 1) := dk_28 (dk_at dksX0_pair_3 6 rfl rfl)
theorem dX0_pair_78 : decode cX0_pair 78 = .ok (.invokevirtual 133, 3) := dk_182 0 133 (dk_at dksX0_pair_3 7 rfl rfl)
theorem dX0_pair_81 : decode cX0_pair 81 = .ok (.checkcast 137, 3) := dk_192 0 137 (dk_at dksX0_pair_3 10 rfl rfl)
theorem dX0_pair_84 : decode cX0_pair 84 = .ok (.iload 7, 2) := dk_21 7 (dk_at dksX0_pair_3 13 rfl rfl)
theorem dX0_pair_86 : decode cX0_pair 86 = .ok (.invokevirtual 232, 3) := dk_182 0 232 (dk_at dksX0_pair_3 15 rfl rfl)
theorem dX0_pair_89 : decode cX0_pair 89 = .ok (.aload_n 0, 1) := dk_42 (dk_at dksX0_pair_3 18 rfl rfl)
theorem dX0_pair_90 : decode cX0_pair 90 = .ok (.iload_n 1, 1) := dk_27 (dk_at dksX0_pair_3 19 rfl rfl)
theorem dX0_pair_91 : decode cX0_pair 91 = .ok (.invokevirtual 217, 3) := dk_182 0 217 (dk_at dksX0_pair_3 20 rfl rfl)
theorem dX0_pair_94 : decode cX0_pair 94 = .ok (.aload_n 0, 1) := dk_42 (dk_at dksX0_pair_3 23 rfl rfl)
theorem dX0_pair_95 : decode cX0_pair 95 = .ok (.iload_n 2, 1) := dk_28 (dk_at dksX0_pair_4 0 rfl rfl)
theorem dX0_pair_96 : decode cX0_pair 96 = .ok (.invokevirtual 217, 3) := dk_182 0 217 (dk_at dksX0_pair_4 1 rfl rfl)
theorem dX0_pair_99 : decode cX0_pair 99 = .ok (.ladd, 1) := dk_97 (dk_at dksX0_pair_4 4 rfl rfl)
theorem dX0_pair_100 : decode cX0_pair 100 = .ok (.lstore 8, 2) := dk_55 8 (dk_at dksX0_pair_4 5 rfl rfl)
theorem dX0_pair_102 : decode cX0_pair 102 = .ok (.iload_n 3, 1) := dk_29 (dk_at dksX0_pair_4 7 rfl rfl)
theorem dX0_pair_103 : decode cX0_pair 103 = .ok (.iconst (-1), 1) := dk_2 (dk_at dksX0_pair_4 8 rfl rfl)
theorem dX0_pair_104 : decode cX0_pair 104 = .ok (.if_icmp .eq 14, 3) := dk_159 0 14 (dk_at dksX0_pair_4 9 rfl rfl)
theorem dX0_pair_107 : decode cX0_pair 107 = .ok (.lload 8, 2) := dk_22 8 (dk_at dksX0_pair_4 12 rfl rfl)
theorem dX0_pair_109 : decode cX0_pair 109 = .ok (.lload 4, 2) := dk_22 4 (dk_at dksX0_pair_4 14 rfl rfl)
theorem dX0_pair_111 : decode cX0_pair 111 = .ok (.lcmp, 1) := dk_148 (dk_at dksX0_pair_4 16 rfl rfl)
theorem dX0_pair_112 : decode cX0_pair 112 = .ok (.ifCond .lt 6, 3) := dk_155 0 6 (dk_at dksX0_pair_4 17 rfl rfl)
theorem dX0_pair_115 : decode cX0_pair 115 = .ok (.goto 16, 3) := dk_167 0 16 (dk_at dksX0_pair_4 20 rfl rfl)
theorem dX0_pair_118 : decode cX0_pair 118 = .ok (.bipush 100, 2) := dk_16 100 (dk_at dksX0_pair_5 0 rfl rfl)
theorem dX0_pair_120 : decode cX0_pair 120 = .ok (.iload 6, 2) := dk_21 6 (dk_at dksX0_pair_5 2 rfl rfl)
theorem dX0_pair_122 : decode cX0_pair 122 = .ok (.imul, 1) := dk_104 (dk_at dksX0_pair_5 4 rfl rfl)
theorem dX0_pair_123 : decode cX0_pair 123 = .ok (.iload 7, 2) := dk_21 7 (dk_at dksX0_pair_5 5 rfl rfl)
theorem dX0_pair_125 : decode cX0_pair 125 = .ok (.iadd, 1) := dk_96 (dk_at dksX0_pair_5 7 rfl rfl)
theorem dX0_pair_126 : decode cX0_pair 126 = .ok (.istore_n 3, 1) := dk_62 (dk_at dksX0_pair_5 8 rfl rfl)
theorem dX0_pair_127 : decode cX0_pair 127 = .ok (.lload 8, 2) := dk_22 8 (dk_at dksX0_pair_5 9 rfl rfl)
theorem dX0_pair_129 : decode cX0_pair 129 = .ok (.lstore 4, 2) := dk_55 4 (dk_at dksX0_pair_5 11 rfl rfl)
theorem dX0_pair_131 : decode cX0_pair 131 = .ok (.iinc 7 1, 3) := dk_132 7 1 (dk_at dksX0_pair_5 13 rfl rfl)
theorem dX0_pair_134 : decode cX0_pair 134 = .ok (.goto (-95), 3) := dk_167 255 161 (dk_at dksX0_pair_5 16 rfl rfl)
theorem dX0_pair_137 : decode cX0_pair 137 = .ok (.iinc 6 1, 3) := dk_132 6 1 (dk_at dksX0_pair_5 19 rfl rfl)
theorem dX0_pair_140 : decode cX0_pair 140 = .ok (.goto (-116), 3) := dk_167 255 140 (dk_at dksX0_pair_6 0 rfl rfl)
theorem dX0_pair_143 : decode cX0_pair 143 = .ok (.aload_n 0, 1) := dk_42 (dk_at dksX0_pair_6 3 rfl rfl)
theorem dX0_pair_144 : decode cX0_pair 144 = .ok (.invokevirtual 258, 3) := dk_182 1 2 (dk_at dksX0_pair_6 4 rfl rfl)
theorem dX0_pair_147 : decode cX0_pair 147 = .ok (.iload_n 3, 1) := dk_29 (dk_at dksX0_pair_6 7 rfl rfl)
theorem dX0_pair_148 : decode cX0_pair 148 = .ok (.ireturn, 1) := dk_172 (dk_at dksX0_pair_6 8 rfl rfl)
abbrev cX0_areTwo : ByteArray := prog_1_method_50_code
def yX0_areTwo : MethodName := ⟨RX0, "areTwo", "(II)Z"⟩
def dkwX0_areTwo_1 : List UInt8 := [167, 0, 4, 3, 172]
abbrev dktX0_areTwo_1 : List UInt8 := dkwX0_areTwo_1 ++ []
def dkwX0_areTwo_0 : List UInt8 := [42, 27, 182, 0, 127, 153, 0, 20, 42, 28, 182, 0, 127, 153, 0, 12, 27, 28, 159, 0, 7, 4]
abbrev dktX0_areTwo_0 : List UInt8 := dkwX0_areTwo_0 ++ dktX0_areTwo_1
theorem dksX0_areTwo_0 : cX0_areTwo.data.toList.drop 0 = dktX0_areTwo_0 := by decide +kernel
theorem dksX0_areTwo_1 : cX0_areTwo.data.toList.drop 22 = dktX0_areTwo_1 := dk_seg dksX0_areTwo_0 22 rfl rfl
theorem dX0_areTwo_0 : decode cX0_areTwo 0 = .ok (.aload_n 0, 1) := dk_42 (dk_at dksX0_areTwo_0 0 rfl rfl)
theorem dX0_areTwo_1 : decode cX0_areTwo 1 = .ok (.iload_n 1, 1) := dk_27 (dk_at dksX0_areTwo_0 1 rfl rfl)
theorem dX0_areTwo_2 : decode cX0_areTwo 2 = .ok (.invokevirtual 127, 3) := dk_182 0 127 (dk_at dksX0_areTwo_0 2 rfl rfl)
theorem dX0_areTwo_5 : decode cX0_areTwo 5 = .ok (.ifCond .eq 20, 3) := dk_153 0 20 (dk_at dksX0_areTwo_0 5 rfl rfl)
theorem dX0_areTwo_8 : decode cX0_areTwo 8 = .ok (.aload_n 0, 1) := dk_42 (dk_at dksX0_areTwo_0 8 rfl rfl)
theorem dX0_areTwo_9 : decode cX0_areTwo 9 = .ok (.iload_n 2, 1) := dk_28 (dk_at dksX0_areTwo_0 9 rfl rfl)
theorem dX0_areTwo_10 : decode cX0_areTwo 10 = .ok (.invokevirtual 127, 3) := dk_182 0 127 (dk_at dksX0_areTwo_0 10 rfl rfl)
theorem dX0_areTwo_13 : decode cX0_areTwo 13 = .ok (.ifCond .eq 12, 3) := dk_153 0 12 (dk_at dksX0_areTwo_0 13 rfl rfl)
theorem dX0_areTwo_16 : decode cX0_areTwo 16 = .ok (.iload_n 1, 1) := dk_27 (dk_at dksX0_areTwo_0 16 rfl rfl)
theorem dX0_areTwo_17 : decode cX0_areTwo 17 = .ok (.iload_n 2, 1) := dk_28 (dk_at dksX0_areTwo_0 17 rfl rfl)
theorem dX0_areTwo_18 : decode cX0_areTwo 18 = .ok (.if_icmp .eq 7, 3) := dk_159 0 7 (dk_at dksX0_areTwo_0 18 rfl rfl)
theorem dX0_areTwo_21 : decode cX0_areTwo 21 = .ok (.iconst 1, 1) := dk_4 (dk_at dksX0_areTwo_0 21 rfl rfl)
theorem dX0_areTwo_22 : decode cX0_areTwo 22 = .ok (.goto 4, 3) := dk_167 0 4 (dk_at dksX0_areTwo_1 0 rfl rfl)
theorem dX0_areTwo_25 : decode cX0_areTwo 25 = .ok (.iconst 0, 1) := dk_3 (dk_at dksX0_areTwo_1 3 rfl rfl)
theorem dX0_areTwo_26 : decode cX0_areTwo 26 = .ok (.ireturn, 1) := dk_172 (dk_at dksX0_areTwo_1 4 rfl rfl)
abbrev cX0_wasted : ByteArray := prog_1_method_52_code
def yX0_wasted : MethodName := ⟨RX0, "wasted", "()J"⟩
def dkwX0_wasted_2 : List UInt8 := [3, 182, 0, 232, 132, 3, 1, 167, 255, 224, 42, 5, 182, 0, 220, 66, 42, 182, 1, 2, 31, 33, 101, 173]
abbrev dktX0_wasted_2 : List UInt8 := dkwX0_wasted_2 ++ []
def dkwX0_wasted_1 : List UInt8 := [42, 180, 0, 18, 182, 0, 106, 162, 0, 27, 42, 180, 0, 18, 180, 0, 130, 29, 182, 0, 133, 192, 0, 137]
abbrev dktX0_wasted_1 : List UInt8 := dkwX0_wasted_1 ++ dktX0_wasted_2
def dkwX0_wasted_0 : List UInt8 := [42, 182, 0, 171, 154, 0, 7, 20, 1, 19, 173, 42, 5, 182, 0, 220, 64, 42, 182, 0, 255, 3, 62, 29]
abbrev dktX0_wasted_0 : List UInt8 := dkwX0_wasted_0 ++ dktX0_wasted_1
theorem dksX0_wasted_0 : cX0_wasted.data.toList.drop 0 = dktX0_wasted_0 := by decide +kernel
theorem dksX0_wasted_1 : cX0_wasted.data.toList.drop 24 = dktX0_wasted_1 := dk_seg dksX0_wasted_0 24 rfl rfl
theorem dksX0_wasted_2 : cX0_wasted.data.toList.drop 48 = dktX0_wasted_2 := dk_seg dksX0_wasted_1 24 rfl rfl
theorem dX0_wasted_0 : decode cX0_wasted 0 = .ok (.aload_n 0, 1) := dk_42 (dk_at dksX0_wasted_0 0 rfl rfl)
theorem dX0_wasted_1 : decode cX0_wasted 1 = .ok (.invokevirtual 171, 3) := dk_182 0 171 (dk_at dksX0_wasted_0 1 rfl rfl)
theorem dX0_wasted_4 : decode cX0_wasted 4 = .ok (.ifCond .ne 7, 3) := dk_154 0 7 (dk_at dksX0_wasted_0 4 rfl rfl)
theorem dX0_wasted_7 : decode cX0_wasted 7 = .ok (.ldc2_w 275, 3) := dk_20 1 19 (dk_at dksX0_wasted_0 7 rfl rfl)
theorem dX0_wasted_10 : decode cX0_wasted 10 = .ok (.lreturn, 1) := dk_173 (dk_at dksX0_wasted_0 10 rfl rfl)
theorem dX0_wasted_11 : decode cX0_wasted 11 = .ok (.aload_n 0, 1) := dk_42 (dk_at dksX0_wasted_0 11 rfl rfl)
theorem dX0_wasted_12 : decode cX0_wasted 12 = .ok (.iconst 2, 1) := dk_5 (dk_at dksX0_wasted_0 12 rfl rfl)
theorem dX0_wasted_13 : decode cX0_wasted 13 = .ok (.invokevirtual 220, 3) := dk_182 0 220 (dk_at dksX0_wasted_0 13 rfl rfl)
theorem dX0_wasted_16 : decode cX0_wasted 16 = .ok (.lstore_n 1, 1) := dk_64 (dk_at dksX0_wasted_0 16 rfl rfl)
theorem dX0_wasted_17 : decode cX0_wasted 17 = .ok (.aload_n 0, 1) := dk_42 (dk_at dksX0_wasted_0 17 rfl rfl)
theorem dX0_wasted_18 : decode cX0_wasted 18 = .ok (.invokevirtual 255, 3) := dk_182 0 255 (dk_at dksX0_wasted_0 18 rfl rfl)
theorem dX0_wasted_21 : decode cX0_wasted 21 = .ok (.iconst 0, 1) := dk_3 (dk_at dksX0_wasted_0 21 rfl rfl)
theorem dX0_wasted_22 : decode cX0_wasted 22 = .ok (.istore_n 3, 1) := dk_62 (dk_at dksX0_wasted_0 22 rfl rfl)
theorem dX0_wasted_23 : decode cX0_wasted 23 = .ok (.iload_n 3, 1) := dk_29 (dk_at dksX0_wasted_0 23 rfl rfl)
theorem dX0_wasted_24 : decode cX0_wasted 24 = .ok (.aload_n 0, 1) := dk_42 (dk_at dksX0_wasted_1 0 rfl rfl)
theorem dX0_wasted_25 : decode cX0_wasted 25 = .ok (.getfield 18, 3) := dk_180 0 18 (dk_at dksX0_wasted_1 1 rfl rfl)
theorem dX0_wasted_28 : decode cX0_wasted 28 = .ok (.invokevirtual 106, 3) := dk_182 0 106 (dk_at dksX0_wasted_1 4 rfl rfl)
theorem dX0_wasted_31 : decode cX0_wasted 31 = .ok (.if_icmp .ge 27, 3) := dk_162 0 27 (dk_at dksX0_wasted_1 7 rfl rfl)
theorem dX0_wasted_34 : decode cX0_wasted 34 = .ok (.aload_n 0, 1) := dk_42 (dk_at dksX0_wasted_1 10 rfl rfl)
theorem dX0_wasted_35 : decode cX0_wasted 35 = .ok (.getfield 18, 3) := dk_180 0 18 (dk_at dksX0_wasted_1 11 rfl rfl)
theorem dX0_wasted_38 : decode cX0_wasted 38 = .ok (.getfield 130, 3) := dk_180 0 130 (dk_at dksX0_wasted_1 14 rfl rfl)
theorem dX0_wasted_41 : decode cX0_wasted 41 = .ok (.iload_n 3, 1) := dk_29 (dk_at dksX0_wasted_1 17 rfl rfl)
theorem dX0_wasted_42 : decode cX0_wasted 42 = .ok (.invokevirtual 133, 3) := dk_182 0 133 (dk_at dksX0_wasted_1 18 rfl rfl)
theorem dX0_wasted_45 : decode cX0_wasted 45 = .ok (.checkcast 137, 3) := dk_192 0 137 (dk_at dksX0_wasted_1 21 rfl rfl)
theorem dX0_wasted_48 : decode cX0_wasted 48 = .ok (.iconst 0, 1) := dk_3 (dk_at dksX0_wasted_2 0 rfl rfl)
theorem dX0_wasted_49 : decode cX0_wasted 49 = .ok (.invokevirtual 232, 3) := dk_182 0 232 (dk_at dksX0_wasted_2 1 rfl rfl)
theorem dX0_wasted_52 : decode cX0_wasted 52 = .ok (.iinc 3 1, 3) := dk_132 3 1 (dk_at dksX0_wasted_2 4 rfl rfl)
theorem dX0_wasted_55 : decode cX0_wasted 55 = .ok (.goto (-32), 3) := dk_167 255 224 (dk_at dksX0_wasted_2 7 rfl rfl)
theorem dX0_wasted_58 : decode cX0_wasted 58 = .ok (.aload_n 0, 1) := dk_42 (dk_at dksX0_wasted_2 10 rfl rfl)
theorem dX0_wasted_59 : decode cX0_wasted 59 = .ok (.iconst 2, 1) := dk_5 (dk_at dksX0_wasted_2 11 rfl rfl)
theorem dX0_wasted_60 : decode cX0_wasted 60 = .ok (.invokevirtual 220, 3) := dk_182 0 220 (dk_at dksX0_wasted_2 12 rfl rfl)
theorem dX0_wasted_63 : decode cX0_wasted 63 = .ok (.lstore_n 3, 1) := dk_66 (dk_at dksX0_wasted_2 15 rfl rfl)
theorem dX0_wasted_64 : decode cX0_wasted 64 = .ok (.aload_n 0, 1) := dk_42 (dk_at dksX0_wasted_2 16 rfl rfl)
theorem dX0_wasted_65 : decode cX0_wasted 65 = .ok (.invokevirtual 258, 3) := dk_182 1 2 (dk_at dksX0_wasted_2 17 rfl rfl)
theorem dX0_wasted_68 : decode cX0_wasted 68 = .ok (.lload_n 1, 1) := dk_31 (dk_at dksX0_wasted_2 20 rfl rfl)
theorem dX0_wasted_69 : decode cX0_wasted 69 = .ok (.lload_n 3, 1) := dk_33 (dk_at dksX0_wasted_2 21 rfl rfl)
theorem dX0_wasted_70 : decode cX0_wasted 70 = .ok (.lsub, 1) := dk_101 (dk_at dksX0_wasted_2 22 rfl rfl)
theorem dX0_wasted_71 : decode cX0_wasted 71 = .ok (.lreturn, 1) := dk_173 (dk_at dksX0_wasted_2 23 rfl rfl)
abbrev cX0_beside : ByteArray := prog_1_method_54_code
def yX0_beside : MethodName := ⟨RX0, "beside", "(III)J"⟩
def dkwX0_beside_1 : List UInt8 := [182, 1, 21, 42, 180, 0, 43, 29, 47, 173]
abbrev dktX0_beside_1 : List UInt8 := dkwX0_beside_1 ++ []
def dkwX0_beside_0 : List UInt8 := [42, 27, 29, 182, 1, 15, 153, 0, 11, 42, 28, 182, 0, 226, 154, 0, 7, 20, 1, 19, 173, 42, 27, 28]
abbrev dktX0_beside_0 : List UInt8 := dkwX0_beside_0 ++ dktX0_beside_1
theorem dksX0_beside_0 : cX0_beside.data.toList.drop 0 = dktX0_beside_0 := by decide +kernel
theorem dksX0_beside_1 : cX0_beside.data.toList.drop 24 = dktX0_beside_1 := dk_seg dksX0_beside_0 24 rfl rfl
theorem dX0_beside_0 : decode cX0_beside 0 = .ok (.aload_n 0, 1) := dk_42 (dk_at dksX0_beside_0 0 rfl rfl)
theorem dX0_beside_1 : decode cX0_beside 1 = .ok (.iload_n 1, 1) := dk_27 (dk_at dksX0_beside_0 1 rfl rfl)
theorem dX0_beside_2 : decode cX0_beside 2 = .ok (.iload_n 3, 1) := dk_29 (dk_at dksX0_beside_0 2 rfl rfl)
theorem dX0_beside_3 : decode cX0_beside 3 = .ok (.invokevirtual 271, 3) := dk_182 1 15 (dk_at dksX0_beside_0 3 rfl rfl)
theorem dX0_beside_6 : decode cX0_beside 6 = .ok (.ifCond .eq 11, 3) := dk_153 0 11 (dk_at dksX0_beside_0 6 rfl rfl)
theorem dX0_beside_9 : decode cX0_beside 9 = .ok (.aload_n 0, 1) := dk_42 (dk_at dksX0_beside_0 9 rfl rfl)
theorem dX0_beside_10 : decode cX0_beside 10 = .ok (.iload_n 2, 1) := dk_28 (dk_at dksX0_beside_0 10 rfl rfl)
theorem dX0_beside_11 : decode cX0_beside 11 = .ok (.invokevirtual 226, 3) := dk_182 0 226 (dk_at dksX0_beside_0 11 rfl rfl)
theorem dX0_beside_14 : decode cX0_beside 14 = .ok (.ifCond .ne 7, 3) := dk_154 0 7 (dk_at dksX0_beside_0 14 rfl rfl)
theorem dX0_beside_17 : decode cX0_beside 17 = .ok (.ldc2_w 275, 3) := dk_20 1 19 (dk_at dksX0_beside_0 17 rfl rfl)
theorem dX0_beside_20 : decode cX0_beside 20 = .ok (.lreturn, 1) := dk_173 (dk_at dksX0_beside_0 20 rfl rfl)
theorem dX0_beside_21 : decode cX0_beside 21 = .ok (.aload_n 0, 1) := dk_42 (dk_at dksX0_beside_0 21 rfl rfl)
theorem dX0_beside_22 : decode cX0_beside 22 = .ok (.iload_n 1, 1) := dk_27 (dk_at dksX0_beside_0 22 rfl rfl)
theorem dX0_beside_23 : decode cX0_beside 23 = .ok (.iload_n 2, 1) := dk_28 (dk_at dksX0_beside_0 23 rfl rfl)
theorem dX0_beside_24 : decode cX0_beside 24 = .ok (.invokevirtual 277, 3) := dk_182 1 21 (dk_at dksX0_beside_1 0 rfl rfl)
theorem dX0_beside_27 : decode cX0_beside 27 = .ok (.aload_n 0, 1) := dk_42 (dk_at dksX0_beside_1 3 rfl rfl)
theorem dX0_beside_28 : decode cX0_beside 28 = .ok (.getfield 43, 3) := dk_180 0 43 (dk_at dksX0_beside_1 4 rfl rfl)
theorem dX0_beside_31 : decode cX0_beside 31 = .ok (.iload_n 3, 1) := dk_29 (dk_at dksX0_beside_1 7 rfl rfl)
theorem dX0_beside_32 : decode cX0_beside 32 = .ok (.laload, 1) := dk_47 (dk_at dksX0_beside_1 8 rfl rfl)
theorem dX0_beside_33 : decode cX0_beside 33 = .ok (.lreturn, 1) := dk_173 (dk_at dksX0_beside_1 9 rfl rfl)
abbrev cX0_compares : ByteArray := prog_1_method_53_code
def yX0_compares : MethodName := ⟨RX0, "compares", "(II)V"⟩
def dkwX0_compares_5 : List UInt8 := [132, 5, 1, 167, 255, 217, 45, 21, 4, 182, 0, 232, 177]
abbrev dktX0_compares_5 : List UInt8 := dkwX0_compares_5 ++ []
def dkwX0_compares_4 : List UInt8 := [180, 0, 43, 21, 5, 42, 180, 0, 27, 21, 5, 182, 0, 189, 42, 180, 0, 43, 21, 5, 47, 101, 80]
abbrev dktX0_compares_4 : List UInt8 := dkwX0_compares_4 ++ dktX0_compares_5
def dkwX0_compares_3 : List UInt8 := [180, 0, 27, 182, 0, 175, 87, 3, 54, 5, 21, 5, 42, 180, 0, 18, 182, 0, 106, 162, 0, 33, 42]
abbrev dktX0_compares_3 : List UInt8 := dkwX0_compares_3 ++ dktX0_compares_4
def dkwX0_compares_2 : List UInt8 := [180, 0, 130, 27, 182, 0, 133, 192, 0, 137, 78, 45, 182, 0, 229, 54, 4, 45, 28, 182, 0, 232, 42]
abbrev dktX0_compares_2 : List UInt8 := dkwX0_compares_2 ++ dktX0_compares_3
def dkwX0_compares_1 : List UInt8 := [180, 0, 43, 29, 42, 180, 0, 27, 29, 182, 0, 189, 80, 132, 3, 1, 167, 255, 228, 42, 180, 0, 18]
abbrev dktX0_compares_1 : List UInt8 := dkwX0_compares_1 ++ dktX0_compares_2
def dkwX0_compares_0 : List UInt8 := [42, 180, 0, 27, 182, 0, 175, 87, 3, 62, 29, 42, 180, 0, 18, 182, 0, 106, 162, 0, 23, 42]
abbrev dktX0_compares_0 : List UInt8 := dkwX0_compares_0 ++ dktX0_compares_1
theorem dksX0_compares_0 : cX0_compares.data.toList.drop 0 = dktX0_compares_0 := by decide +kernel
theorem dksX0_compares_1 : cX0_compares.data.toList.drop 22 = dktX0_compares_1 := dk_seg dksX0_compares_0 22 rfl rfl
theorem dksX0_compares_2 : cX0_compares.data.toList.drop 45 = dktX0_compares_2 := dk_seg dksX0_compares_1 23 rfl rfl
theorem dksX0_compares_3 : cX0_compares.data.toList.drop 68 = dktX0_compares_3 := dk_seg dksX0_compares_2 23 rfl rfl
theorem dksX0_compares_4 : cX0_compares.data.toList.drop 91 = dktX0_compares_4 := dk_seg dksX0_compares_3 23 rfl rfl
theorem dksX0_compares_5 : cX0_compares.data.toList.drop 114 = dktX0_compares_5 := dk_seg dksX0_compares_4 23 rfl rfl
theorem dX0_compares_0 : decode cX0_compares 0 = .ok (.aload_n 0, 1) := dk_42 (dk_at dksX0_compares_0 0 rfl rfl)
theorem dX0_compares_1 : decode cX0_compares 1 = .ok (.getfield 27, 3) := dk_180 0 27 (dk_at dksX0_compares_0 1 rfl rfl)
theorem dX0_compares_4 : decode cX0_compares 4 = .ok (.invokevirtual 175, 3) := dk_182 0 175 (dk_at dksX0_compares_0 4 rfl rfl)
theorem dX0_compares_7 : decode cX0_compares 7 = .ok (.pop, 1) := dk_87 (dk_at dksX0_compares_0 7 rfl rfl)
theorem dX0_compares_8 : decode cX0_compares 8 = .ok (.iconst 0, 1) := dk_3 (dk_at dksX0_compares_0 8 rfl rfl)
theorem dX0_compares_9 : decode cX0_compares 9 = .ok (.istore_n 3, 1) := dk_62 (dk_at dksX0_compares_0 9 rfl rfl)
theorem dX0_compares_10 : decode cX0_compares 10 = .ok (.iload_n 3, 1) := dk_29 (dk_at dksX0_compares_0 10 rfl rfl)
theorem dX0_compares_11 : decode cX0_compares 11 = .ok (.aload_n 0, 1) := dk_42 (dk_at dksX0_compares_0 11 rfl rfl)
theorem dX0_compares_12 : decode cX0_compares 12 = .ok (.getfield 18, 3) := dk_180 0 18 (dk_at dksX0_compares_0 12 rfl rfl)
theorem dX0_compares_15 : decode cX0_compares 15 = .ok (.invokevirtual 106, 3) := dk_182 0 106 (dk_at dksX0_compares_0 15 rfl rfl)
theorem dX0_compares_18 : decode cX0_compares 18 = .ok (.if_icmp .ge 23, 3) := dk_162 0 23 (dk_at dksX0_compares_0 18 rfl rfl)
theorem dX0_compares_21 : decode cX0_compares 21 = .ok (.aload_n 0, 1) := dk_42 (dk_at dksX0_compares_0 21 rfl rfl)
theorem dX0_compares_22 : decode cX0_compares 22 = .ok (.getfield 43, 3) := dk_180 0 43 (dk_at dksX0_compares_1 0 rfl rfl)
theorem dX0_compares_25 : decode cX0_compares 25 = .ok (.iload_n 3, 1) := dk_29 (dk_at dksX0_compares_1 3 rfl rfl)
theorem dX0_compares_26 : decode cX0_compares 26 = .ok (.aload_n 0, 1) := dk_42 (dk_at dksX0_compares_1 4 rfl rfl)
theorem dX0_compares_27 : decode cX0_compares 27 = .ok (.getfield 27, 3) := dk_180 0 27 (dk_at dksX0_compares_1 5 rfl rfl)
theorem dX0_compares_30 : decode cX0_compares 30 = .ok (.iload_n 3, 1) := dk_29 (dk_at dksX0_compares_1 8 rfl rfl)
theorem dX0_compares_31 : decode cX0_compares 31 = .ok (.invokevirtual 189, 3) := dk_182 0 189 (dk_at dksX0_compares_1 9 rfl rfl)
theorem dX0_compares_34 : decode cX0_compares 34 = .ok (.lastore, 1) := dk_80 (dk_at dksX0_compares_1 12 rfl rfl)
theorem dX0_compares_35 : decode cX0_compares 35 = .ok (.iinc 3 1, 3) := dk_132 3 1 (dk_at dksX0_compares_1 13 rfl rfl)
theorem dX0_compares_38 : decode cX0_compares 38 = .ok (.goto (-28), 3) := dk_167 255 228 (dk_at dksX0_compares_1 16 rfl rfl)
theorem dX0_compares_41 : decode cX0_compares 41 = .ok (.aload_n 0, 1) := dk_42 (dk_at dksX0_compares_1 19 rfl rfl)
theorem dX0_compares_42 : decode cX0_compares 42 = .ok (.getfield 18, 3) := dk_180 0 18 (dk_at dksX0_compares_1 20 rfl rfl)
theorem dX0_compares_45 : decode cX0_compares 45 = .ok (.getfield 130, 3) := dk_180 0 130 (dk_at dksX0_compares_2 0 rfl rfl)
theorem dX0_compares_48 : decode cX0_compares 48 = .ok (.iload_n 1, 1) := dk_27 (dk_at dksX0_compares_2 3 rfl rfl)
theorem dX0_compares_49 : decode cX0_compares 49 = .ok (.invokevirtual 133, 3) := dk_182 0 133 (dk_at dksX0_compares_2 4 rfl rfl)
theorem dX0_compares_52 : decode cX0_compares 52 = .ok (.checkcast 137, 3) := dk_192 0 137 (dk_at dksX0_compares_2 7 rfl rfl)
theorem dX0_compares_55 : decode cX0_compares 55 = .ok (.astore_n 3, 1) := dk_78 (dk_at dksX0_compares_2 10 rfl rfl)
theorem dX0_compares_56 : decode cX0_compares 56 = .ok (.aload_n 3, 1) := dk_45 (dk_at dksX0_compares_2 11 rfl rfl)
theorem dX0_compares_57 : decode cX0_compares 57 = .ok (.invokevirtual 229, 3) := dk_182 0 229 (dk_at dksX0_compares_2 12 rfl rfl)
theorem dX0_compares_60 : decode cX0_compares 60 = .ok (.istore 4, 2) := dk_54 4 (dk_at dksX0_compares_2 15 rfl rfl)
theorem dX0_compares_62 : decode cX0_compares 62 = .ok (.aload_n 3, 1) := dk_45 (dk_at dksX0_compares_2 17 rfl rfl)
theorem dX0_compares_63 : decode cX0_compares 63 = .ok (.iload_n 2, 1) := dk_28 (dk_at dksX0_compares_2 18 rfl rfl)
theorem dX0_compares_64 : decode cX0_compares 64 = .ok (.invokevirtual 232, 3) := dk_182 0 232 (dk_at dksX0_compares_2 19 rfl rfl)
theorem dX0_compares_67 : decode cX0_compares 67 = .ok (.aload_n 0, 1) := dk_42 (dk_at dksX0_compares_2 22 rfl rfl)
theorem dX0_compares_68 : decode cX0_compares 68 = .ok (.getfield 27, 3) := dk_180 0 27 (dk_at dksX0_compares_3 0 rfl rfl)
theorem dX0_compares_71 : decode cX0_compares 71 = .ok (.invokevirtual 175, 3) := dk_182 0 175 (dk_at dksX0_compares_3 3 rfl rfl)
theorem dX0_compares_74 : decode cX0_compares 74 = .ok (.pop, 1) := dk_87 (dk_at dksX0_compares_3 6 rfl rfl)
theorem dX0_compares_75 : decode cX0_compares 75 = .ok (.iconst 0, 1) := dk_3 (dk_at dksX0_compares_3 7 rfl rfl)
theorem dX0_compares_76 : decode cX0_compares 76 = .ok (.istore 5, 2) := dk_54 5 (dk_at dksX0_compares_3 8 rfl rfl)
theorem dX0_compares_78 : decode cX0_compares 78 = .ok (.iload 5, 2) := dk_21 5 (dk_at dksX0_compares_3 10 rfl rfl)
theorem dX0_compares_80 : decode cX0_compares 80 = .ok (.aload_n 0, 1) := dk_42 (dk_at dksX0_compares_3 12 rfl rfl)
theorem dX0_compares_81 : decode cX0_compares 81 = .ok (.getfield 18, 3) := dk_180 0 18 (dk_at dksX0_compares_3 13 rfl rfl)
theorem dX0_compares_84 : decode cX0_compares 84 = .ok (.invokevirtual 106, 3) := dk_182 0 106 (dk_at dksX0_compares_3 16 rfl rfl)
theorem dX0_compares_87 : decode cX0_compares 87 = .ok (.if_icmp .ge 33, 3) := dk_162 0 33 (dk_at dksX0_compares_3 19 rfl rfl)
theorem dX0_compares_90 : decode cX0_compares 90 = .ok (.aload_n 0, 1) := dk_42 (dk_at dksX0_compares_3 22 rfl rfl)
theorem dX0_compares_91 : decode cX0_compares 91 = .ok (.getfield 43, 3) := dk_180 0 43 (dk_at dksX0_compares_4 0 rfl rfl)
theorem dX0_compares_94 : decode cX0_compares 94 = .ok (.iload 5, 2) := dk_21 5 (dk_at dksX0_compares_4 3 rfl rfl)
theorem dX0_compares_96 : decode cX0_compares 96 = .ok (.aload_n 0, 1) := dk_42 (dk_at dksX0_compares_4 5 rfl rfl)
theorem dX0_compares_97 : decode cX0_compares 97 = .ok (.getfield 27, 3) := dk_180 0 27 (dk_at dksX0_compares_4 6 rfl rfl)
theorem dX0_compares_100 : decode cX0_compares 100 = .ok (.iload 5, 2) := dk_21 5 (dk_at dksX0_compares_4 9 rfl rfl)
theorem dX0_compares_102 : decode cX0_compares 102 = .ok (.invokevirtual 189, 3) := dk_182 0 189 (dk_at dksX0_compares_4 11 rfl rfl)
theorem dX0_compares_105 : decode cX0_compares 105 = .ok (.aload_n 0, 1) := dk_42 (dk_at dksX0_compares_4 14 rfl rfl)
theorem dX0_compares_106 : decode cX0_compares 106 = .ok (.getfield 43, 3) := dk_180 0 43 (dk_at dksX0_compares_4 15 rfl rfl)
theorem dX0_compares_109 : decode cX0_compares 109 = .ok (.iload 5, 2) := dk_21 5 (dk_at dksX0_compares_4 18 rfl rfl)
theorem dX0_compares_111 : decode cX0_compares 111 = .ok (.laload, 1) := dk_47 (dk_at dksX0_compares_4 20 rfl rfl)
theorem dX0_compares_112 : decode cX0_compares 112 = .ok (.lsub, 1) := dk_101 (dk_at dksX0_compares_4 21 rfl rfl)
theorem dX0_compares_113 : decode cX0_compares 113 = .ok (.lastore, 1) := dk_80 (dk_at dksX0_compares_4 22 rfl rfl)
theorem dX0_compares_114 : decode cX0_compares 114 = .ok (.iinc 5 1, 3) := dk_132 5 1 (dk_at dksX0_compares_5 0 rfl rfl)
theorem dX0_compares_117 : decode cX0_compares 117 = .ok (.goto (-39), 3) := dk_167 255 217 (dk_at dksX0_compares_5 3 rfl rfl)
theorem dX0_compares_120 : decode cX0_compares 120 = .ok (.aload_n 3, 1) := dk_45 (dk_at dksX0_compares_5 6 rfl rfl)
theorem dX0_compares_121 : decode cX0_compares 121 = .ok (.iload 4, 2) := dk_21 4 (dk_at dksX0_compares_5 7 rfl rfl)
theorem dX0_compares_123 : decode cX0_compares 123 = .ok (.invokevirtual 232, 3) := dk_182 0 232 (dk_at dksX0_compares_5 9 rfl rfl)
theorem dX0_compares_126 : decode cX0_compares 126 = .ok (.return_, 1) := dk_177 (dk_at dksX0_compares_5 12 rfl rfl)
abbrev cX0_worse : ByteArray := prog_1_method_55_code
def yX0_worse : MethodName := ⟨RX0, "worse", "(II)I"⟩
def dkwX0_worse_3 : List UInt8 := [132, 4, 1, 167, 255, 215, 29, 172]
abbrev dktX0_worse_3 : List UInt8 := dkwX0_worse_3 ++ []
def dkwX0_worse_2 : List UInt8 := [159, 0, 19, 42, 180, 0, 43, 21, 4, 47, 9, 148, 158, 0, 7, 4, 167, 0, 4, 3, 96, 62]
abbrev dktX0_worse_2 : List UInt8 := dkwX0_worse_2 ++ dktX0_worse_3
def dkwX0_worse_1 : List UInt8 := [182, 1, 21, 3, 62, 3, 54, 4, 21, 4, 42, 180, 0, 18, 182, 0, 106, 162, 0, 35, 29, 21, 4, 27]
abbrev dktX0_worse_1 : List UInt8 := dkwX0_worse_1 ++ dktX0_worse_2
def dkwX0_worse_0 : List UInt8 := [42, 27, 182, 0, 127, 153, 0, 11, 42, 28, 182, 0, 226, 154, 0, 6, 16, 254, 172, 42, 27, 28]
abbrev dktX0_worse_0 : List UInt8 := dkwX0_worse_0 ++ dktX0_worse_1
theorem dksX0_worse_0 : cX0_worse.data.toList.drop 0 = dktX0_worse_0 := by decide +kernel
theorem dksX0_worse_1 : cX0_worse.data.toList.drop 22 = dktX0_worse_1 := dk_seg dksX0_worse_0 22 rfl rfl
theorem dksX0_worse_2 : cX0_worse.data.toList.drop 46 = dktX0_worse_2 := dk_seg dksX0_worse_1 24 rfl rfl
theorem dksX0_worse_3 : cX0_worse.data.toList.drop 68 = dktX0_worse_3 := dk_seg dksX0_worse_2 22 rfl rfl
theorem dX0_worse_0 : decode cX0_worse 0 = .ok (.aload_n 0, 1) := dk_42 (dk_at dksX0_worse_0 0 rfl rfl)
theorem dX0_worse_1 : decode cX0_worse 1 = .ok (.iload_n 1, 1) := dk_27 (dk_at dksX0_worse_0 1 rfl rfl)
theorem dX0_worse_2 : decode cX0_worse 2 = .ok (.invokevirtual 127, 3) := dk_182 0 127 (dk_at dksX0_worse_0 2 rfl rfl)
theorem dX0_worse_5 : decode cX0_worse 5 = .ok (.ifCond .eq 11, 3) := dk_153 0 11 (dk_at dksX0_worse_0 5 rfl rfl)
theorem dX0_worse_8 : decode cX0_worse 8 = .ok (.aload_n 0, 1) := dk_42 (dk_at dksX0_worse_0 8 rfl rfl)
theorem dX0_worse_9 : decode cX0_worse 9 = .ok (.iload_n 2, 1) := dk_28 (dk_at dksX0_worse_0 9 rfl rfl)
theorem dX0_worse_10 : decode cX0_worse 10 = .ok (.invokevirtual 226, 3) := dk_182 0 226 (dk_at dksX0_worse_0 10 rfl rfl)
theorem dX0_worse_13 : decode cX0_worse 13 = .ok (.ifCond .ne 6, 3) := dk_154 0 6 (dk_at dksX0_worse_0 13 rfl rfl)
theorem dX0_worse_16 : decode cX0_worse 16 = .ok (.bipush (-2), 2) := dk_16 254 (dk_at dksX0_worse_0 16 rfl rfl)
theorem dX0_worse_18 : decode cX0_worse 18 = .ok (.ireturn, 1) := dk_172 (dk_at dksX0_worse_0 18 rfl rfl)
theorem dX0_worse_19 : decode cX0_worse 19 = .ok (.aload_n 0, 1) := dk_42 (dk_at dksX0_worse_0 19 rfl rfl)
theorem dX0_worse_20 : decode cX0_worse 20 = .ok (.iload_n 1, 1) := dk_27 (dk_at dksX0_worse_0 20 rfl rfl)
theorem dX0_worse_21 : decode cX0_worse 21 = .ok (.iload_n 2, 1) := dk_28 (dk_at dksX0_worse_0 21 rfl rfl)
theorem dX0_worse_22 : decode cX0_worse 22 = .ok (.invokevirtual 277, 3) := dk_182 1 21 (dk_at dksX0_worse_1 0 rfl rfl)
theorem dX0_worse_25 : decode cX0_worse 25 = .ok (.iconst 0, 1) := dk_3 (dk_at dksX0_worse_1 3 rfl rfl)
theorem dX0_worse_26 : decode cX0_worse 26 = .ok (.istore_n 3, 1) := dk_62 (dk_at dksX0_worse_1 4 rfl rfl)
theorem dX0_worse_27 : decode cX0_worse 27 = .ok (.iconst 0, 1) := dk_3 (dk_at dksX0_worse_1 5 rfl rfl)
theorem dX0_worse_28 : decode cX0_worse 28 = .ok (.istore 4, 2) := dk_54 4 (dk_at dksX0_worse_1 6 rfl rfl)
theorem dX0_worse_30 : decode cX0_worse 30 = .ok (.iload 4, 2) := dk_21 4 (dk_at dksX0_worse_1 8 rfl rfl)
theorem dX0_worse_32 : decode cX0_worse 32 = .ok (.aload_n 0, 1) := dk_42 (dk_at dksX0_worse_1 10 rfl rfl)
theorem dX0_worse_33 : decode cX0_worse 33 = .ok (.getfield 18, 3) := dk_180 0 18 (dk_at dksX0_worse_1 11 rfl rfl)
theorem dX0_worse_36 : decode cX0_worse 36 = .ok (.invokevirtual 106, 3) := dk_182 0 106 (dk_at dksX0_worse_1 14 rfl rfl)
theorem dX0_worse_39 : decode cX0_worse 39 = .ok (.if_icmp .ge 35, 3) := dk_162 0 35 (dk_at dksX0_worse_1 17 rfl rfl)
theorem dX0_worse_42 : decode cX0_worse 42 = .ok (.iload_n 3, 1) := dk_29 (dk_at dksX0_worse_1 20 rfl rfl)
theorem dX0_worse_43 : decode cX0_worse 43 = .ok (.iload 4, 2) := dk_21 4 (dk_at dksX0_worse_1 21 rfl rfl)
theorem dX0_worse_45 : decode cX0_worse 45 = .ok (.iload_n 1, 1) := dk_27 (dk_at dksX0_worse_1 23 rfl rfl)
theorem dX0_worse_46 : decode cX0_worse 46 = .ok (.if_icmp .eq 19, 3) := dk_159 0 19 (dk_at dksX0_worse_2 0 rfl rfl)
theorem dX0_worse_49 : decode cX0_worse 49 = .ok (.aload_n 0, 1) := dk_42 (dk_at dksX0_worse_2 3 rfl rfl)
theorem dX0_worse_50 : decode cX0_worse 50 = .ok (.getfield 43, 3) := dk_180 0 43 (dk_at dksX0_worse_2 4 rfl rfl)
theorem dX0_worse_53 : decode cX0_worse 53 = .ok (.iload 4, 2) := dk_21 4 (dk_at dksX0_worse_2 7 rfl rfl)
theorem dX0_worse_55 : decode cX0_worse 55 = .ok (.laload, 1) := dk_47 (dk_at dksX0_worse_2 9 rfl rfl)
theorem dX0_worse_56 : decode cX0_worse 56 = .ok (.lconst 0, 1) := dk_9 (dk_at dksX0_worse_2 10 rfl rfl)
theorem dX0_worse_57 : decode cX0_worse 57 = .ok (.lcmp, 1) := dk_148 (dk_at dksX0_worse_2 11 rfl rfl)
theorem dX0_worse_58 : decode cX0_worse 58 = .ok (.ifCond .le 7, 3) := dk_158 0 7 (dk_at dksX0_worse_2 12 rfl rfl)
theorem dX0_worse_61 : decode cX0_worse 61 = .ok (.iconst 1, 1) := dk_4 (dk_at dksX0_worse_2 15 rfl rfl)
theorem dX0_worse_62 : decode cX0_worse 62 = .ok (.goto 4, 3) := dk_167 0 4 (dk_at dksX0_worse_2 16 rfl rfl)
theorem dX0_worse_65 : decode cX0_worse 65 = .ok (.iconst 0, 1) := dk_3 (dk_at dksX0_worse_2 19 rfl rfl)
theorem dX0_worse_66 : decode cX0_worse 66 = .ok (.iadd, 1) := dk_96 (dk_at dksX0_worse_2 20 rfl rfl)
theorem dX0_worse_67 : decode cX0_worse 67 = .ok (.istore_n 3, 1) := dk_62 (dk_at dksX0_worse_2 21 rfl rfl)
theorem dX0_worse_68 : decode cX0_worse 68 = .ok (.iinc 4 1, 3) := dk_132 4 1 (dk_at dksX0_worse_3 0 rfl rfl)
theorem dX0_worse_71 : decode cX0_worse 71 = .ok (.goto (-41), 3) := dk_167 255 215 (dk_at dksX0_worse_3 3 rfl rfl)
theorem dX0_worse_74 : decode cX0_worse 74 = .ok (.iload_n 3, 1) := dk_29 (dk_at dksX0_worse_3 6 rfl rfl)
theorem dX0_worse_75 : decode cX0_worse 75 = .ok (.ireturn, 1) := dk_172 (dk_at dksX0_worse_3 7 rfl rfl)
abbrev cX0_next : ByteArray := prog_1_method_56_code
def yX0_next : MethodName := ⟨RX0, "next", "(II)I"⟩
def dkwX0_next_3 : List UInt8 := [21, 4, 47, 42, 180, 0, 43, 29, 47, 148, 158, 0, 6, 21, 4, 62, 132, 4, 1, 167, 255, 198, 29, 172]
abbrev dktX0_next_3 : List UInt8 := dkwX0_next_3 ++ []
def dkwX0_next_2 : List UInt8 := [159, 0, 40, 42, 180, 0, 43, 21, 4, 47, 9, 148, 158, 0, 28, 29, 2, 159, 0, 20, 42, 180, 0, 43]
abbrev dktX0_next_2 : List UInt8 := dkwX0_next_2 ++ dktX0_next_3
def dkwX0_next_1 : List UInt8 := [182, 1, 21, 2, 62, 3, 54, 4, 21, 4, 42, 180, 0, 18, 182, 0, 106, 162, 0, 52, 21, 4, 27]
abbrev dktX0_next_1 : List UInt8 := dkwX0_next_1 ++ dktX0_next_2
def dkwX0_next_0 : List UInt8 := [42, 27, 182, 0, 127, 153, 0, 11, 42, 28, 182, 0, 226, 154, 0, 6, 16, 254, 172, 42, 27, 28]
abbrev dktX0_next_0 : List UInt8 := dkwX0_next_0 ++ dktX0_next_1
theorem dksX0_next_0 : cX0_next.data.toList.drop 0 = dktX0_next_0 := by decide +kernel
theorem dksX0_next_1 : cX0_next.data.toList.drop 22 = dktX0_next_1 := dk_seg dksX0_next_0 22 rfl rfl
theorem dksX0_next_2 : cX0_next.data.toList.drop 45 = dktX0_next_2 := dk_seg dksX0_next_1 23 rfl rfl
theorem dksX0_next_3 : cX0_next.data.toList.drop 69 = dktX0_next_3 := dk_seg dksX0_next_2 24 rfl rfl
theorem dX0_next_0 : decode cX0_next 0 = .ok (.aload_n 0, 1) := dk_42 (dk_at dksX0_next_0 0 rfl rfl)
theorem dX0_next_1 : decode cX0_next 1 = .ok (.iload_n 1, 1) := dk_27 (dk_at dksX0_next_0 1 rfl rfl)
theorem dX0_next_2 : decode cX0_next 2 = .ok (.invokevirtual 127, 3) := dk_182 0 127 (dk_at dksX0_next_0 2 rfl rfl)
theorem dX0_next_5 : decode cX0_next 5 = .ok (.ifCond .eq 11, 3) := dk_153 0 11 (dk_at dksX0_next_0 5 rfl rfl)
theorem dX0_next_8 : decode cX0_next 8 = .ok (.aload_n 0, 1) := dk_42 (dk_at dksX0_next_0 8 rfl rfl)
theorem dX0_next_9 : decode cX0_next 9 = .ok (.iload_n 2, 1) := dk_28 (dk_at dksX0_next_0 9 rfl rfl)
theorem dX0_next_10 : decode cX0_next 10 = .ok (.invokevirtual 226, 3) := dk_182 0 226 (dk_at dksX0_next_0 10 rfl rfl)
theorem dX0_next_13 : decode cX0_next 13 = .ok (.ifCond .ne 6, 3) := dk_154 0 6 (dk_at dksX0_next_0 13 rfl rfl)
theorem dX0_next_16 : decode cX0_next 16 = .ok (.bipush (-2), 2) := dk_16 254 (dk_at dksX0_next_0 16 rfl rfl)
theorem dX0_next_18 : decode cX0_next 18 = .ok (.ireturn, 1) := dk_172 (dk_at dksX0_next_0 18 rfl rfl)
theorem dX0_next_19 : decode cX0_next 19 = .ok (.aload_n 0, 1) := dk_42 (dk_at dksX0_next_0 19 rfl rfl)
theorem dX0_next_20 : decode cX0_next 20 = .ok (.iload_n 1, 1) := dk_27 (dk_at dksX0_next_0 20 rfl rfl)
theorem dX0_next_21 : decode cX0_next 21 = .ok (.iload_n 2, 1) := dk_28 (dk_at dksX0_next_0 21 rfl rfl)
theorem dX0_next_22 : decode cX0_next 22 = .ok (.invokevirtual 277, 3) := dk_182 1 21 (dk_at dksX0_next_1 0 rfl rfl)
theorem dX0_next_25 : decode cX0_next 25 = .ok (.iconst (-1), 1) := dk_2 (dk_at dksX0_next_1 3 rfl rfl)
theorem dX0_next_26 : decode cX0_next 26 = .ok (.istore_n 3, 1) := dk_62 (dk_at dksX0_next_1 4 rfl rfl)
theorem dX0_next_27 : decode cX0_next 27 = .ok (.iconst 0, 1) := dk_3 (dk_at dksX0_next_1 5 rfl rfl)
theorem dX0_next_28 : decode cX0_next 28 = .ok (.istore 4, 2) := dk_54 4 (dk_at dksX0_next_1 6 rfl rfl)
theorem dX0_next_30 : decode cX0_next 30 = .ok (.iload 4, 2) := dk_21 4 (dk_at dksX0_next_1 8 rfl rfl)
theorem dX0_next_32 : decode cX0_next 32 = .ok (.aload_n 0, 1) := dk_42 (dk_at dksX0_next_1 10 rfl rfl)
theorem dX0_next_33 : decode cX0_next 33 = .ok (.getfield 18, 3) := dk_180 0 18 (dk_at dksX0_next_1 11 rfl rfl)
theorem dX0_next_36 : decode cX0_next 36 = .ok (.invokevirtual 106, 3) := dk_182 0 106 (dk_at dksX0_next_1 14 rfl rfl)
theorem dX0_next_39 : decode cX0_next 39 = .ok (.if_icmp .ge 52, 3) := dk_162 0 52 (dk_at dksX0_next_1 17 rfl rfl)
theorem dX0_next_42 : decode cX0_next 42 = .ok (.iload 4, 2) := dk_21 4 (dk_at dksX0_next_1 20 rfl rfl)
theorem dX0_next_44 : decode cX0_next 44 = .ok (.iload_n 1, 1) := dk_27 (dk_at dksX0_next_1 22 rfl rfl)
theorem dX0_next_45 : decode cX0_next 45 = .ok (.if_icmp .eq 40, 3) := dk_159 0 40 (dk_at dksX0_next_2 0 rfl rfl)
theorem dX0_next_48 : decode cX0_next 48 = .ok (.aload_n 0, 1) := dk_42 (dk_at dksX0_next_2 3 rfl rfl)
theorem dX0_next_49 : decode cX0_next 49 = .ok (.getfield 43, 3) := dk_180 0 43 (dk_at dksX0_next_2 4 rfl rfl)
theorem dX0_next_52 : decode cX0_next 52 = .ok (.iload 4, 2) := dk_21 4 (dk_at dksX0_next_2 7 rfl rfl)
theorem dX0_next_54 : decode cX0_next 54 = .ok (.laload, 1) := dk_47 (dk_at dksX0_next_2 9 rfl rfl)
theorem dX0_next_55 : decode cX0_next 55 = .ok (.lconst 0, 1) := dk_9 (dk_at dksX0_next_2 10 rfl rfl)
theorem dX0_next_56 : decode cX0_next 56 = .ok (.lcmp, 1) := dk_148 (dk_at dksX0_next_2 11 rfl rfl)
theorem dX0_next_57 : decode cX0_next 57 = .ok (.ifCond .le 28, 3) := dk_158 0 28 (dk_at dksX0_next_2 12 rfl rfl)
theorem dX0_next_60 : decode cX0_next 60 = .ok (.iload_n 3, 1) := dk_29 (dk_at dksX0_next_2 15 rfl rfl)
theorem dX0_next_61 : decode cX0_next 61 = .ok (.iconst (-1), 1) := dk_2 (dk_at dksX0_next_2 16 rfl rfl)
theorem dX0_next_62 : decode cX0_next 62 = .ok (.if_icmp .eq 20, 3) := dk_159 0 20 (dk_at dksX0_next_2 17 rfl rfl)
theorem dX0_next_65 : decode cX0_next 65 = .ok (.aload_n 0, 1) := dk_42 (dk_at dksX0_next_2 20 rfl rfl)
theorem dX0_next_66 : decode cX0_next 66 = .ok (.getfield 43, 3) := dk_180 0 43 (dk_at dksX0_next_2 21 rfl rfl)
theorem dX0_next_69 : decode cX0_next 69 = .ok (.iload 4, 2) := dk_21 4 (dk_at dksX0_next_3 0 rfl rfl)
theorem dX0_next_71 : decode cX0_next 71 = .ok (.laload, 1) := dk_47 (dk_at dksX0_next_3 2 rfl rfl)
theorem dX0_next_72 : decode cX0_next 72 = .ok (.aload_n 0, 1) := dk_42 (dk_at dksX0_next_3 3 rfl rfl)
theorem dX0_next_73 : decode cX0_next 73 = .ok (.getfield 43, 3) := dk_180 0 43 (dk_at dksX0_next_3 4 rfl rfl)
theorem dX0_next_76 : decode cX0_next 76 = .ok (.iload_n 3, 1) := dk_29 (dk_at dksX0_next_3 7 rfl rfl)
theorem dX0_next_77 : decode cX0_next 77 = .ok (.laload, 1) := dk_47 (dk_at dksX0_next_3 8 rfl rfl)
theorem dX0_next_78 : decode cX0_next 78 = .ok (.lcmp, 1) := dk_148 (dk_at dksX0_next_3 9 rfl rfl)
theorem dX0_next_79 : decode cX0_next 79 = .ok (.ifCond .le 6, 3) := dk_158 0 6 (dk_at dksX0_next_3 10 rfl rfl)
theorem dX0_next_82 : decode cX0_next 82 = .ok (.iload 4, 2) := dk_21 4 (dk_at dksX0_next_3 13 rfl rfl)
theorem dX0_next_84 : decode cX0_next 84 = .ok (.istore_n 3, 1) := dk_62 (dk_at dksX0_next_3 15 rfl rfl)
theorem dX0_next_85 : decode cX0_next 85 = .ok (.iinc 4 1, 3) := dk_132 4 1 (dk_at dksX0_next_3 16 rfl rfl)
theorem dX0_next_88 : decode cX0_next 88 = .ok (.goto (-58), 3) := dk_167 255 198 (dk_at dksX0_next_3 19 rfl rfl)
theorem dX0_next_91 : decode cX0_next 91 = .ok (.iload_n 3, 1) := dk_29 (dk_at dksX0_next_3 22 rfl rfl)
theorem dX0_next_92 : decode cX0_next 92 = .ok (.ireturn, 1) := dk_172 (dk_at dksX0_next_3 23 rfl rfl)
abbrev cX0_move : ByteArray := prog_1_method_57_code
def yX0_move : MethodName := ⟨RX0, "move", "(II)I"⟩
def dkwX0_move_3 : List UInt8 := [192, 0, 137, 28, 181, 0, 145, 21, 4, 172]
abbrev dktX0_move_3 : List UInt8 := dkwX0_move_3 ++ []
def dkwX0_move_2 : List UInt8 := [27, 182, 0, 133, 192, 0, 137, 180, 0, 145, 54, 4, 42, 180, 0, 18, 180, 0, 130, 27, 182, 0, 133]
abbrev dktX0_move_2 : List UInt8 := dkwX0_move_2 ++ dktX0_move_3
def dkwX0_move_1 : List UInt8 := [182, 1, 25, 62, 29, 2, 159, 0, 11, 29, 27, 159, 0, 6, 16, 251, 172, 42, 180, 0, 18, 180, 0, 130]
abbrev dktX0_move_1 : List UInt8 := dkwX0_move_1 ++ dktX0_move_2
def dkwX0_move_0 : List UInt8 := [42, 27, 182, 0, 127, 153, 0, 11, 42, 28, 182, 0, 119, 154, 0, 6, 16, 254, 172, 42, 180, 0, 18, 28]
abbrev dktX0_move_0 : List UInt8 := dkwX0_move_0 ++ dktX0_move_1
theorem dksX0_move_0 : cX0_move.data.toList.drop 0 = dktX0_move_0 := by decide +kernel
theorem dksX0_move_1 : cX0_move.data.toList.drop 24 = dktX0_move_1 := dk_seg dksX0_move_0 24 rfl rfl
theorem dksX0_move_2 : cX0_move.data.toList.drop 48 = dktX0_move_2 := dk_seg dksX0_move_1 24 rfl rfl
theorem dksX0_move_3 : cX0_move.data.toList.drop 71 = dktX0_move_3 := dk_seg dksX0_move_2 23 rfl rfl
theorem dX0_move_0 : decode cX0_move 0 = .ok (.aload_n 0, 1) := dk_42 (dk_at dksX0_move_0 0 rfl rfl)
theorem dX0_move_1 : decode cX0_move 1 = .ok (.iload_n 1, 1) := dk_27 (dk_at dksX0_move_0 1 rfl rfl)
theorem dX0_move_2 : decode cX0_move 2 = .ok (.invokevirtual 127, 3) := dk_182 0 127 (dk_at dksX0_move_0 2 rfl rfl)
theorem dX0_move_5 : decode cX0_move 5 = .ok (.ifCond .eq 11, 3) := dk_153 0 11 (dk_at dksX0_move_0 5 rfl rfl)
theorem dX0_move_8 : decode cX0_move 8 = .ok (.aload_n 0, 1) := dk_42 (dk_at dksX0_move_0 8 rfl rfl)
theorem dX0_move_9 : decode cX0_move 9 = .ok (.iload_n 2, 1) := dk_28 (dk_at dksX0_move_0 9 rfl rfl)
theorem dX0_move_10 : decode cX0_move 10 = .ok (.invokevirtual 119, 3) := dk_182 0 119 (dk_at dksX0_move_0 10 rfl rfl)
theorem dX0_move_13 : decode cX0_move 13 = .ok (.ifCond .ne 6, 3) := dk_154 0 6 (dk_at dksX0_move_0 13 rfl rfl)
theorem dX0_move_16 : decode cX0_move 16 = .ok (.bipush (-2), 2) := dk_16 254 (dk_at dksX0_move_0 16 rfl rfl)
theorem dX0_move_18 : decode cX0_move 18 = .ok (.ireturn, 1) := dk_172 (dk_at dksX0_move_0 18 rfl rfl)
theorem dX0_move_19 : decode cX0_move 19 = .ok (.aload_n 0, 1) := dk_42 (dk_at dksX0_move_0 19 rfl rfl)
theorem dX0_move_20 : decode cX0_move 20 = .ok (.getfield 18, 3) := dk_180 0 18 (dk_at dksX0_move_0 20 rfl rfl)
theorem dX0_move_23 : decode cX0_move 23 = .ok (.iload_n 2, 1) := dk_28 (dk_at dksX0_move_0 23 rfl rfl)
theorem dX0_move_24 : decode cX0_move 24 = .ok (.invokevirtual 281, 3) := dk_182 1 25 (dk_at dksX0_move_1 0 rfl rfl)
theorem dX0_move_27 : decode cX0_move 27 = .ok (.istore_n 3, 1) := dk_62 (dk_at dksX0_move_1 3 rfl rfl)
theorem dX0_move_28 : decode cX0_move 28 = .ok (.iload_n 3, 1) := dk_29 (dk_at dksX0_move_1 4 rfl rfl)
theorem dX0_move_29 : decode cX0_move 29 = .ok (.iconst (-1), 1) := dk_2 (dk_at dksX0_move_1 5 rfl rfl)
theorem dX0_move_30 : decode cX0_move 30 = .ok (.if_icmp .eq 11, 3) := dk_159 0 11 (dk_at dksX0_move_1 6 rfl rfl)
theorem dX0_move_33 : decode cX0_move 33 = .ok (.iload_n 3, 1) := dk_29 (dk_at dksX0_move_1 9 rfl rfl)
theorem dX0_move_34 : decode cX0_move 34 = .ok (.iload_n 1, 1) := dk_27 (dk_at dksX0_move_1 10 rfl rfl)
theorem dX0_move_35 : decode cX0_move 35 = .ok (.if_icmp .eq 6, 3) := dk_159 0 6 (dk_at dksX0_move_1 11 rfl rfl)
theorem dX0_move_38 : decode cX0_move 38 = .ok (.bipush (-5), 2) := dk_16 251 (dk_at dksX0_move_1 14 rfl rfl)
theorem dX0_move_40 : decode cX0_move 40 = .ok (.ireturn, 1) := dk_172 (dk_at dksX0_move_1 16 rfl rfl)
theorem dX0_move_41 : decode cX0_move 41 = .ok (.aload_n 0, 1) := dk_42 (dk_at dksX0_move_1 17 rfl rfl)
theorem dX0_move_42 : decode cX0_move 42 = .ok (.getfield 18, 3) := dk_180 0 18 (dk_at dksX0_move_1 18 rfl rfl)
theorem dX0_move_45 : decode cX0_move 45 = .ok (.getfield 130, 3) := dk_180 0 130 (dk_at dksX0_move_1 21 rfl rfl)
theorem dX0_move_48 : decode cX0_move 48 = .ok (.iload_n 1, 1) := dk_27 (dk_at dksX0_move_2 0 rfl rfl)
theorem dX0_move_49 : decode cX0_move 49 = .ok (.invokevirtual 133, 3) := dk_182 0 133 (dk_at dksX0_move_2 1 rfl rfl)
theorem dX0_move_52 : decode cX0_move 52 = .ok (.checkcast 137, 3) := dk_192 0 137 (dk_at dksX0_move_2 4 rfl rfl)
theorem dX0_move_55 : decode cX0_move 55 = .ok (.getfield 145, 3) := dk_180 0 145 (dk_at dksX0_move_2 7 rfl rfl)
theorem dX0_move_58 : decode cX0_move 58 = .ok (.istore 4, 2) := dk_54 4 (dk_at dksX0_move_2 10 rfl rfl)
theorem dX0_move_60 : decode cX0_move 60 = .ok (.aload_n 0, 1) := dk_42 (dk_at dksX0_move_2 12 rfl rfl)
theorem dX0_move_61 : decode cX0_move 61 = .ok (.getfield 18, 3) := dk_180 0 18 (dk_at dksX0_move_2 13 rfl rfl)
theorem dX0_move_64 : decode cX0_move 64 = .ok (.getfield 130, 3) := dk_180 0 130 (dk_at dksX0_move_2 16 rfl rfl)
theorem dX0_move_67 : decode cX0_move 67 = .ok (.iload_n 1, 1) := dk_27 (dk_at dksX0_move_2 19 rfl rfl)
theorem dX0_move_68 : decode cX0_move 68 = .ok (.invokevirtual 133, 3) := dk_182 0 133 (dk_at dksX0_move_2 20 rfl rfl)
theorem dX0_move_71 : decode cX0_move 71 = .ok (.checkcast 137, 3) := dk_192 0 137 (dk_at dksX0_move_3 0 rfl rfl)
theorem dX0_move_74 : decode cX0_move 74 = .ok (.iload_n 2, 1) := dk_28 (dk_at dksX0_move_3 3 rfl rfl)
theorem dX0_move_75 : decode cX0_move 75 = .ok (.putfield 145, 3) := dk_181 0 145 (dk_at dksX0_move_3 4 rfl rfl)
theorem dX0_move_78 : decode cX0_move 78 = .ok (.iload 4, 2) := dk_21 4 (dk_at dksX0_move_3 7 rfl rfl)
theorem dX0_move_80 : decode cX0_move 80 = .ok (.ireturn, 1) := dk_172 (dk_at dksX0_move_3 9 rfl rfl)
abbrev cX0_swap : ByteArray := prog_1_method_58_code
def yX0_swap : MethodName := ⟨RX0, "swap", "(II)I"⟩
def dkwX0_swap_4 : List UInt8 := [182, 0, 220, 33, 148, 156, 0, 7, 4, 167, 0, 4, 3, 172]
abbrev dktX0_swap_4 : List UInt8 := dkwX0_swap_4 ++ []
def dkwX0_swap_3 : List UInt8 := [181, 0, 145, 42, 180, 0, 18, 180, 0, 130, 28, 182, 0, 133, 192, 0, 137, 21, 5, 181, 0, 145, 42, 4]
abbrev dktX0_swap_3 : List UInt8 := dkwX0_swap_3 ++ dktX0_swap_4
def dkwX0_swap_2 : List UInt8 := [182, 0, 133, 192, 0, 137, 42, 180, 0, 18, 180, 0, 130, 28, 182, 0, 133, 192, 0, 137, 180, 0, 145]
abbrev dktX0_swap_2 : List UInt8 := dkwX0_swap_2 ++ dktX0_swap_3
def dkwX0_swap_1 : List UInt8 := [180, 0, 130, 27, 182, 0, 133, 192, 0, 137, 180, 0, 145, 54, 5, 42, 180, 0, 18, 180, 0, 130, 27]
abbrev dktX0_swap_1 : List UInt8 := dkwX0_swap_1 ++ dktX0_swap_2
def dkwX0_swap_0 : List UInt8 := [42, 27, 28, 182, 1, 15, 154, 0, 6, 16, 254, 172, 42, 4, 182, 0, 220, 66, 42, 180, 0, 18]
abbrev dktX0_swap_0 : List UInt8 := dkwX0_swap_0 ++ dktX0_swap_1
theorem dksX0_swap_0 : cX0_swap.data.toList.drop 0 = dktX0_swap_0 := by decide +kernel
theorem dksX0_swap_1 : cX0_swap.data.toList.drop 22 = dktX0_swap_1 := dk_seg dksX0_swap_0 22 rfl rfl
theorem dksX0_swap_2 : cX0_swap.data.toList.drop 45 = dktX0_swap_2 := dk_seg dksX0_swap_1 23 rfl rfl
theorem dksX0_swap_3 : cX0_swap.data.toList.drop 68 = dktX0_swap_3 := dk_seg dksX0_swap_2 23 rfl rfl
theorem dksX0_swap_4 : cX0_swap.data.toList.drop 92 = dktX0_swap_4 := dk_seg dksX0_swap_3 24 rfl rfl
theorem dX0_swap_0 : decode cX0_swap 0 = .ok (.aload_n 0, 1) := dk_42 (dk_at dksX0_swap_0 0 rfl rfl)
theorem dX0_swap_1 : decode cX0_swap 1 = .ok (.iload_n 1, 1) := dk_27 (dk_at dksX0_swap_0 1 rfl rfl)
theorem dX0_swap_2 : decode cX0_swap 2 = .ok (.iload_n 2, 1) := dk_28 (dk_at dksX0_swap_0 2 rfl rfl)
theorem dX0_swap_3 : decode cX0_swap 3 = .ok (.invokevirtual 271, 3) := dk_182 1 15 (dk_at dksX0_swap_0 3 rfl rfl)
theorem dX0_swap_6 : decode cX0_swap 6 = .ok (.ifCond .ne 6, 3) := dk_154 0 6 (dk_at dksX0_swap_0 6 rfl rfl)
theorem dX0_swap_9 : decode cX0_swap 9 = .ok (.bipush (-2), 2) := dk_16 254 (dk_at dksX0_swap_0 9 rfl rfl)
theorem dX0_swap_11 : decode cX0_swap 11 = .ok (.ireturn, 1) := dk_172 (dk_at dksX0_swap_0 11 rfl rfl)
theorem dX0_swap_12 : decode cX0_swap 12 = .ok (.aload_n 0, 1) := dk_42 (dk_at dksX0_swap_0 12 rfl rfl)
theorem dX0_swap_13 : decode cX0_swap 13 = .ok (.iconst 1, 1) := dk_4 (dk_at dksX0_swap_0 13 rfl rfl)
theorem dX0_swap_14 : decode cX0_swap 14 = .ok (.invokevirtual 220, 3) := dk_182 0 220 (dk_at dksX0_swap_0 14 rfl rfl)
theorem dX0_swap_17 : decode cX0_swap 17 = .ok (.lstore_n 3, 1) := dk_66 (dk_at dksX0_swap_0 17 rfl rfl)
theorem dX0_swap_18 : decode cX0_swap 18 = .ok (.aload_n 0, 1) := dk_42 (dk_at dksX0_swap_0 18 rfl rfl)
theorem dX0_swap_19 : decode cX0_swap 19 = .ok (.getfield 18, 3) := dk_180 0 18 (dk_at dksX0_swap_0 19 rfl rfl)
theorem dX0_swap_22 : decode cX0_swap 22 = .ok (.getfield 130, 3) := dk_180 0 130 (dk_at dksX0_swap_1 0 rfl rfl)
theorem dX0_swap_25 : decode cX0_swap 25 = .ok (.iload_n 1, 1) := dk_27 (dk_at dksX0_swap_1 3 rfl rfl)
theorem dX0_swap_26 : decode cX0_swap 26 = .ok (.invokevirtual 133, 3) := dk_182 0 133 (dk_at dksX0_swap_1 4 rfl rfl)
theorem dX0_swap_29 : decode cX0_swap 29 = .ok (.checkcast 137, 3) := dk_192 0 137 (dk_at dksX0_swap_1 7 rfl rfl)
theorem dX0_swap_32 : decode cX0_swap 32 = .ok (.getfield 145, 3) := dk_180 0 145 (dk_at dksX0_swap_1 10 rfl rfl)
theorem dX0_swap_35 : decode cX0_swap 35 = .ok (.istore 5, 2) := dk_54 5 (dk_at dksX0_swap_1 13 rfl rfl)
theorem dX0_swap_37 : decode cX0_swap 37 = .ok (.aload_n 0, 1) := dk_42 (dk_at dksX0_swap_1 15 rfl rfl)
theorem dX0_swap_38 : decode cX0_swap 38 = .ok (.getfield 18, 3) := dk_180 0 18 (dk_at dksX0_swap_1 16 rfl rfl)
theorem dX0_swap_41 : decode cX0_swap 41 = .ok (.getfield 130, 3) := dk_180 0 130 (dk_at dksX0_swap_1 19 rfl rfl)
theorem dX0_swap_44 : decode cX0_swap 44 = .ok (.iload_n 1, 1) := dk_27 (dk_at dksX0_swap_1 22 rfl rfl)
theorem dX0_swap_45 : decode cX0_swap 45 = .ok (.invokevirtual 133, 3) := dk_182 0 133 (dk_at dksX0_swap_2 0 rfl rfl)
theorem dX0_swap_48 : decode cX0_swap 48 = .ok (.checkcast 137, 3) := dk_192 0 137 (dk_at dksX0_swap_2 3 rfl rfl)
theorem dX0_swap_51 : decode cX0_swap 51 = .ok (.aload_n 0, 1) := dk_42 (dk_at dksX0_swap_2 6 rfl rfl)
theorem dX0_swap_52 : decode cX0_swap 52 = .ok (.getfield 18, 3) := dk_180 0 18 (dk_at dksX0_swap_2 7 rfl rfl)
theorem dX0_swap_55 : decode cX0_swap 55 = .ok (.getfield 130, 3) := dk_180 0 130 (dk_at dksX0_swap_2 10 rfl rfl)
theorem dX0_swap_58 : decode cX0_swap 58 = .ok (.iload_n 2, 1) := dk_28 (dk_at dksX0_swap_2 13 rfl rfl)
theorem dX0_swap_59 : decode cX0_swap 59 = .ok (.invokevirtual 133, 3) := dk_182 0 133 (dk_at dksX0_swap_2 14 rfl rfl)
theorem dX0_swap_62 : decode cX0_swap 62 = .ok (.checkcast 137, 3) := dk_192 0 137 (dk_at dksX0_swap_2 17 rfl rfl)
theorem dX0_swap_65 : decode cX0_swap 65 = .ok (.getfield 145, 3) := dk_180 0 145 (dk_at dksX0_swap_2 20 rfl rfl)
theorem dX0_swap_68 : decode cX0_swap 68 = .ok (.putfield 145, 3) := dk_181 0 145 (dk_at dksX0_swap_3 0 rfl rfl)
theorem dX0_swap_71 : decode cX0_swap 71 = .ok (.aload_n 0, 1) := dk_42 (dk_at dksX0_swap_3 3 rfl rfl)
theorem dX0_swap_72 : decode cX0_swap 72 = .ok (.getfield 18, 3) := dk_180 0 18 (dk_at dksX0_swap_3 4 rfl rfl)
theorem dX0_swap_75 : decode cX0_swap 75 = .ok (.getfield 130, 3) := dk_180 0 130 (dk_at dksX0_swap_3 7 rfl rfl)
theorem dX0_swap_78 : decode cX0_swap 78 = .ok (.iload_n 2, 1) := dk_28 (dk_at dksX0_swap_3 10 rfl rfl)
theorem dX0_swap_79 : decode cX0_swap 79 = .ok (.invokevirtual 133, 3) := dk_182 0 133 (dk_at dksX0_swap_3 11 rfl rfl)
theorem dX0_swap_82 : decode cX0_swap 82 = .ok (.checkcast 137, 3) := dk_192 0 137 (dk_at dksX0_swap_3 14 rfl rfl)
theorem dX0_swap_85 : decode cX0_swap 85 = .ok (.iload 5, 2) := dk_21 5 (dk_at dksX0_swap_3 17 rfl rfl)
theorem dX0_swap_87 : decode cX0_swap 87 = .ok (.putfield 145, 3) := dk_181 0 145 (dk_at dksX0_swap_3 19 rfl rfl)
theorem dX0_swap_90 : decode cX0_swap 90 = .ok (.aload_n 0, 1) := dk_42 (dk_at dksX0_swap_3 22 rfl rfl)
theorem dX0_swap_91 : decode cX0_swap 91 = .ok (.iconst 1, 1) := dk_4 (dk_at dksX0_swap_3 23 rfl rfl)
theorem dX0_swap_92 : decode cX0_swap 92 = .ok (.invokevirtual 220, 3) := dk_182 0 220 (dk_at dksX0_swap_4 0 rfl rfl)
theorem dX0_swap_95 : decode cX0_swap 95 = .ok (.lload_n 3, 1) := dk_33 (dk_at dksX0_swap_4 3 rfl rfl)
theorem dX0_swap_96 : decode cX0_swap 96 = .ok (.lcmp, 1) := dk_148 (dk_at dksX0_swap_4 4 rfl rfl)
theorem dX0_swap_97 : decode cX0_swap 97 = .ok (.ifCond .ge 7, 3) := dk_156 0 7 (dk_at dksX0_swap_4 5 rfl rfl)
theorem dX0_swap_100 : decode cX0_swap 100 = .ok (.iconst 1, 1) := dk_4 (dk_at dksX0_swap_4 8 rfl rfl)
theorem dX0_swap_101 : decode cX0_swap 101 = .ok (.goto 4, 3) := dk_167 0 4 (dk_at dksX0_swap_4 9 rfl rfl)
theorem dX0_swap_104 : decode cX0_swap 104 = .ok (.iconst 0, 1) := dk_3 (dk_at dksX0_swap_4 12 rfl rfl)
theorem dX0_swap_105 : decode cX0_swap 105 = .ok (.ireturn, 1) := dk_172 (dk_at dksX0_swap_4 13 rfl rfl)
abbrev cX0_where : ByteArray := prog_1_method_59_code
def yX0_where : MethodName := ⟨RX0, "where", "(I)I"⟩
def dkwX0_where_5 : List UInt8 := [22, 9, 55, 5, 132, 7, 1, 167, 255, 172, 21, 4, 172]
abbrev dktX0_where_5 : List UInt8 := dkwX0_where_5 ++ []
def dkwX0_where_4 : List UInt8 := [181, 0, 145, 21, 4, 2, 159, 0, 14, 22, 9, 22, 5, 148, 155, 0, 6, 167, 0, 11, 21, 7, 54, 4]
abbrev dktX0_where_4 : List UInt8 := dkwX0_where_4 ++ dktX0_where_5
def dkwX0_where_3 : List UInt8 := [21, 7, 29, 159, 0, 6, 167, 0, 46, 44, 21, 7, 181, 0, 145, 42, 27, 182, 0, 217, 55, 9, 44, 29]
abbrev dktX0_where_3 : List UInt8 := dkwX0_where_3 ++ dktX0_where_4
def dkwX0_where_2 : List UInt8 := [180, 0, 103, 162, 0, 78, 42, 180, 0, 18, 21, 7, 182, 1, 25, 54, 8, 21, 8, 2, 159, 0, 12]
abbrev dktX0_where_2 : List UInt8 := dkwX0_where_2 ++ dktX0_where_3
def dkwX0_where_1 : List UInt8 := [192, 0, 137, 77, 44, 180, 0, 145, 62, 2, 54, 4, 9, 55, 5, 3, 54, 7, 21, 7, 42, 180, 0, 18]
abbrev dktX0_where_1 : List UInt8 := dkwX0_where_1 ++ dktX0_where_2
def dkwX0_where_0 : List UInt8 := [42, 27, 182, 0, 127, 154, 0, 6, 16, 254, 172, 42, 180, 0, 18, 180, 0, 130, 27, 182, 0, 133]
abbrev dktX0_where_0 : List UInt8 := dkwX0_where_0 ++ dktX0_where_1
theorem dksX0_where_0 : cX0_where.data.toList.drop 0 = dktX0_where_0 := by decide +kernel
theorem dksX0_where_1 : cX0_where.data.toList.drop 22 = dktX0_where_1 := dk_seg dksX0_where_0 22 rfl rfl
theorem dksX0_where_2 : cX0_where.data.toList.drop 46 = dktX0_where_2 := dk_seg dksX0_where_1 24 rfl rfl
theorem dksX0_where_3 : cX0_where.data.toList.drop 69 = dktX0_where_3 := dk_seg dksX0_where_2 23 rfl rfl
theorem dksX0_where_4 : cX0_where.data.toList.drop 93 = dktX0_where_4 := dk_seg dksX0_where_3 24 rfl rfl
theorem dksX0_where_5 : cX0_where.data.toList.drop 117 = dktX0_where_5 := dk_seg dksX0_where_4 24 rfl rfl
theorem dX0_where_0 : decode cX0_where 0 = .ok (.aload_n 0, 1) := dk_42 (dk_at dksX0_where_0 0 rfl rfl)
theorem dX0_where_1 : decode cX0_where 1 = .ok (.iload_n 1, 1) := dk_27 (dk_at dksX0_where_0 1 rfl rfl)
theorem dX0_where_2 : decode cX0_where 2 = .ok (.invokevirtual 127, 3) := dk_182 0 127 (dk_at dksX0_where_0 2 rfl rfl)
theorem dX0_where_5 : decode cX0_where 5 = .ok (.ifCond .ne 6, 3) := dk_154 0 6 (dk_at dksX0_where_0 5 rfl rfl)
theorem dX0_where_8 : decode cX0_where 8 = .ok (.bipush (-2), 2) := dk_16 254 (dk_at dksX0_where_0 8 rfl rfl)
theorem dX0_where_10 : decode cX0_where 10 = .ok (.ireturn, 1) := dk_172 (dk_at dksX0_where_0 10 rfl rfl)
theorem dX0_where_11 : decode cX0_where 11 = .ok (.aload_n 0, 1) := dk_42 (dk_at dksX0_where_0 11 rfl rfl)
theorem dX0_where_12 : decode cX0_where 12 = .ok (.getfield 18, 3) := dk_180 0 18 (dk_at dksX0_where_0 12 rfl rfl)
theorem dX0_where_15 : decode cX0_where 15 = .ok (.getfield 130, 3) := dk_180 0 130 (dk_at dksX0_where_0 15 rfl rfl)
theorem dX0_where_18 : decode cX0_where 18 = .ok (.iload_n 1, 1) := dk_27 (dk_at dksX0_where_0 18 rfl rfl)
theorem dX0_where_19 : decode cX0_where 19 = .ok (.invokevirtual 133, 3) := dk_182 0 133 (dk_at dksX0_where_0 19 rfl rfl)
theorem dX0_where_22 : decode cX0_where 22 = .ok (.checkcast 137, 3) := dk_192 0 137 (dk_at dksX0_where_1 0 rfl rfl)
theorem dX0_where_25 : decode cX0_where 25 = .ok (.astore_n 2, 1) := dk_77 (dk_at dksX0_where_1 3 rfl rfl)
theorem dX0_where_26 : decode cX0_where 26 = .ok (.aload_n 2, 1) := dk_44 (dk_at dksX0_where_1 4 rfl rfl)
theorem dX0_where_27 : decode cX0_where 27 = .ok (.getfield 145, 3) := dk_180 0 145 (dk_at dksX0_where_1 5 rfl rfl)
theorem dX0_where_30 : decode cX0_where 30 = .ok (.istore_n 3, 1) := dk_62 (dk_at dksX0_where_1 8 rfl rfl)
theorem dX0_where_31 : decode cX0_where 31 = .ok (.iconst (-1), 1) := dk_2 (dk_at dksX0_where_1 9 rfl rfl)
theorem dX0_where_32 : decode cX0_where 32 = .ok (.istore 4, 2) := dk_54 4 (dk_at dksX0_where_1 10 rfl rfl)
theorem dX0_where_34 : decode cX0_where 34 = .ok (.lconst 0, 1) := dk_9 (dk_at dksX0_where_1 12 rfl rfl)
theorem dX0_where_35 : decode cX0_where 35 = .ok (.lstore 5, 2) := dk_55 5 (dk_at dksX0_where_1 13 rfl rfl)
theorem dX0_where_37 : decode cX0_where 37 = .ok (.iconst 0, 1) := dk_3 (dk_at dksX0_where_1 15 rfl rfl)
theorem dX0_where_38 : decode cX0_where 38 = .ok (.istore 7, 2) := dk_54 7 (dk_at dksX0_where_1 16 rfl rfl)
theorem dX0_where_40 : decode cX0_where 40 = .ok (.iload 7, 2) := dk_21 7 (dk_at dksX0_where_1 18 rfl rfl)
theorem dX0_where_42 : decode cX0_where 42 = .ok (.aload_n 0, 1) := dk_42 (dk_at dksX0_where_1 20 rfl rfl)
theorem dX0_where_43 : decode cX0_where 43 = .ok (.getfield 18, 3) := dk_180 0 18 (dk_at dksX0_where_1 21 rfl rfl)
theorem dX0_where_46 : decode cX0_where 46 = .ok (.getfield 103, 3) := dk_180 0 103 (dk_at dksX0_where_2 0 rfl rfl)
theorem dX0_where_49 : decode cX0_where 49 = .ok (.if_icmp .ge 78, 3) := dk_162 0 78 (dk_at dksX0_where_2 3 rfl rfl)
theorem dX0_where_52 : decode cX0_where 52 = .ok (.aload_n 0, 1) := dk_42 (dk_at dksX0_where_2 6 rfl rfl)
theorem dX0_where_53 : decode cX0_where 53 = .ok (.getfield 18, 3) := dk_180 0 18 (dk_at dksX0_where_2 7 rfl rfl)
theorem dX0_where_56 : decode cX0_where 56 = .ok (.iload 7, 2) := dk_21 7 (dk_at dksX0_where_2 10 rfl rfl)
theorem dX0_where_58 : decode cX0_where 58 = .ok (.invokevirtual 281, 3) := dk_182 1 25 (dk_at dksX0_where_2 12 rfl rfl)
theorem dX0_where_61 : decode cX0_where 61 = .ok (.istore 8, 2) := dk_54 8 (dk_at dksX0_where_2 15 rfl rfl)
theorem dX0_where_63 : decode cX0_where 63 = .ok (.iload 8, 2) := dk_21 8 (dk_at dksX0_where_2 17 rfl rfl)
theorem dX0_where_65 : decode cX0_where 65 = .ok (.iconst (-1), 1) := dk_2 (dk_at dksX0_where_2 19 rfl rfl)
theorem dX0_where_66 : decode cX0_where 66 = .ok (.if_icmp .eq 12, 3) := dk_159 0 12 (dk_at dksX0_where_2 20 rfl rfl)
theorem dX0_where_69 : decode cX0_where 69 = .ok (.iload 7, 2) := dk_21 7 (dk_at dksX0_where_3 0 rfl rfl)
theorem dX0_where_71 : decode cX0_where 71 = .ok (.iload_n 3, 1) := dk_29 (dk_at dksX0_where_3 2 rfl rfl)
theorem dX0_where_72 : decode cX0_where 72 = .ok (.if_icmp .eq 6, 3) := dk_159 0 6 (dk_at dksX0_where_3 3 rfl rfl)
theorem dX0_where_75 : decode cX0_where 75 = .ok (.goto 46, 3) := dk_167 0 46 (dk_at dksX0_where_3 6 rfl rfl)
theorem dX0_where_78 : decode cX0_where 78 = .ok (.aload_n 2, 1) := dk_44 (dk_at dksX0_where_3 9 rfl rfl)
theorem dX0_where_79 : decode cX0_where 79 = .ok (.iload 7, 2) := dk_21 7 (dk_at dksX0_where_3 10 rfl rfl)
theorem dX0_where_81 : decode cX0_where 81 = .ok (.putfield 145, 3) := dk_181 0 145 (dk_at dksX0_where_3 12 rfl rfl)
theorem dX0_where_84 : decode cX0_where 84 = .ok (.aload_n 0, 1) := dk_42 (dk_at dksX0_where_3 15 rfl rfl)
theorem dX0_where_85 : decode cX0_where 85 = .ok (.iload_n 1, 1) := dk_27 (dk_at dksX0_where_3 16 rfl rfl)
theorem dX0_where_86 : decode cX0_where 86 = .ok (.invokevirtual 217, 3) := dk_182 0 217 (dk_at dksX0_where_3 17 rfl rfl)
theorem dX0_where_89 : decode cX0_where 89 = .ok (.lstore 9, 2) := dk_55 9 (dk_at dksX0_where_3 20 rfl rfl)
theorem dX0_where_91 : decode cX0_where 91 = .ok (.aload_n 2, 1) := dk_44 (dk_at dksX0_where_3 22 rfl rfl)
theorem dX0_where_92 : decode cX0_where 92 = .ok (.iload_n 3, 1) := dk_29 (dk_at dksX0_where_3 23 rfl rfl)
theorem dX0_where_93 : decode cX0_where 93 = .ok (.putfield 145, 3) := dk_181 0 145 (dk_at dksX0_where_4 0 rfl rfl)
theorem dX0_where_96 : decode cX0_where 96 = .ok (.iload 4, 2) := dk_21 4 (dk_at dksX0_where_4 3 rfl rfl)
theorem dX0_where_98 : decode cX0_where 98 = .ok (.iconst (-1), 1) := dk_2 (dk_at dksX0_where_4 5 rfl rfl)
theorem dX0_where_99 : decode cX0_where 99 = .ok (.if_icmp .eq 14, 3) := dk_159 0 14 (dk_at dksX0_where_4 6 rfl rfl)
theorem dX0_where_102 : decode cX0_where 102 = .ok (.lload 9, 2) := dk_22 9 (dk_at dksX0_where_4 9 rfl rfl)
theorem dX0_where_104 : decode cX0_where 104 = .ok (.lload 5, 2) := dk_22 5 (dk_at dksX0_where_4 11 rfl rfl)
theorem dX0_where_106 : decode cX0_where 106 = .ok (.lcmp, 1) := dk_148 (dk_at dksX0_where_4 13 rfl rfl)
theorem dX0_where_107 : decode cX0_where 107 = .ok (.ifCond .lt 6, 3) := dk_155 0 6 (dk_at dksX0_where_4 14 rfl rfl)
theorem dX0_where_110 : decode cX0_where 110 = .ok (.goto 11, 3) := dk_167 0 11 (dk_at dksX0_where_4 17 rfl rfl)
theorem dX0_where_113 : decode cX0_where 113 = .ok (.iload 7, 2) := dk_21 7 (dk_at dksX0_where_4 20 rfl rfl)
theorem dX0_where_115 : decode cX0_where 115 = .ok (.istore 4, 2) := dk_54 4 (dk_at dksX0_where_4 22 rfl rfl)
theorem dX0_where_117 : decode cX0_where 117 = .ok (.lload 9, 2) := dk_22 9 (dk_at dksX0_where_5 0 rfl rfl)
theorem dX0_where_119 : decode cX0_where 119 = .ok (.lstore 5, 2) := dk_55 5 (dk_at dksX0_where_5 2 rfl rfl)
theorem dX0_where_121 : decode cX0_where 121 = .ok (.iinc 7 1, 3) := dk_132 7 1 (dk_at dksX0_where_5 4 rfl rfl)
theorem dX0_where_124 : decode cX0_where 124 = .ok (.goto (-84), 3) := dk_167 255 172 (dk_at dksX0_where_5 7 rfl rfl)
theorem dX0_where_127 : decode cX0_where 127 = .ok (.iload 4, 2) := dk_21 4 (dk_at dksX0_where_5 10 rfl rfl)
theorem dX0_where_129 : decode cX0_where 129 = .ok (.ireturn, 1) := dk_172 (dk_at dksX0_where_5 12 rfl rfl)
abbrev cX0_lamp : ByteArray := prog_1_method_61_code
def yX0_lamp : MethodName := ⟨RX0, "lamp", "(I)I"⟩
def dkwX0_lamp_3 : List UInt8 := [132, 5, 1, 167, 255, 216, 28, 172]
abbrev dktX0_lamp_3 : List UInt8 := dkwX0_lamp_3 ++ []
def dkwX0_lamp_2 : List UInt8 := [21, 5, 27, 182, 1, 36, 55, 6, 22, 6, 33, 148, 155, 0, 6, 167, 0, 9, 21, 5, 61, 22, 6, 66]
abbrev dktX0_lamp_2 : List UInt8 := dkwX0_lamp_2 ++ dktX0_lamp_3
def dkwX0_lamp_1 : List UInt8 := [42, 3, 27, 182, 1, 36, 66, 4, 54, 5, 21, 5, 42, 180, 0, 18, 180, 0, 103, 162, 0, 34, 42]
abbrev dktX0_lamp_1 : List UInt8 := dkwX0_lamp_1 ++ dktX0_lamp_2
def dkwX0_lamp_0 : List UInt8 := [42, 182, 0, 171, 153, 0, 15, 27, 133, 9, 20, 1, 34, 184, 0, 5, 154, 0, 6, 16, 254, 172, 3, 61]
abbrev dktX0_lamp_0 : List UInt8 := dkwX0_lamp_0 ++ dktX0_lamp_1
theorem dksX0_lamp_0 : cX0_lamp.data.toList.drop 0 = dktX0_lamp_0 := by decide +kernel
theorem dksX0_lamp_1 : cX0_lamp.data.toList.drop 24 = dktX0_lamp_1 := dk_seg dksX0_lamp_0 24 rfl rfl
theorem dksX0_lamp_2 : cX0_lamp.data.toList.drop 47 = dktX0_lamp_2 := dk_seg dksX0_lamp_1 23 rfl rfl
theorem dksX0_lamp_3 : cX0_lamp.data.toList.drop 71 = dktX0_lamp_3 := dk_seg dksX0_lamp_2 24 rfl rfl
theorem dX0_lamp_0 : decode cX0_lamp 0 = .ok (.aload_n 0, 1) := dk_42 (dk_at dksX0_lamp_0 0 rfl rfl)
theorem dX0_lamp_1 : decode cX0_lamp 1 = .ok (.invokevirtual 171, 3) := dk_182 0 171 (dk_at dksX0_lamp_0 1 rfl rfl)
theorem dX0_lamp_4 : decode cX0_lamp 4 = .ok (.ifCond .eq 15, 3) := dk_153 0 15 (dk_at dksX0_lamp_0 4 rfl rfl)
theorem dX0_lamp_7 : decode cX0_lamp 7 = .ok (.iload_n 1, 1) := dk_27 (dk_at dksX0_lamp_0 7 rfl rfl)
theorem dX0_lamp_8 : decode cX0_lamp 8 = .ok (.i2l, 1) := dk_133 (dk_at dksX0_lamp_0 8 rfl rfl)
theorem dX0_lamp_9 : decode cX0_lamp 9 = .ok (.lconst 0, 1) := dk_9 (dk_at dksX0_lamp_0 9 rfl rfl)
theorem dX0_lamp_10 : decode cX0_lamp 10 = .ok (.ldc2_w 290, 3) := dk_20 1 34 (dk_at dksX0_lamp_0 10 rfl rfl)
theorem dX0_lamp_13 : decode cX0_lamp 13 = .ok (.invokestatic 5, 3) := dk_184 0 5 (dk_at dksX0_lamp_0 13 rfl rfl)
theorem dX0_lamp_16 : decode cX0_lamp 16 = .ok (.ifCond .ne 6, 3) := dk_154 0 6 (dk_at dksX0_lamp_0 16 rfl rfl)
theorem dX0_lamp_19 : decode cX0_lamp 19 = .ok (.bipush (-2), 2) := dk_16 254 (dk_at dksX0_lamp_0 19 rfl rfl)
theorem dX0_lamp_21 : decode cX0_lamp 21 = .ok (.ireturn, 1) := dk_172 (dk_at dksX0_lamp_0 21 rfl rfl)
theorem dX0_lamp_22 : decode cX0_lamp 22 = .ok (.iconst 0, 1) := dk_3 (dk_at dksX0_lamp_0 22 rfl rfl)
theorem dX0_lamp_23 : decode cX0_lamp 23 = .ok (.istore_n 2, 1) := dk_61 (dk_at dksX0_lamp_0 23 rfl rfl)
theorem dX0_lamp_24 : decode cX0_lamp 24 = .ok (.aload_n 0, 1) := dk_42 (dk_at dksX0_lamp_1 0 rfl rfl)
theorem dX0_lamp_25 : decode cX0_lamp 25 = .ok (.iconst 0, 1) := dk_3 (dk_at dksX0_lamp_1 1 rfl rfl)
theorem dX0_lamp_26 : decode cX0_lamp 26 = .ok (.iload_n 1, 1) := dk_27 (dk_at dksX0_lamp_1 2 rfl rfl)
theorem dX0_lamp_27 : decode cX0_lamp 27 = .ok (.invokevirtual 292, 3) := dk_182 1 36 (dk_at dksX0_lamp_1 3 rfl rfl)
theorem dX0_lamp_30 : decode cX0_lamp 30 = .ok (.lstore_n 3, 1) := dk_66 (dk_at dksX0_lamp_1 6 rfl rfl)
theorem dX0_lamp_31 : decode cX0_lamp 31 = .ok (.iconst 1, 1) := dk_4 (dk_at dksX0_lamp_1 7 rfl rfl)
theorem dX0_lamp_32 : decode cX0_lamp 32 = .ok (.istore 5, 2) := dk_54 5 (dk_at dksX0_lamp_1 8 rfl rfl)
theorem dX0_lamp_34 : decode cX0_lamp 34 = .ok (.iload 5, 2) := dk_21 5 (dk_at dksX0_lamp_1 10 rfl rfl)
theorem dX0_lamp_36 : decode cX0_lamp 36 = .ok (.aload_n 0, 1) := dk_42 (dk_at dksX0_lamp_1 12 rfl rfl)
theorem dX0_lamp_37 : decode cX0_lamp 37 = .ok (.getfield 18, 3) := dk_180 0 18 (dk_at dksX0_lamp_1 13 rfl rfl)
theorem dX0_lamp_40 : decode cX0_lamp 40 = .ok (.getfield 103, 3) := dk_180 0 103 (dk_at dksX0_lamp_1 16 rfl rfl)
theorem dX0_lamp_43 : decode cX0_lamp 43 = .ok (.if_icmp .ge 34, 3) := dk_162 0 34 (dk_at dksX0_lamp_1 19 rfl rfl)
theorem dX0_lamp_46 : decode cX0_lamp 46 = .ok (.aload_n 0, 1) := dk_42 (dk_at dksX0_lamp_1 22 rfl rfl)
theorem dX0_lamp_47 : decode cX0_lamp 47 = .ok (.iload 5, 2) := dk_21 5 (dk_at dksX0_lamp_2 0 rfl rfl)
theorem dX0_lamp_49 : decode cX0_lamp 49 = .ok (.iload_n 1, 1) := dk_27 (dk_at dksX0_lamp_2 2 rfl rfl)
theorem dX0_lamp_50 : decode cX0_lamp 50 = .ok (.invokevirtual 292, 3) := dk_182 1 36 (dk_at dksX0_lamp_2 3 rfl rfl)
theorem dX0_lamp_53 : decode cX0_lamp 53 = .ok (.lstore 6, 2) := dk_55 6 (dk_at dksX0_lamp_2 6 rfl rfl)
theorem dX0_lamp_55 : decode cX0_lamp 55 = .ok (.lload 6, 2) := dk_22 6 (dk_at dksX0_lamp_2 8 rfl rfl)
theorem dX0_lamp_57 : decode cX0_lamp 57 = .ok (.lload_n 3, 1) := dk_33 (dk_at dksX0_lamp_2 10 rfl rfl)
theorem dX0_lamp_58 : decode cX0_lamp 58 = .ok (.lcmp, 1) := dk_148 (dk_at dksX0_lamp_2 11 rfl rfl)
theorem dX0_lamp_59 : decode cX0_lamp 59 = .ok (.ifCond .lt 6, 3) := dk_155 0 6 (dk_at dksX0_lamp_2 12 rfl rfl)
theorem dX0_lamp_62 : decode cX0_lamp 62 = .ok (.goto 9, 3) := dk_167 0 9 (dk_at dksX0_lamp_2 15 rfl rfl)
theorem dX0_lamp_65 : decode cX0_lamp 65 = .ok (.iload 5, 2) := dk_21 5 (dk_at dksX0_lamp_2 18 rfl rfl)
theorem dX0_lamp_67 : decode cX0_lamp 67 = .ok (.istore_n 2, 1) := dk_61 (dk_at dksX0_lamp_2 20 rfl rfl)
theorem dX0_lamp_68 : decode cX0_lamp 68 = .ok (.lload 6, 2) := dk_22 6 (dk_at dksX0_lamp_2 21 rfl rfl)
theorem dX0_lamp_70 : decode cX0_lamp 70 = .ok (.lstore_n 3, 1) := dk_66 (dk_at dksX0_lamp_2 23 rfl rfl)
theorem dX0_lamp_71 : decode cX0_lamp 71 = .ok (.iinc 5 1, 3) := dk_132 5 1 (dk_at dksX0_lamp_3 0 rfl rfl)
theorem dX0_lamp_74 : decode cX0_lamp 74 = .ok (.goto (-40), 3) := dk_167 255 216 (dk_at dksX0_lamp_3 3 rfl rfl)
theorem dX0_lamp_77 : decode cX0_lamp 77 = .ok (.iload_n 2, 1) := dk_28 (dk_at dksX0_lamp_3 6 rfl rfl)
theorem dX0_lamp_78 : decode cX0_lamp 78 = .ok (.ireturn, 1) := dk_172 (dk_at dksX0_lamp_3 7 rfl rfl)
abbrev cX0_litBy : ByteArray := prog_1_method_60_code
def yX0_litBy : MethodName := ⟨RX0, "litBy", "(II)J"⟩
def dkwX0_litBy_1 : List UInt8 := [180, 0, 18, 2, 181, 1, 28, 33, 173]
abbrev dktX0_litBy_1 : List UInt8 := dkwX0_litBy_1 ++ []
def dkwX0_litBy_0 : List UInt8 := [42, 180, 0, 18, 27, 181, 1, 28, 42, 180, 0, 18, 28, 181, 1, 31, 42, 4, 182, 0, 220, 66, 42]
abbrev dktX0_litBy_0 : List UInt8 := dkwX0_litBy_0 ++ dktX0_litBy_1
theorem dksX0_litBy_0 : cX0_litBy.data.toList.drop 0 = dktX0_litBy_0 := by decide +kernel
theorem dksX0_litBy_1 : cX0_litBy.data.toList.drop 23 = dktX0_litBy_1 := dk_seg dksX0_litBy_0 23 rfl rfl
theorem dX0_litBy_0 : decode cX0_litBy 0 = .ok (.aload_n 0, 1) := dk_42 (dk_at dksX0_litBy_0 0 rfl rfl)
theorem dX0_litBy_1 : decode cX0_litBy 1 = .ok (.getfield 18, 3) := dk_180 0 18 (dk_at dksX0_litBy_0 1 rfl rfl)
theorem dX0_litBy_4 : decode cX0_litBy 4 = .ok (.iload_n 1, 1) := dk_27 (dk_at dksX0_litBy_0 4 rfl rfl)
theorem dX0_litBy_5 : decode cX0_litBy 5 = .ok (.putfield 284, 3) := dk_181 1 28 (dk_at dksX0_litBy_0 5 rfl rfl)
theorem dX0_litBy_8 : decode cX0_litBy 8 = .ok (.aload_n 0, 1) := dk_42 (dk_at dksX0_litBy_0 8 rfl rfl)
theorem dX0_litBy_9 : decode cX0_litBy 9 = .ok (.getfield 18, 3) := dk_180 0 18 (dk_at dksX0_litBy_0 9 rfl rfl)
theorem dX0_litBy_12 : decode cX0_litBy 12 = .ok (.iload_n 2, 1) := dk_28 (dk_at dksX0_litBy_0 12 rfl rfl)
theorem dX0_litBy_13 : decode cX0_litBy 13 = .ok (.putfield 287, 3) := dk_181 1 31 (dk_at dksX0_litBy_0 13 rfl rfl)
theorem dX0_litBy_16 : decode cX0_litBy 16 = .ok (.aload_n 0, 1) := dk_42 (dk_at dksX0_litBy_0 16 rfl rfl)
theorem dX0_litBy_17 : decode cX0_litBy 17 = .ok (.iconst 1, 1) := dk_4 (dk_at dksX0_litBy_0 17 rfl rfl)
theorem dX0_litBy_18 : decode cX0_litBy 18 = .ok (.invokevirtual 220, 3) := dk_182 0 220 (dk_at dksX0_litBy_0 18 rfl rfl)
theorem dX0_litBy_21 : decode cX0_litBy 21 = .ok (.lstore_n 3, 1) := dk_66 (dk_at dksX0_litBy_0 21 rfl rfl)
theorem dX0_litBy_22 : decode cX0_litBy 22 = .ok (.aload_n 0, 1) := dk_42 (dk_at dksX0_litBy_0 22 rfl rfl)
theorem dX0_litBy_23 : decode cX0_litBy 23 = .ok (.getfield 18, 3) := dk_180 0 18 (dk_at dksX0_litBy_1 0 rfl rfl)
theorem dX0_litBy_26 : decode cX0_litBy 26 = .ok (.iconst (-1), 1) := dk_2 (dk_at dksX0_litBy_1 3 rfl rfl)
theorem dX0_litBy_27 : decode cX0_litBy 27 = .ok (.putfield 284, 3) := dk_181 1 28 (dk_at dksX0_litBy_1 4 rfl rfl)
theorem dX0_litBy_30 : decode cX0_litBy 30 = .ok (.lload_n 3, 1) := dk_33 (dk_at dksX0_litBy_1 7 rfl rfl)
theorem dX0_litBy_31 : decode cX0_litBy 31 = .ok (.lreturn, 1) := dk_173 (dk_at dksX0_litBy_1 8 rfl rfl)
abbrev cX0_lit : ByteArray := prog_1_method_62_code
def yX0_lit : MethodName := ⟨RX0, "lit", "(II)J"⟩
def dkwX0_lit_1 : List UInt8 := [182, 1, 36, 167, 0, 6, 20, 0, 182, 173]
abbrev dktX0_lit_1 : List UInt8 := dkwX0_lit_1 ++ []
def dkwX0_lit_0 : List UInt8 := [42, 27, 182, 0, 119, 153, 0, 24, 28, 133, 9, 20, 1, 34, 184, 0, 5, 153, 0, 12, 42, 27, 28]
abbrev dktX0_lit_0 : List UInt8 := dkwX0_lit_0 ++ dktX0_lit_1
theorem dksX0_lit_0 : cX0_lit.data.toList.drop 0 = dktX0_lit_0 := by decide +kernel
theorem dksX0_lit_1 : cX0_lit.data.toList.drop 23 = dktX0_lit_1 := dk_seg dksX0_lit_0 23 rfl rfl
theorem dX0_lit_0 : decode cX0_lit 0 = .ok (.aload_n 0, 1) := dk_42 (dk_at dksX0_lit_0 0 rfl rfl)
theorem dX0_lit_1 : decode cX0_lit 1 = .ok (.iload_n 1, 1) := dk_27 (dk_at dksX0_lit_0 1 rfl rfl)
theorem dX0_lit_2 : decode cX0_lit 2 = .ok (.invokevirtual 119, 3) := dk_182 0 119 (dk_at dksX0_lit_0 2 rfl rfl)
theorem dX0_lit_5 : decode cX0_lit 5 = .ok (.ifCond .eq 24, 3) := dk_153 0 24 (dk_at dksX0_lit_0 5 rfl rfl)
theorem dX0_lit_8 : decode cX0_lit 8 = .ok (.iload_n 2, 1) := dk_28 (dk_at dksX0_lit_0 8 rfl rfl)
theorem dX0_lit_9 : decode cX0_lit 9 = .ok (.i2l, 1) := dk_133 (dk_at dksX0_lit_0 9 rfl rfl)
theorem dX0_lit_10 : decode cX0_lit 10 = .ok (.lconst 0, 1) := dk_9 (dk_at dksX0_lit_0 10 rfl rfl)
theorem dX0_lit_11 : decode cX0_lit 11 = .ok (.ldc2_w 290, 3) := dk_20 1 34 (dk_at dksX0_lit_0 11 rfl rfl)
theorem dX0_lit_14 : decode cX0_lit 14 = .ok (.invokestatic 5, 3) := dk_184 0 5 (dk_at dksX0_lit_0 14 rfl rfl)
theorem dX0_lit_17 : decode cX0_lit 17 = .ok (.ifCond .eq 12, 3) := dk_153 0 12 (dk_at dksX0_lit_0 17 rfl rfl)
theorem dX0_lit_20 : decode cX0_lit 20 = .ok (.aload_n 0, 1) := dk_42 (dk_at dksX0_lit_0 20 rfl rfl)
theorem dX0_lit_21 : decode cX0_lit 21 = .ok (.iload_n 1, 1) := dk_27 (dk_at dksX0_lit_0 21 rfl rfl)
theorem dX0_lit_22 : decode cX0_lit 22 = .ok (.iload_n 2, 1) := dk_28 (dk_at dksX0_lit_0 22 rfl rfl)
theorem dX0_lit_23 : decode cX0_lit 23 = .ok (.invokevirtual 292, 3) := dk_182 1 36 (dk_at dksX0_lit_1 0 rfl rfl)
theorem dX0_lit_26 : decode cX0_lit 26 = .ok (.goto 6, 3) := dk_167 0 6 (dk_at dksX0_lit_1 3 rfl rfl)
theorem dX0_lit_29 : decode cX0_lit 29 = .ok (.ldc2_w 182, 3) := dk_20 0 182 (dk_at dksX0_lit_1 6 rfl rfl)
theorem dX0_lit_32 : decode cX0_lit 32 = .ok (.lreturn, 1) := dk_173 (dk_at dksX0_lit_1 9 rfl rfl)
abbrev cX0_watch : ByteArray := prog_1_method_63_code
def yX0_watch : MethodName := ⟨RX0, "watch", "(Z)I"⟩
def dkwX0_watch_1 : List UInt8 := [167, 0, 4, 3, 61, 42, 180, 0, 18, 27, 181, 0, 199, 28, 172]
abbrev dktX0_watch_1 : List UInt8 := dkwX0_watch_1 ++ []
def dkwX0_watch_0 : List UInt8 := [42, 180, 0, 18, 180, 1, 39, 154, 0, 6, 16, 254, 172, 42, 180, 0, 18, 180, 0, 199, 153, 0, 7, 4]
abbrev dktX0_watch_0 : List UInt8 := dkwX0_watch_0 ++ dktX0_watch_1
theorem dksX0_watch_0 : cX0_watch.data.toList.drop 0 = dktX0_watch_0 := by decide +kernel
theorem dksX0_watch_1 : cX0_watch.data.toList.drop 24 = dktX0_watch_1 := dk_seg dksX0_watch_0 24 rfl rfl
theorem dX0_watch_0 : decode cX0_watch 0 = .ok (.aload_n 0, 1) := dk_42 (dk_at dksX0_watch_0 0 rfl rfl)
theorem dX0_watch_1 : decode cX0_watch 1 = .ok (.getfield 18, 3) := dk_180 0 18 (dk_at dksX0_watch_0 1 rfl rfl)
theorem dX0_watch_4 : decode cX0_watch 4 = .ok (.getfield 295, 3) := dk_180 1 39 (dk_at dksX0_watch_0 4 rfl rfl)
theorem dX0_watch_7 : decode cX0_watch 7 = .ok (.ifCond .ne 6, 3) := dk_154 0 6 (dk_at dksX0_watch_0 7 rfl rfl)
theorem dX0_watch_10 : decode cX0_watch 10 = .ok (.bipush (-2), 2) := dk_16 254 (dk_at dksX0_watch_0 10 rfl rfl)
theorem dX0_watch_12 : decode cX0_watch 12 = .ok (.ireturn, 1) := dk_172 (dk_at dksX0_watch_0 12 rfl rfl)
theorem dX0_watch_13 : decode cX0_watch 13 = .ok (.aload_n 0, 1) := dk_42 (dk_at dksX0_watch_0 13 rfl rfl)
theorem dX0_watch_14 : decode cX0_watch 14 = .ok (.getfield 18, 3) := dk_180 0 18 (dk_at dksX0_watch_0 14 rfl rfl)
theorem dX0_watch_17 : decode cX0_watch 17 = .ok (.getfield 199, 3) := dk_180 0 199 (dk_at dksX0_watch_0 17 rfl rfl)
theorem dX0_watch_20 : decode cX0_watch 20 = .ok (.ifCond .eq 7, 3) := dk_153 0 7 (dk_at dksX0_watch_0 20 rfl rfl)
theorem dX0_watch_23 : decode cX0_watch 23 = .ok (.iconst 1, 1) := dk_4 (dk_at dksX0_watch_0 23 rfl rfl)
theorem dX0_watch_24 : decode cX0_watch 24 = .ok (.goto 4, 3) := dk_167 0 4 (dk_at dksX0_watch_1 0 rfl rfl)
theorem dX0_watch_27 : decode cX0_watch 27 = .ok (.iconst 0, 1) := dk_3 (dk_at dksX0_watch_1 3 rfl rfl)
theorem dX0_watch_28 : decode cX0_watch 28 = .ok (.istore_n 2, 1) := dk_61 (dk_at dksX0_watch_1 4 rfl rfl)
theorem dX0_watch_29 : decode cX0_watch 29 = .ok (.aload_n 0, 1) := dk_42 (dk_at dksX0_watch_1 5 rfl rfl)
theorem dX0_watch_30 : decode cX0_watch 30 = .ok (.getfield 18, 3) := dk_180 0 18 (dk_at dksX0_watch_1 6 rfl rfl)
theorem dX0_watch_33 : decode cX0_watch 33 = .ok (.iload_n 1, 1) := dk_27 (dk_at dksX0_watch_1 9 rfl rfl)
theorem dX0_watch_34 : decode cX0_watch 34 = .ok (.putfield 199, 3) := dk_181 0 199 (dk_at dksX0_watch_1 10 rfl rfl)
theorem dX0_watch_37 : decode cX0_watch 37 = .ok (.iload_n 2, 1) := dk_28 (dk_at dksX0_watch_1 13 rfl rfl)
theorem dX0_watch_38 : decode cX0_watch 38 = .ok (.ireturn, 1) := dk_172 (dk_at dksX0_watch_1 14 rfl rfl)
abbrev cX0_penny : ByteArray := prog_1_method_65_code
def yX0_penny : MethodName := ⟨RX0, "penny", "()J"⟩
def dkwX0_penny_2 : List UInt8 := [132, 4, 1, 167, 255, 239, 32, 173]
abbrev dktX0_penny_2 : List UInt8 := dkwX0_penny_2 ++ []
def dkwX0_penny_1 : List UInt8 := [182, 0, 202, 117, 65, 3, 54, 4, 21, 4, 43, 190, 162, 0, 16, 32, 43, 21, 4, 47, 97, 65]
abbrev dktX0_penny_1 : List UInt8 := dkwX0_penny_1 ++ dktX0_penny_2
def dkwX0_penny_0 : List UInt8 := [42, 180, 0, 18, 180, 1, 39, 154, 0, 7, 20, 1, 19, 173, 42, 182, 1, 42, 76, 42, 180, 0, 18]
abbrev dktX0_penny_0 : List UInt8 := dkwX0_penny_0 ++ dktX0_penny_1
theorem dksX0_penny_0 : cX0_penny.data.toList.drop 0 = dktX0_penny_0 := by decide +kernel
theorem dksX0_penny_1 : cX0_penny.data.toList.drop 23 = dktX0_penny_1 := dk_seg dksX0_penny_0 23 rfl rfl
theorem dksX0_penny_2 : cX0_penny.data.toList.drop 45 = dktX0_penny_2 := dk_seg dksX0_penny_1 22 rfl rfl
theorem dX0_penny_0 : decode cX0_penny 0 = .ok (.aload_n 0, 1) := dk_42 (dk_at dksX0_penny_0 0 rfl rfl)
theorem dX0_penny_1 : decode cX0_penny 1 = .ok (.getfield 18, 3) := dk_180 0 18 (dk_at dksX0_penny_0 1 rfl rfl)
theorem dX0_penny_4 : decode cX0_penny 4 = .ok (.getfield 295, 3) := dk_180 1 39 (dk_at dksX0_penny_0 4 rfl rfl)
theorem dX0_penny_7 : decode cX0_penny 7 = .ok (.ifCond .ne 7, 3) := dk_154 0 7 (dk_at dksX0_penny_0 7 rfl rfl)
theorem dX0_penny_10 : decode cX0_penny 10 = .ok (.ldc2_w 275, 3) := dk_20 1 19 (dk_at dksX0_penny_0 10 rfl rfl)
theorem dX0_penny_13 : decode cX0_penny 13 = .ok (.lreturn, 1) := dk_173 (dk_at dksX0_penny_0 13 rfl rfl)
theorem dX0_penny_14 : decode cX0_penny 14 = .ok (.aload_n 0, 1) := dk_42 (dk_at dksX0_penny_0 14 rfl rfl)
theorem dX0_penny_15 : decode cX0_penny 15 = .ok (.invokevirtual 298, 3) := dk_182 1 42 (dk_at dksX0_penny_0 15 rfl rfl)
theorem dX0_penny_18 : decode cX0_penny 18 = .ok (.astore_n 1, 1) := dk_76 (dk_at dksX0_penny_0 18 rfl rfl)
theorem dX0_penny_19 : decode cX0_penny 19 = .ok (.aload_n 0, 1) := dk_42 (dk_at dksX0_penny_0 19 rfl rfl)
theorem dX0_penny_20 : decode cX0_penny 20 = .ok (.getfield 18, 3) := dk_180 0 18 (dk_at dksX0_penny_0 20 rfl rfl)
theorem dX0_penny_23 : decode cX0_penny 23 = .ok (.invokevirtual 202, 3) := dk_182 0 202 (dk_at dksX0_penny_1 0 rfl rfl)
theorem dX0_penny_26 : decode cX0_penny 26 = .ok (.lneg, 1) := dk_117 (dk_at dksX0_penny_1 3 rfl rfl)
theorem dX0_penny_27 : decode cX0_penny 27 = .ok (.lstore_n 2, 1) := dk_65 (dk_at dksX0_penny_1 4 rfl rfl)
theorem dX0_penny_28 : decode cX0_penny 28 = .ok (.iconst 0, 1) := dk_3 (dk_at dksX0_penny_1 5 rfl rfl)
theorem dX0_penny_29 : decode cX0_penny 29 = .ok (.istore 4, 2) := dk_54 4 (dk_at dksX0_penny_1 6 rfl rfl)
theorem dX0_penny_31 : decode cX0_penny 31 = .ok (.iload 4, 2) := dk_21 4 (dk_at dksX0_penny_1 8 rfl rfl)
theorem dX0_penny_33 : decode cX0_penny 33 = .ok (.aload_n 1, 1) := dk_43 (dk_at dksX0_penny_1 10 rfl rfl)
theorem dX0_penny_34 : decode cX0_penny 34 = .ok (.arraylength, 1) := dk_190 (dk_at dksX0_penny_1 11 rfl rfl)
theorem dX0_penny_35 : decode cX0_penny 35 = .ok (.if_icmp .ge 16, 3) := dk_162 0 16 (dk_at dksX0_penny_1 12 rfl rfl)
theorem dX0_penny_38 : decode cX0_penny 38 = .ok (.lload_n 2, 1) := dk_32 (dk_at dksX0_penny_1 15 rfl rfl)
theorem dX0_penny_39 : decode cX0_penny 39 = .ok (.aload_n 1, 1) := dk_43 (dk_at dksX0_penny_1 16 rfl rfl)
theorem dX0_penny_40 : decode cX0_penny 40 = .ok (.iload 4, 2) := dk_21 4 (dk_at dksX0_penny_1 17 rfl rfl)
theorem dX0_penny_42 : decode cX0_penny 42 = .ok (.laload, 1) := dk_47 (dk_at dksX0_penny_1 19 rfl rfl)
theorem dX0_penny_43 : decode cX0_penny 43 = .ok (.ladd, 1) := dk_97 (dk_at dksX0_penny_1 20 rfl rfl)
theorem dX0_penny_44 : decode cX0_penny 44 = .ok (.lstore_n 2, 1) := dk_65 (dk_at dksX0_penny_1 21 rfl rfl)
theorem dX0_penny_45 : decode cX0_penny 45 = .ok (.iinc 4 1, 3) := dk_132 4 1 (dk_at dksX0_penny_2 0 rfl rfl)
theorem dX0_penny_48 : decode cX0_penny 48 = .ok (.goto (-17), 3) := dk_167 255 239 (dk_at dksX0_penny_2 3 rfl rfl)
theorem dX0_penny_51 : decode cX0_penny 51 = .ok (.lload_n 2, 1) := dk_32 (dk_at dksX0_penny_2 6 rfl rfl)
theorem dX0_penny_52 : decode cX0_penny 52 = .ok (.lreturn, 1) := dk_173 (dk_at dksX0_penny_2 7 rfl rfl)
abbrev cX0_savings : ByteArray := prog_1_method_64_code
def yX0_savings : MethodName := ⟨RX0, "savings", "()[J"⟩
def dkwX0_savings_4 : List UInt8 := [182, 0, 209, 101, 80, 132, 3, 1, 167, 255, 233, 42, 180, 0, 18, 27, 181, 0, 199, 44, 176]
abbrev dktX0_savings_4 : List UInt8 := dkwX0_savings_4 ++ []
def dkwX0_savings_3 : List UInt8 := [180, 0, 27, 182, 0, 175, 87, 3, 62, 29, 44, 190, 162, 0, 23, 44, 29, 92, 47, 42, 180, 0, 27, 29]
abbrev dktX0_savings_3 : List UInt8 := dkwX0_savings_3 ++ dktX0_savings_4
def dkwX0_savings_2 : List UInt8 := [180, 0, 27, 29, 182, 0, 209, 80, 132, 3, 1, 167, 255, 236, 42, 180, 0, 18, 4, 181, 0, 199, 42]
abbrev dktX0_savings_2 : List UInt8 := dkwX0_savings_2 ++ dktX0_savings_3
def dkwX0_savings_1 : List UInt8 := [181, 0, 199, 42, 180, 0, 27, 182, 0, 175, 87, 3, 62, 29, 44, 190, 162, 0, 20, 44, 29, 42]
abbrev dktX0_savings_1 : List UInt8 := dkwX0_savings_1 ++ dktX0_savings_2
def dkwX0_savings_0 : List UInt8 := [42, 180, 0, 18, 180, 0, 199, 60, 42, 180, 0, 18, 182, 0, 106, 188, 11, 77, 42, 180, 0, 18, 3]
abbrev dktX0_savings_0 : List UInt8 := dkwX0_savings_0 ++ dktX0_savings_1
theorem dksX0_savings_0 : cX0_savings.data.toList.drop 0 = dktX0_savings_0 := by decide +kernel
theorem dksX0_savings_1 : cX0_savings.data.toList.drop 23 = dktX0_savings_1 := dk_seg dksX0_savings_0 23 rfl rfl
theorem dksX0_savings_2 : cX0_savings.data.toList.drop 45 = dktX0_savings_2 := dk_seg dksX0_savings_1 22 rfl rfl
theorem dksX0_savings_3 : cX0_savings.data.toList.drop 68 = dktX0_savings_3 := dk_seg dksX0_savings_2 23 rfl rfl
theorem dksX0_savings_4 : cX0_savings.data.toList.drop 92 = dktX0_savings_4 := dk_seg dksX0_savings_3 24 rfl rfl
theorem dX0_savings_0 : decode cX0_savings 0 = .ok (.aload_n 0, 1) := dk_42 (dk_at dksX0_savings_0 0 rfl rfl)
theorem dX0_savings_1 : decode cX0_savings 1 = .ok (.getfield 18, 3) := dk_180 0 18 (dk_at dksX0_savings_0 1 rfl rfl)
theorem dX0_savings_4 : decode cX0_savings 4 = .ok (.getfield 199, 3) := dk_180 0 199 (dk_at dksX0_savings_0 4 rfl rfl)
theorem dX0_savings_7 : decode cX0_savings 7 = .ok (.istore_n 1, 1) := dk_60 (dk_at dksX0_savings_0 7 rfl rfl)
theorem dX0_savings_8 : decode cX0_savings 8 = .ok (.aload_n 0, 1) := dk_42 (dk_at dksX0_savings_0 8 rfl rfl)
theorem dX0_savings_9 : decode cX0_savings 9 = .ok (.getfield 18, 3) := dk_180 0 18 (dk_at dksX0_savings_0 9 rfl rfl)
theorem dX0_savings_12 : decode cX0_savings 12 = .ok (.invokevirtual 106, 3) := dk_182 0 106 (dk_at dksX0_savings_0 12 rfl rfl)
theorem dX0_savings_15 : decode cX0_savings 15 = .ok (.newarray .long, 2) := dk_188_11 (dk_at dksX0_savings_0 15 rfl rfl)
theorem dX0_savings_17 : decode cX0_savings 17 = .ok (.astore_n 2, 1) := dk_77 (dk_at dksX0_savings_0 17 rfl rfl)
theorem dX0_savings_18 : decode cX0_savings 18 = .ok (.aload_n 0, 1) := dk_42 (dk_at dksX0_savings_0 18 rfl rfl)
theorem dX0_savings_19 : decode cX0_savings 19 = .ok (.getfield 18, 3) := dk_180 0 18 (dk_at dksX0_savings_0 19 rfl rfl)
theorem dX0_savings_22 : decode cX0_savings 22 = .ok (.iconst 0, 1) := dk_3 (dk_at dksX0_savings_0 22 rfl rfl)
theorem dX0_savings_23 : decode cX0_savings 23 = .ok (.putfield 199, 3) := dk_181 0 199 (dk_at dksX0_savings_1 0 rfl rfl)
theorem dX0_savings_26 : decode cX0_savings 26 = .ok (.aload_n 0, 1) := dk_42 (dk_at dksX0_savings_1 3 rfl rfl)
theorem dX0_savings_27 : decode cX0_savings 27 = .ok (.getfield 27, 3) := dk_180 0 27 (dk_at dksX0_savings_1 4 rfl rfl)
theorem dX0_savings_30 : decode cX0_savings 30 = .ok (.invokevirtual 175, 3) := dk_182 0 175 (dk_at dksX0_savings_1 7 rfl rfl)
theorem dX0_savings_33 : decode cX0_savings 33 = .ok (.pop, 1) := dk_87 (dk_at dksX0_savings_1 10 rfl rfl)
theorem dX0_savings_34 : decode cX0_savings 34 = .ok (.iconst 0, 1) := dk_3 (dk_at dksX0_savings_1 11 rfl rfl)
theorem dX0_savings_35 : decode cX0_savings 35 = .ok (.istore_n 3, 1) := dk_62 (dk_at dksX0_savings_1 12 rfl rfl)
theorem dX0_savings_36 : decode cX0_savings 36 = .ok (.iload_n 3, 1) := dk_29 (dk_at dksX0_savings_1 13 rfl rfl)
theorem dX0_savings_37 : decode cX0_savings 37 = .ok (.aload_n 2, 1) := dk_44 (dk_at dksX0_savings_1 14 rfl rfl)
theorem dX0_savings_38 : decode cX0_savings 38 = .ok (.arraylength, 1) := dk_190 (dk_at dksX0_savings_1 15 rfl rfl)
theorem dX0_savings_39 : decode cX0_savings 39 = .ok (.if_icmp .ge 20, 3) := dk_162 0 20 (dk_at dksX0_savings_1 16 rfl rfl)
theorem dX0_savings_42 : decode cX0_savings 42 = .ok (.aload_n 2, 1) := dk_44 (dk_at dksX0_savings_1 19 rfl rfl)
theorem dX0_savings_43 : decode cX0_savings 43 = .ok (.iload_n 3, 1) := dk_29 (dk_at dksX0_savings_1 20 rfl rfl)
theorem dX0_savings_44 : decode cX0_savings 44 = .ok (.aload_n 0, 1) := dk_42 (dk_at dksX0_savings_1 21 rfl rfl)
theorem dX0_savings_45 : decode cX0_savings 45 = .ok (.getfield 27, 3) := dk_180 0 27 (dk_at dksX0_savings_2 0 rfl rfl)
theorem dX0_savings_48 : decode cX0_savings 48 = .ok (.iload_n 3, 1) := dk_29 (dk_at dksX0_savings_2 3 rfl rfl)
theorem dX0_savings_49 : decode cX0_savings 49 = .ok (.invokevirtual 209, 3) := dk_182 0 209 (dk_at dksX0_savings_2 4 rfl rfl)
theorem dX0_savings_52 : decode cX0_savings 52 = .ok (.lastore, 1) := dk_80 (dk_at dksX0_savings_2 7 rfl rfl)
theorem dX0_savings_53 : decode cX0_savings 53 = .ok (.iinc 3 1, 3) := dk_132 3 1 (dk_at dksX0_savings_2 8 rfl rfl)
theorem dX0_savings_56 : decode cX0_savings 56 = .ok (.goto (-20), 3) := dk_167 255 236 (dk_at dksX0_savings_2 11 rfl rfl)
theorem dX0_savings_59 : decode cX0_savings 59 = .ok (.aload_n 0, 1) := dk_42 (dk_at dksX0_savings_2 14 rfl rfl)
theorem dX0_savings_60 : decode cX0_savings 60 = .ok (.getfield 18, 3) := dk_180 0 18 (dk_at dksX0_savings_2 15 rfl rfl)
theorem dX0_savings_63 : decode cX0_savings 63 = .ok (.iconst 1, 1) := dk_4 (dk_at dksX0_savings_2 18 rfl rfl)
theorem dX0_savings_64 : decode cX0_savings 64 = .ok (.putfield 199, 3) := dk_181 0 199 (dk_at dksX0_savings_2 19 rfl rfl)
theorem dX0_savings_67 : decode cX0_savings 67 = .ok (.aload_n 0, 1) := dk_42 (dk_at dksX0_savings_2 22 rfl rfl)
theorem dX0_savings_68 : decode cX0_savings 68 = .ok (.getfield 27, 3) := dk_180 0 27 (dk_at dksX0_savings_3 0 rfl rfl)
theorem dX0_savings_71 : decode cX0_savings 71 = .ok (.invokevirtual 175, 3) := dk_182 0 175 (dk_at dksX0_savings_3 3 rfl rfl)
theorem dX0_savings_74 : decode cX0_savings 74 = .ok (.pop, 1) := dk_87 (dk_at dksX0_savings_3 6 rfl rfl)
theorem dX0_savings_75 : decode cX0_savings 75 = .ok (.iconst 0, 1) := dk_3 (dk_at dksX0_savings_3 7 rfl rfl)
theorem dX0_savings_76 : decode cX0_savings 76 = .ok (.istore_n 3, 1) := dk_62 (dk_at dksX0_savings_3 8 rfl rfl)
theorem dX0_savings_77 : decode cX0_savings 77 = .ok (.iload_n 3, 1) := dk_29 (dk_at dksX0_savings_3 9 rfl rfl)
theorem dX0_savings_78 : decode cX0_savings 78 = .ok (.aload_n 2, 1) := dk_44 (dk_at dksX0_savings_3 10 rfl rfl)
theorem dX0_savings_79 : decode cX0_savings 79 = .ok (.arraylength, 1) := dk_190 (dk_at dksX0_savings_3 11 rfl rfl)
theorem dX0_savings_80 : decode cX0_savings 80 = .ok (.if_icmp .ge 23, 3) := dk_162 0 23 (dk_at dksX0_savings_3 12 rfl rfl)
theorem dX0_savings_83 : decode cX0_savings 83 = .ok (.aload_n 2, 1) := dk_44 (dk_at dksX0_savings_3 15 rfl rfl)
theorem dX0_savings_84 : decode cX0_savings 84 = .ok (.iload_n 3, 1) := dk_29 (dk_at dksX0_savings_3 16 rfl rfl)
theorem dX0_savings_85 : decode cX0_savings 85 = .ok (.dup2, 1) := dk_92 (dk_at dksX0_savings_3 17 rfl rfl)
theorem dX0_savings_86 : decode cX0_savings 86 = .ok (.laload, 1) := dk_47 (dk_at dksX0_savings_3 18 rfl rfl)
theorem dX0_savings_87 : decode cX0_savings 87 = .ok (.aload_n 0, 1) := dk_42 (dk_at dksX0_savings_3 19 rfl rfl)
theorem dX0_savings_88 : decode cX0_savings 88 = .ok (.getfield 27, 3) := dk_180 0 27 (dk_at dksX0_savings_3 20 rfl rfl)
theorem dX0_savings_91 : decode cX0_savings 91 = .ok (.iload_n 3, 1) := dk_29 (dk_at dksX0_savings_3 23 rfl rfl)
theorem dX0_savings_92 : decode cX0_savings 92 = .ok (.invokevirtual 209, 3) := dk_182 0 209 (dk_at dksX0_savings_4 0 rfl rfl)
theorem dX0_savings_95 : decode cX0_savings 95 = .ok (.lsub, 1) := dk_101 (dk_at dksX0_savings_4 3 rfl rfl)
theorem dX0_savings_96 : decode cX0_savings 96 = .ok (.lastore, 1) := dk_80 (dk_at dksX0_savings_4 4 rfl rfl)
theorem dX0_savings_97 : decode cX0_savings 97 = .ok (.iinc 3 1, 3) := dk_132 3 1 (dk_at dksX0_savings_4 5 rfl rfl)
theorem dX0_savings_100 : decode cX0_savings 100 = .ok (.goto (-23), 3) := dk_167 255 233 (dk_at dksX0_savings_4 8 rfl rfl)
theorem dX0_savings_103 : decode cX0_savings 103 = .ok (.aload_n 0, 1) := dk_42 (dk_at dksX0_savings_4 11 rfl rfl)
theorem dX0_savings_104 : decode cX0_savings 104 = .ok (.getfield 18, 3) := dk_180 0 18 (dk_at dksX0_savings_4 12 rfl rfl)
theorem dX0_savings_107 : decode cX0_savings 107 = .ok (.iload_n 1, 1) := dk_27 (dk_at dksX0_savings_4 15 rfl rfl)
theorem dX0_savings_108 : decode cX0_savings 108 = .ok (.putfield 199, 3) := dk_181 0 199 (dk_at dksX0_savings_4 16 rfl rfl)
theorem dX0_savings_111 : decode cX0_savings 111 = .ok (.aload_n 2, 1) := dk_44 (dk_at dksX0_savings_4 19 rfl rfl)
theorem dX0_savings_112 : decode cX0_savings 112 = .ok (.areturn, 1) := dk_176 (dk_at dksX0_savings_4 20 rfl rfl)
abbrev cX0_enough : ByteArray := prog_1_method_66_code
def yX0_enough : MethodName := ⟨RX0, "enough", "()I"⟩
def dkwX0_enough_5 : List UInt8 := [54, 4, 32, 43, 21, 6, 47, 101, 65, 132, 5, 1, 167, 255, 162, 2, 172]
abbrev dktX0_enough_5 : List UInt8 := dkwX0_enough_5 ++ []
def dkwX0_enough_4 : List UInt8 := [54, 6, 132, 7, 1, 167, 255, 214, 21, 6, 2, 160, 0, 5, 2, 172, 21, 4, 4, 21, 6, 120, 128]
abbrev dktX0_enough_4 : List UInt8 := dkwX0_enough_4 ++ dktX0_enough_5
def dkwX0_enough_3 : List UInt8 := [154, 0, 25, 21, 6, 2, 159, 0, 15, 43, 21, 7, 47, 43, 21, 6, 47, 148, 158, 0, 7, 21, 7]
abbrev dktX0_enough_3 : List UInt8 := dkwX0_enough_3 ++ dktX0_enough_4
def dkwX0_enough_2 : List UInt8 := [21, 5, 172, 2, 54, 6, 3, 54, 7, 21, 7, 43, 190, 162, 0, 41, 21, 4, 21, 7, 184, 1, 46]
abbrev dktX0_enough_2 : List UInt8 := dkwX0_enough_2 ++ dktX0_enough_3
def dkwX0_enough_1 : List UInt8 := [182, 0, 202, 65, 3, 54, 4, 3, 54, 5, 21, 5, 43, 190, 163, 0, 93, 32, 9, 148, 157, 0, 6]
abbrev dktX0_enough_1 : List UInt8 := dkwX0_enough_1 ++ dktX0_enough_2
def dkwX0_enough_0 : List UInt8 := [42, 180, 0, 18, 180, 1, 39, 154, 0, 6, 16, 254, 172, 42, 182, 1, 42, 76, 42, 180, 0, 18]
abbrev dktX0_enough_0 : List UInt8 := dkwX0_enough_0 ++ dktX0_enough_1
theorem dksX0_enough_0 : cX0_enough.data.toList.drop 0 = dktX0_enough_0 := by decide +kernel
theorem dksX0_enough_1 : cX0_enough.data.toList.drop 22 = dktX0_enough_1 := dk_seg dksX0_enough_0 22 rfl rfl
theorem dksX0_enough_2 : cX0_enough.data.toList.drop 45 = dktX0_enough_2 := dk_seg dksX0_enough_1 23 rfl rfl
theorem dksX0_enough_3 : cX0_enough.data.toList.drop 68 = dktX0_enough_3 := dk_seg dksX0_enough_2 23 rfl rfl
theorem dksX0_enough_4 : cX0_enough.data.toList.drop 91 = dktX0_enough_4 := dk_seg dksX0_enough_3 23 rfl rfl
theorem dksX0_enough_5 : cX0_enough.data.toList.drop 114 = dktX0_enough_5 := dk_seg dksX0_enough_4 23 rfl rfl
theorem dX0_enough_0 : decode cX0_enough 0 = .ok (.aload_n 0, 1) := dk_42 (dk_at dksX0_enough_0 0 rfl rfl)
theorem dX0_enough_1 : decode cX0_enough 1 = .ok (.getfield 18, 3) := dk_180 0 18 (dk_at dksX0_enough_0 1 rfl rfl)
theorem dX0_enough_4 : decode cX0_enough 4 = .ok (.getfield 295, 3) := dk_180 1 39 (dk_at dksX0_enough_0 4 rfl rfl)
theorem dX0_enough_7 : decode cX0_enough 7 = .ok (.ifCond .ne 6, 3) := dk_154 0 6 (dk_at dksX0_enough_0 7 rfl rfl)
theorem dX0_enough_10 : decode cX0_enough 10 = .ok (.bipush (-2), 2) := dk_16 254 (dk_at dksX0_enough_0 10 rfl rfl)
theorem dX0_enough_12 : decode cX0_enough 12 = .ok (.ireturn, 1) := dk_172 (dk_at dksX0_enough_0 12 rfl rfl)
theorem dX0_enough_13 : decode cX0_enough 13 = .ok (.aload_n 0, 1) := dk_42 (dk_at dksX0_enough_0 13 rfl rfl)
theorem dX0_enough_14 : decode cX0_enough 14 = .ok (.invokevirtual 298, 3) := dk_182 1 42 (dk_at dksX0_enough_0 14 rfl rfl)
theorem dX0_enough_17 : decode cX0_enough 17 = .ok (.astore_n 1, 1) := dk_76 (dk_at dksX0_enough_0 17 rfl rfl)
theorem dX0_enough_18 : decode cX0_enough 18 = .ok (.aload_n 0, 1) := dk_42 (dk_at dksX0_enough_0 18 rfl rfl)
theorem dX0_enough_19 : decode cX0_enough 19 = .ok (.getfield 18, 3) := dk_180 0 18 (dk_at dksX0_enough_0 19 rfl rfl)
theorem dX0_enough_22 : decode cX0_enough 22 = .ok (.invokevirtual 202, 3) := dk_182 0 202 (dk_at dksX0_enough_1 0 rfl rfl)
theorem dX0_enough_25 : decode cX0_enough 25 = .ok (.lstore_n 2, 1) := dk_65 (dk_at dksX0_enough_1 3 rfl rfl)
theorem dX0_enough_26 : decode cX0_enough 26 = .ok (.iconst 0, 1) := dk_3 (dk_at dksX0_enough_1 4 rfl rfl)
theorem dX0_enough_27 : decode cX0_enough 27 = .ok (.istore 4, 2) := dk_54 4 (dk_at dksX0_enough_1 5 rfl rfl)
theorem dX0_enough_29 : decode cX0_enough 29 = .ok (.iconst 0, 1) := dk_3 (dk_at dksX0_enough_1 7 rfl rfl)
theorem dX0_enough_30 : decode cX0_enough 30 = .ok (.istore 5, 2) := dk_54 5 (dk_at dksX0_enough_1 8 rfl rfl)
theorem dX0_enough_32 : decode cX0_enough 32 = .ok (.iload 5, 2) := dk_21 5 (dk_at dksX0_enough_1 10 rfl rfl)
theorem dX0_enough_34 : decode cX0_enough 34 = .ok (.aload_n 1, 1) := dk_43 (dk_at dksX0_enough_1 12 rfl rfl)
theorem dX0_enough_35 : decode cX0_enough 35 = .ok (.arraylength, 1) := dk_190 (dk_at dksX0_enough_1 13 rfl rfl)
theorem dX0_enough_36 : decode cX0_enough 36 = .ok (.if_icmp .gt 93, 3) := dk_163 0 93 (dk_at dksX0_enough_1 14 rfl rfl)
theorem dX0_enough_39 : decode cX0_enough 39 = .ok (.lload_n 2, 1) := dk_32 (dk_at dksX0_enough_1 17 rfl rfl)
theorem dX0_enough_40 : decode cX0_enough 40 = .ok (.lconst 0, 1) := dk_9 (dk_at dksX0_enough_1 18 rfl rfl)
theorem dX0_enough_41 : decode cX0_enough 41 = .ok (.lcmp, 1) := dk_148 (dk_at dksX0_enough_1 19 rfl rfl)
theorem dX0_enough_42 : decode cX0_enough 42 = .ok (.ifCond .gt 6, 3) := dk_157 0 6 (dk_at dksX0_enough_1 20 rfl rfl)
theorem dX0_enough_45 : decode cX0_enough 45 = .ok (.iload 5, 2) := dk_21 5 (dk_at dksX0_enough_2 0 rfl rfl)
theorem dX0_enough_47 : decode cX0_enough 47 = .ok (.ireturn, 1) := dk_172 (dk_at dksX0_enough_2 2 rfl rfl)
theorem dX0_enough_48 : decode cX0_enough 48 = .ok (.iconst (-1), 1) := dk_2 (dk_at dksX0_enough_2 3 rfl rfl)
theorem dX0_enough_49 : decode cX0_enough 49 = .ok (.istore 6, 2) := dk_54 6 (dk_at dksX0_enough_2 4 rfl rfl)
theorem dX0_enough_51 : decode cX0_enough 51 = .ok (.iconst 0, 1) := dk_3 (dk_at dksX0_enough_2 6 rfl rfl)
theorem dX0_enough_52 : decode cX0_enough 52 = .ok (.istore 7, 2) := dk_54 7 (dk_at dksX0_enough_2 7 rfl rfl)
theorem dX0_enough_54 : decode cX0_enough 54 = .ok (.iload 7, 2) := dk_21 7 (dk_at dksX0_enough_2 9 rfl rfl)
theorem dX0_enough_56 : decode cX0_enough 56 = .ok (.aload_n 1, 1) := dk_43 (dk_at dksX0_enough_2 11 rfl rfl)
theorem dX0_enough_57 : decode cX0_enough 57 = .ok (.arraylength, 1) := dk_190 (dk_at dksX0_enough_2 12 rfl rfl)
theorem dX0_enough_58 : decode cX0_enough 58 = .ok (.if_icmp .ge 41, 3) := dk_162 0 41 (dk_at dksX0_enough_2 13 rfl rfl)
theorem dX0_enough_61 : decode cX0_enough 61 = .ok (.iload 4, 2) := dk_21 4 (dk_at dksX0_enough_2 16 rfl rfl)
theorem dX0_enough_63 : decode cX0_enough 63 = .ok (.iload 7, 2) := dk_21 7 (dk_at dksX0_enough_2 18 rfl rfl)
theorem dX0_enough_65 : decode cX0_enough 65 = .ok (.invokestatic 302, 3) := dk_184 1 46 (dk_at dksX0_enough_2 20 rfl rfl)
theorem dX0_enough_68 : decode cX0_enough 68 = .ok (.ifCond .ne 25, 3) := dk_154 0 25 (dk_at dksX0_enough_3 0 rfl rfl)
theorem dX0_enough_71 : decode cX0_enough 71 = .ok (.iload 6, 2) := dk_21 6 (dk_at dksX0_enough_3 3 rfl rfl)
theorem dX0_enough_73 : decode cX0_enough 73 = .ok (.iconst (-1), 1) := dk_2 (dk_at dksX0_enough_3 5 rfl rfl)
theorem dX0_enough_74 : decode cX0_enough 74 = .ok (.if_icmp .eq 15, 3) := dk_159 0 15 (dk_at dksX0_enough_3 6 rfl rfl)
theorem dX0_enough_77 : decode cX0_enough 77 = .ok (.aload_n 1, 1) := dk_43 (dk_at dksX0_enough_3 9 rfl rfl)
theorem dX0_enough_78 : decode cX0_enough 78 = .ok (.iload 7, 2) := dk_21 7 (dk_at dksX0_enough_3 10 rfl rfl)
theorem dX0_enough_80 : decode cX0_enough 80 = .ok (.laload, 1) := dk_47 (dk_at dksX0_enough_3 12 rfl rfl)
theorem dX0_enough_81 : decode cX0_enough 81 = .ok (.aload_n 1, 1) := dk_43 (dk_at dksX0_enough_3 13 rfl rfl)
theorem dX0_enough_82 : decode cX0_enough 82 = .ok (.iload 6, 2) := dk_21 6 (dk_at dksX0_enough_3 14 rfl rfl)
theorem dX0_enough_84 : decode cX0_enough 84 = .ok (.laload, 1) := dk_47 (dk_at dksX0_enough_3 16 rfl rfl)
theorem dX0_enough_85 : decode cX0_enough 85 = .ok (.lcmp, 1) := dk_148 (dk_at dksX0_enough_3 17 rfl rfl)
theorem dX0_enough_86 : decode cX0_enough 86 = .ok (.ifCond .le 7, 3) := dk_158 0 7 (dk_at dksX0_enough_3 18 rfl rfl)
theorem dX0_enough_89 : decode cX0_enough 89 = .ok (.iload 7, 2) := dk_21 7 (dk_at dksX0_enough_3 21 rfl rfl)
theorem dX0_enough_91 : decode cX0_enough 91 = .ok (.istore 6, 2) := dk_54 6 (dk_at dksX0_enough_4 0 rfl rfl)
theorem dX0_enough_93 : decode cX0_enough 93 = .ok (.iinc 7 1, 3) := dk_132 7 1 (dk_at dksX0_enough_4 2 rfl rfl)
theorem dX0_enough_96 : decode cX0_enough 96 = .ok (.goto (-42), 3) := dk_167 255 214 (dk_at dksX0_enough_4 5 rfl rfl)
theorem dX0_enough_99 : decode cX0_enough 99 = .ok (.iload 6, 2) := dk_21 6 (dk_at dksX0_enough_4 8 rfl rfl)
theorem dX0_enough_101 : decode cX0_enough 101 = .ok (.iconst (-1), 1) := dk_2 (dk_at dksX0_enough_4 10 rfl rfl)
theorem dX0_enough_102 : decode cX0_enough 102 = .ok (.if_icmp .ne 5, 3) := dk_160 0 5 (dk_at dksX0_enough_4 11 rfl rfl)
theorem dX0_enough_105 : decode cX0_enough 105 = .ok (.iconst (-1), 1) := dk_2 (dk_at dksX0_enough_4 14 rfl rfl)
theorem dX0_enough_106 : decode cX0_enough 106 = .ok (.ireturn, 1) := dk_172 (dk_at dksX0_enough_4 15 rfl rfl)
theorem dX0_enough_107 : decode cX0_enough 107 = .ok (.iload 4, 2) := dk_21 4 (dk_at dksX0_enough_4 16 rfl rfl)
theorem dX0_enough_109 : decode cX0_enough 109 = .ok (.iconst 1, 1) := dk_4 (dk_at dksX0_enough_4 18 rfl rfl)
theorem dX0_enough_110 : decode cX0_enough 110 = .ok (.iload 6, 2) := dk_21 6 (dk_at dksX0_enough_4 19 rfl rfl)
theorem dX0_enough_112 : decode cX0_enough 112 = .ok (.ishl, 1) := dk_120 (dk_at dksX0_enough_4 21 rfl rfl)
theorem dX0_enough_113 : decode cX0_enough 113 = .ok (.ior, 1) := dk_128 (dk_at dksX0_enough_4 22 rfl rfl)
theorem dX0_enough_114 : decode cX0_enough 114 = .ok (.istore 4, 2) := dk_54 4 (dk_at dksX0_enough_5 0 rfl rfl)
theorem dX0_enough_116 : decode cX0_enough 116 = .ok (.lload_n 2, 1) := dk_32 (dk_at dksX0_enough_5 2 rfl rfl)
theorem dX0_enough_117 : decode cX0_enough 117 = .ok (.aload_n 1, 1) := dk_43 (dk_at dksX0_enough_5 3 rfl rfl)
theorem dX0_enough_118 : decode cX0_enough 118 = .ok (.iload 6, 2) := dk_21 6 (dk_at dksX0_enough_5 4 rfl rfl)
theorem dX0_enough_120 : decode cX0_enough 120 = .ok (.laload, 1) := dk_47 (dk_at dksX0_enough_5 6 rfl rfl)
theorem dX0_enough_121 : decode cX0_enough 121 = .ok (.lsub, 1) := dk_101 (dk_at dksX0_enough_5 7 rfl rfl)
theorem dX0_enough_122 : decode cX0_enough 122 = .ok (.lstore_n 2, 1) := dk_65 (dk_at dksX0_enough_5 8 rfl rfl)
theorem dX0_enough_123 : decode cX0_enough 123 = .ok (.iinc 5 1, 3) := dk_132 5 1 (dk_at dksX0_enough_5 9 rfl rfl)
theorem dX0_enough_126 : decode cX0_enough 126 = .ok (.goto (-94), 3) := dk_167 255 162 (dk_at dksX0_enough_5 12 rfl rfl)
theorem dX0_enough_129 : decode cX0_enough 129 = .ok (.iconst (-1), 1) := dk_2 (dk_at dksX0_enough_5 15 rfl rfl)
theorem dX0_enough_130 : decode cX0_enough 130 = .ok (.ireturn, 1) := dk_172 (dk_at dksX0_enough_5 16 rfl rfl)
abbrev cX0_marks : ByteArray := prog_1_method_69_code
def yX0_marks : MethodName := ⟨RX0, "marks", "()I"⟩
def dkwX0_marks_2 : List UInt8 := [167, 0, 4, 28, 60, 132, 2, 1, 167, 255, 219, 42, 182, 1, 2, 27, 172]
abbrev dktX0_marks_2 : List UInt8 := dkwX0_marks_2 ++ []
def dkwX0_marks_1 : List UInt8 := [182, 0, 106, 163, 0, 32, 27, 2, 160, 0, 27, 42, 28, 182, 1, 49, 42, 182, 1, 52, 153, 0, 7, 2]
abbrev dktX0_marks_1 : List UInt8 := dkwX0_marks_1 ++ dktX0_marks_2
def dkwX0_marks_0 : List UInt8 := [42, 182, 0, 171, 154, 0, 6, 16, 254, 172, 42, 182, 0, 255, 2, 60, 3, 61, 28, 42, 180, 0, 18]
abbrev dktX0_marks_0 : List UInt8 := dkwX0_marks_0 ++ dktX0_marks_1
theorem dksX0_marks_0 : cX0_marks.data.toList.drop 0 = dktX0_marks_0 := by decide +kernel
theorem dksX0_marks_1 : cX0_marks.data.toList.drop 23 = dktX0_marks_1 := dk_seg dksX0_marks_0 23 rfl rfl
theorem dksX0_marks_2 : cX0_marks.data.toList.drop 47 = dktX0_marks_2 := dk_seg dksX0_marks_1 24 rfl rfl
theorem dX0_marks_0 : decode cX0_marks 0 = .ok (.aload_n 0, 1) := dk_42 (dk_at dksX0_marks_0 0 rfl rfl)
theorem dX0_marks_1 : decode cX0_marks 1 = .ok (.invokevirtual 171, 3) := dk_182 0 171 (dk_at dksX0_marks_0 1 rfl rfl)
theorem dX0_marks_4 : decode cX0_marks 4 = .ok (.ifCond .ne 6, 3) := dk_154 0 6 (dk_at dksX0_marks_0 4 rfl rfl)
theorem dX0_marks_7 : decode cX0_marks 7 = .ok (.bipush (-2), 2) := dk_16 254 (dk_at dksX0_marks_0 7 rfl rfl)
theorem dX0_marks_9 : decode cX0_marks 9 = .ok (.ireturn, 1) := dk_172 (dk_at dksX0_marks_0 9 rfl rfl)
theorem dX0_marks_10 : decode cX0_marks 10 = .ok (.aload_n 0, 1) := dk_42 (dk_at dksX0_marks_0 10 rfl rfl)
theorem dX0_marks_11 : decode cX0_marks 11 = .ok (.invokevirtual 255, 3) := dk_182 0 255 (dk_at dksX0_marks_0 11 rfl rfl)
theorem dX0_marks_14 : decode cX0_marks 14 = .ok (.iconst (-1), 1) := dk_2 (dk_at dksX0_marks_0 14 rfl rfl)
theorem dX0_marks_15 : decode cX0_marks 15 = .ok (.istore_n 1, 1) := dk_60 (dk_at dksX0_marks_0 15 rfl rfl)
theorem dX0_marks_16 : decode cX0_marks 16 = .ok (.iconst 0, 1) := dk_3 (dk_at dksX0_marks_0 16 rfl rfl)
theorem dX0_marks_17 : decode cX0_marks 17 = .ok (.istore_n 2, 1) := dk_61 (dk_at dksX0_marks_0 17 rfl rfl)
theorem dX0_marks_18 : decode cX0_marks 18 = .ok (.iload_n 2, 1) := dk_28 (dk_at dksX0_marks_0 18 rfl rfl)
theorem dX0_marks_19 : decode cX0_marks 19 = .ok (.aload_n 0, 1) := dk_42 (dk_at dksX0_marks_0 19 rfl rfl)
theorem dX0_marks_20 : decode cX0_marks 20 = .ok (.getfield 18, 3) := dk_180 0 18 (dk_at dksX0_marks_0 20 rfl rfl)
theorem dX0_marks_23 : decode cX0_marks 23 = .ok (.invokevirtual 106, 3) := dk_182 0 106 (dk_at dksX0_marks_1 0 rfl rfl)
theorem dX0_marks_26 : decode cX0_marks 26 = .ok (.if_icmp .gt 32, 3) := dk_163 0 32 (dk_at dksX0_marks_1 3 rfl rfl)
theorem dX0_marks_29 : decode cX0_marks 29 = .ok (.iload_n 1, 1) := dk_27 (dk_at dksX0_marks_1 6 rfl rfl)
theorem dX0_marks_30 : decode cX0_marks 30 = .ok (.iconst (-1), 1) := dk_2 (dk_at dksX0_marks_1 7 rfl rfl)
theorem dX0_marks_31 : decode cX0_marks 31 = .ok (.if_icmp .ne 27, 3) := dk_160 0 27 (dk_at dksX0_marks_1 8 rfl rfl)
theorem dX0_marks_34 : decode cX0_marks 34 = .ok (.aload_n 0, 1) := dk_42 (dk_at dksX0_marks_1 11 rfl rfl)
theorem dX0_marks_35 : decode cX0_marks 35 = .ok (.iload_n 2, 1) := dk_28 (dk_at dksX0_marks_1 12 rfl rfl)
theorem dX0_marks_36 : decode cX0_marks 36 = .ok (.invokevirtual 305, 3) := dk_182 1 49 (dk_at dksX0_marks_1 13 rfl rfl)
theorem dX0_marks_39 : decode cX0_marks 39 = .ok (.aload_n 0, 1) := dk_42 (dk_at dksX0_marks_1 16 rfl rfl)
theorem dX0_marks_40 : decode cX0_marks 40 = .ok (.invokevirtual 308, 3) := dk_182 1 52 (dk_at dksX0_marks_1 17 rfl rfl)
theorem dX0_marks_43 : decode cX0_marks 43 = .ok (.ifCond .eq 7, 3) := dk_153 0 7 (dk_at dksX0_marks_1 20 rfl rfl)
theorem dX0_marks_46 : decode cX0_marks 46 = .ok (.iconst (-1), 1) := dk_2 (dk_at dksX0_marks_1 23 rfl rfl)
theorem dX0_marks_47 : decode cX0_marks 47 = .ok (.goto 4, 3) := dk_167 0 4 (dk_at dksX0_marks_2 0 rfl rfl)
theorem dX0_marks_50 : decode cX0_marks 50 = .ok (.iload_n 2, 1) := dk_28 (dk_at dksX0_marks_2 3 rfl rfl)
theorem dX0_marks_51 : decode cX0_marks 51 = .ok (.istore_n 1, 1) := dk_60 (dk_at dksX0_marks_2 4 rfl rfl)
theorem dX0_marks_52 : decode cX0_marks 52 = .ok (.iinc 2 1, 3) := dk_132 2 1 (dk_at dksX0_marks_2 5 rfl rfl)
theorem dX0_marks_55 : decode cX0_marks 55 = .ok (.goto (-37), 3) := dk_167 255 219 (dk_at dksX0_marks_2 8 rfl rfl)
theorem dX0_marks_58 : decode cX0_marks 58 = .ok (.aload_n 0, 1) := dk_42 (dk_at dksX0_marks_2 11 rfl rfl)
theorem dX0_marks_59 : decode cX0_marks 59 = .ok (.invokevirtual 258, 3) := dk_182 1 2 (dk_at dksX0_marks_2 12 rfl rfl)
theorem dX0_marks_62 : decode cX0_marks 62 = .ok (.iload_n 1, 1) := dk_27 (dk_at dksX0_marks_2 15 rfl rfl)
theorem dX0_marks_63 : decode cX0_marks 63 = .ok (.ireturn, 1) := dk_172 (dk_at dksX0_marks_2 16 rfl rfl)
abbrev cX0_marksFirst : ByteArray := prog_1_method_68_code
def yX0_marksFirst : MethodName := ⟨RX0, "marksFirst", "(I)V"⟩
def dkwX0_marksFirst_1 : List UInt8 := [192, 0, 137, 28, 27, 162, 0, 7, 4, 167, 0, 4, 3, 181, 0, 149, 132, 2, 1, 167, 255, 215, 177]
abbrev dktX0_marksFirst_1 : List UInt8 := dkwX0_marksFirst_1 ++ []
def dkwX0_marksFirst_0 : List UInt8 := [3, 61, 28, 42, 180, 0, 18, 182, 0, 106, 162, 0, 36, 42, 180, 0, 18, 180, 0, 130, 28, 182, 0, 133]
abbrev dktX0_marksFirst_0 : List UInt8 := dkwX0_marksFirst_0 ++ dktX0_marksFirst_1
theorem dksX0_marksFirst_0 : cX0_marksFirst.data.toList.drop 0 = dktX0_marksFirst_0 := by decide +kernel
theorem dksX0_marksFirst_1 : cX0_marksFirst.data.toList.drop 24 = dktX0_marksFirst_1 := dk_seg dksX0_marksFirst_0 24 rfl rfl
theorem dX0_marksFirst_0 : decode cX0_marksFirst 0 = .ok (.iconst 0, 1) := dk_3 (dk_at dksX0_marksFirst_0 0 rfl rfl)
theorem dX0_marksFirst_1 : decode cX0_marksFirst 1 = .ok (.istore_n 2, 1) := dk_61 (dk_at dksX0_marksFirst_0 1 rfl rfl)
theorem dX0_marksFirst_2 : decode cX0_marksFirst 2 = .ok (.iload_n 2, 1) := dk_28 (dk_at dksX0_marksFirst_0 2 rfl rfl)
theorem dX0_marksFirst_3 : decode cX0_marksFirst 3 = .ok (.aload_n 0, 1) := dk_42 (dk_at dksX0_marksFirst_0 3 rfl rfl)
theorem dX0_marksFirst_4 : decode cX0_marksFirst 4 = .ok (.getfield 18, 3) := dk_180 0 18 (dk_at dksX0_marksFirst_0 4 rfl rfl)
theorem dX0_marksFirst_7 : decode cX0_marksFirst 7 = .ok (.invokevirtual 106, 3) := dk_182 0 106 (dk_at dksX0_marksFirst_0 7 rfl rfl)
theorem dX0_marksFirst_10 : decode cX0_marksFirst 10 = .ok (.if_icmp .ge 36, 3) := dk_162 0 36 (dk_at dksX0_marksFirst_0 10 rfl rfl)
theorem dX0_marksFirst_13 : decode cX0_marksFirst 13 = .ok (.aload_n 0, 1) := dk_42 (dk_at dksX0_marksFirst_0 13 rfl rfl)
theorem dX0_marksFirst_14 : decode cX0_marksFirst 14 = .ok (.getfield 18, 3) := dk_180 0 18 (dk_at dksX0_marksFirst_0 14 rfl rfl)
theorem dX0_marksFirst_17 : decode cX0_marksFirst 17 = .ok (.getfield 130, 3) := dk_180 0 130 (dk_at dksX0_marksFirst_0 17 rfl rfl)
theorem dX0_marksFirst_20 : decode cX0_marksFirst 20 = .ok (.iload_n 2, 1) := dk_28 (dk_at dksX0_marksFirst_0 20 rfl rfl)
theorem dX0_marksFirst_21 : decode cX0_marksFirst 21 = .ok (.invokevirtual 133, 3) := dk_182 0 133 (dk_at dksX0_marksFirst_0 21 rfl rfl)
theorem dX0_marksFirst_24 : decode cX0_marksFirst 24 = .ok (.checkcast 137, 3) := dk_192 0 137 (dk_at dksX0_marksFirst_1 0 rfl rfl)
theorem dX0_marksFirst_27 : decode cX0_marksFirst 27 = .ok (.iload_n 2, 1) := dk_28 (dk_at dksX0_marksFirst_1 3 rfl rfl)
theorem dX0_marksFirst_28 : decode cX0_marksFirst 28 = .ok (.iload_n 1, 1) := dk_27 (dk_at dksX0_marksFirst_1 4 rfl rfl)
theorem dX0_marksFirst_29 : decode cX0_marksFirst 29 = .ok (.if_icmp .ge 7, 3) := dk_162 0 7 (dk_at dksX0_marksFirst_1 5 rfl rfl)
theorem dX0_marksFirst_32 : decode cX0_marksFirst 32 = .ok (.iconst 1, 1) := dk_4 (dk_at dksX0_marksFirst_1 8 rfl rfl)
theorem dX0_marksFirst_33 : decode cX0_marksFirst 33 = .ok (.goto 4, 3) := dk_167 0 4 (dk_at dksX0_marksFirst_1 9 rfl rfl)
theorem dX0_marksFirst_36 : decode cX0_marksFirst 36 = .ok (.iconst 0, 1) := dk_3 (dk_at dksX0_marksFirst_1 12 rfl rfl)
theorem dX0_marksFirst_37 : decode cX0_marksFirst 37 = .ok (.putfield 149, 3) := dk_181 0 149 (dk_at dksX0_marksFirst_1 13 rfl rfl)
theorem dX0_marksFirst_40 : decode cX0_marksFirst 40 = .ok (.iinc 2 1, 3) := dk_132 2 1 (dk_at dksX0_marksFirst_1 16 rfl rfl)
theorem dX0_marksFirst_43 : decode cX0_marksFirst 43 = .ok (.goto (-41), 3) := dk_167 255 215 (dk_at dksX0_marksFirst_1 19 rfl rfl)
theorem dX0_marksFirst_46 : decode cX0_marksFirst 46 = .ok (.return_, 1) := dk_177 (dk_at dksX0_marksFirst_1 22 rfl rfl)
abbrev cX0_isWanted : ByteArray := prog_1_method_67_code
def yX0_isWanted : MethodName := ⟨RX0, "isWanted", "()Z"⟩
def dkwX0_isWanted_3 : List UInt8 := [167, 255, 207, 132, 1, 1, 167, 255, 185, 3, 172]
abbrev dktX0_isWanted_3 : List UInt8 := dkwX0_isWanted_3 ++ []
def dkwX0_isWanted_2 : List UInt8 := [180, 0, 110, 27, 182, 0, 133, 192, 0, 155, 28, 182, 0, 157, 164, 0, 5, 4, 172, 132, 2, 1]
abbrev dktX0_isWanted_2 : List UInt8 := dkwX0_isWanted_2 ++ dktX0_isWanted_3
def dkwX0_isWanted_1 : List UInt8 := [182, 0, 106, 162, 0, 44, 42, 180, 0, 18, 28, 182, 0, 161, 42, 180, 0, 18, 42, 180, 0, 18]
abbrev dktX0_isWanted_1 : List UInt8 := dkwX0_isWanted_1 ++ dktX0_isWanted_2
def dkwX0_isWanted_0 : List UInt8 := [3, 60, 27, 42, 180, 0, 18, 180, 0, 110, 182, 0, 114, 162, 0, 63, 3, 61, 28, 42, 180, 0, 18]
abbrev dktX0_isWanted_0 : List UInt8 := dkwX0_isWanted_0 ++ dktX0_isWanted_1
theorem dksX0_isWanted_0 : cX0_isWanted.data.toList.drop 0 = dktX0_isWanted_0 := by decide +kernel
theorem dksX0_isWanted_1 : cX0_isWanted.data.toList.drop 23 = dktX0_isWanted_1 := dk_seg dksX0_isWanted_0 23 rfl rfl
theorem dksX0_isWanted_2 : cX0_isWanted.data.toList.drop 45 = dktX0_isWanted_2 := dk_seg dksX0_isWanted_1 22 rfl rfl
theorem dksX0_isWanted_3 : cX0_isWanted.data.toList.drop 67 = dktX0_isWanted_3 := dk_seg dksX0_isWanted_2 22 rfl rfl
theorem dX0_isWanted_0 : decode cX0_isWanted 0 = .ok (.iconst 0, 1) := dk_3 (dk_at dksX0_isWanted_0 0 rfl rfl)
theorem dX0_isWanted_1 : decode cX0_isWanted 1 = .ok (.istore_n 1, 1) := dk_60 (dk_at dksX0_isWanted_0 1 rfl rfl)
theorem dX0_isWanted_2 : decode cX0_isWanted 2 = .ok (.iload_n 1, 1) := dk_27 (dk_at dksX0_isWanted_0 2 rfl rfl)
theorem dX0_isWanted_3 : decode cX0_isWanted 3 = .ok (.aload_n 0, 1) := dk_42 (dk_at dksX0_isWanted_0 3 rfl rfl)
theorem dX0_isWanted_4 : decode cX0_isWanted 4 = .ok (.getfield 18, 3) := dk_180 0 18 (dk_at dksX0_isWanted_0 4 rfl rfl)
theorem dX0_isWanted_7 : decode cX0_isWanted 7 = .ok (.getfield 110, 3) := dk_180 0 110 (dk_at dksX0_isWanted_0 7 rfl rfl)
theorem dX0_isWanted_10 : decode cX0_isWanted 10 = .ok (.invokevirtual 114, 3) := dk_182 0 114 (dk_at dksX0_isWanted_0 10 rfl rfl)
theorem dX0_isWanted_13 : decode cX0_isWanted 13 = .ok (.if_icmp .ge 63, 3) := dk_162 0 63 (dk_at dksX0_isWanted_0 13 rfl rfl)
theorem dX0_isWanted_16 : decode cX0_isWanted 16 = .ok (.iconst 0, 1) := dk_3 (dk_at dksX0_isWanted_0 16 rfl rfl)
theorem dX0_isWanted_17 : decode cX0_isWanted 17 = .ok (.istore_n 2, 1) := dk_61 (dk_at dksX0_isWanted_0 17 rfl rfl)
theorem dX0_isWanted_18 : decode cX0_isWanted 18 = .ok (.iload_n 2, 1) := dk_28 (dk_at dksX0_isWanted_0 18 rfl rfl)
theorem dX0_isWanted_19 : decode cX0_isWanted 19 = .ok (.aload_n 0, 1) := dk_42 (dk_at dksX0_isWanted_0 19 rfl rfl)
theorem dX0_isWanted_20 : decode cX0_isWanted 20 = .ok (.getfield 18, 3) := dk_180 0 18 (dk_at dksX0_isWanted_0 20 rfl rfl)
theorem dX0_isWanted_23 : decode cX0_isWanted 23 = .ok (.invokevirtual 106, 3) := dk_182 0 106 (dk_at dksX0_isWanted_1 0 rfl rfl)
theorem dX0_isWanted_26 : decode cX0_isWanted 26 = .ok (.if_icmp .ge 44, 3) := dk_162 0 44 (dk_at dksX0_isWanted_1 3 rfl rfl)
theorem dX0_isWanted_29 : decode cX0_isWanted 29 = .ok (.aload_n 0, 1) := dk_42 (dk_at dksX0_isWanted_1 6 rfl rfl)
theorem dX0_isWanted_30 : decode cX0_isWanted 30 = .ok (.getfield 18, 3) := dk_180 0 18 (dk_at dksX0_isWanted_1 7 rfl rfl)
theorem dX0_isWanted_33 : decode cX0_isWanted 33 = .ok (.iload_n 2, 1) := dk_28 (dk_at dksX0_isWanted_1 10 rfl rfl)
theorem dX0_isWanted_34 : decode cX0_isWanted 34 = .ok (.invokevirtual 161, 3) := dk_182 0 161 (dk_at dksX0_isWanted_1 11 rfl rfl)
theorem dX0_isWanted_37 : decode cX0_isWanted 37 = .ok (.aload_n 0, 1) := dk_42 (dk_at dksX0_isWanted_1 14 rfl rfl)
theorem dX0_isWanted_38 : decode cX0_isWanted 38 = .ok (.getfield 18, 3) := dk_180 0 18 (dk_at dksX0_isWanted_1 15 rfl rfl)
theorem dX0_isWanted_41 : decode cX0_isWanted 41 = .ok (.aload_n 0, 1) := dk_42 (dk_at dksX0_isWanted_1 18 rfl rfl)
theorem dX0_isWanted_42 : decode cX0_isWanted 42 = .ok (.getfield 18, 3) := dk_180 0 18 (dk_at dksX0_isWanted_1 19 rfl rfl)
theorem dX0_isWanted_45 : decode cX0_isWanted 45 = .ok (.getfield 110, 3) := dk_180 0 110 (dk_at dksX0_isWanted_2 0 rfl rfl)
theorem dX0_isWanted_48 : decode cX0_isWanted 48 = .ok (.iload_n 1, 1) := dk_27 (dk_at dksX0_isWanted_2 3 rfl rfl)
theorem dX0_isWanted_49 : decode cX0_isWanted 49 = .ok (.invokevirtual 133, 3) := dk_182 0 133 (dk_at dksX0_isWanted_2 4 rfl rfl)
theorem dX0_isWanted_52 : decode cX0_isWanted 52 = .ok (.checkcast 155, 3) := dk_192 0 155 (dk_at dksX0_isWanted_2 7 rfl rfl)
theorem dX0_isWanted_55 : decode cX0_isWanted 55 = .ok (.iload_n 2, 1) := dk_28 (dk_at dksX0_isWanted_2 10 rfl rfl)
theorem dX0_isWanted_56 : decode cX0_isWanted 56 = .ok (.invokevirtual 157, 3) := dk_182 0 157 (dk_at dksX0_isWanted_2 11 rfl rfl)
theorem dX0_isWanted_59 : decode cX0_isWanted 59 = .ok (.if_icmp .le 5, 3) := dk_164 0 5 (dk_at dksX0_isWanted_2 14 rfl rfl)
theorem dX0_isWanted_62 : decode cX0_isWanted 62 = .ok (.iconst 1, 1) := dk_4 (dk_at dksX0_isWanted_2 17 rfl rfl)
theorem dX0_isWanted_63 : decode cX0_isWanted 63 = .ok (.ireturn, 1) := dk_172 (dk_at dksX0_isWanted_2 18 rfl rfl)
theorem dX0_isWanted_64 : decode cX0_isWanted 64 = .ok (.iinc 2 1, 3) := dk_132 2 1 (dk_at dksX0_isWanted_2 19 rfl rfl)
theorem dX0_isWanted_67 : decode cX0_isWanted 67 = .ok (.goto (-49), 3) := dk_167 255 207 (dk_at dksX0_isWanted_3 0 rfl rfl)
theorem dX0_isWanted_70 : decode cX0_isWanted 70 = .ok (.iinc 1 1, 3) := dk_132 1 1 (dk_at dksX0_isWanted_3 3 rfl rfl)
theorem dX0_isWanted_73 : decode cX0_isWanted 73 = .ok (.goto (-71), 3) := dk_167 255 185 (dk_at dksX0_isWanted_3 6 rfl rfl)
theorem dX0_isWanted_76 : decode cX0_isWanted 76 = .ok (.iconst 0, 1) := dk_3 (dk_at dksX0_isWanted_3 9 rfl rfl)
theorem dX0_isWanted_77 : decode cX0_isWanted 77 = .ok (.ireturn, 1) := dk_172 (dk_at dksX0_isWanted_3 10 rfl rfl)
abbrev cX0_hides : ByteArray := prog_1_method_70_code
def yX0_hides : MethodName := ⟨RX0, "hides", "(I)J"⟩
def dkwX0_hides_3 : List UInt8 := [27, 182, 0, 209, 55, 4, 42, 182, 1, 2, 32, 22, 4, 101, 173]
abbrev dktX0_hides_3 : List UInt8 := dkwX0_hides_3 ++ []
def dkwX0_hides_2 : List UInt8 := [180, 0, 18, 180, 0, 130, 27, 182, 0, 133, 192, 0, 137, 3, 181, 0, 149, 42, 180, 0, 27, 182, 0, 175]
abbrev dktX0_hides_2 : List UInt8 := dkwX0_hides_2 ++ dktX0_hides_3
def dkwX0_hides_1 : List UInt8 := [180, 0, 27, 182, 0, 175, 27, 182, 0, 209, 65, 42, 42, 180, 0, 18, 182, 0, 106, 182, 1, 49, 42]
abbrev dktX0_hides_1 : List UInt8 := dkwX0_hides_1 ++ dktX0_hides_2
def dkwX0_hides_0 : List UInt8 := [42, 27, 182, 0, 127, 154, 0, 7, 20, 1, 19, 173, 42, 182, 0, 255, 42, 3, 182, 1, 49, 42]
abbrev dktX0_hides_0 : List UInt8 := dkwX0_hides_0 ++ dktX0_hides_1
theorem dksX0_hides_0 : cX0_hides.data.toList.drop 0 = dktX0_hides_0 := by decide +kernel
theorem dksX0_hides_1 : cX0_hides.data.toList.drop 22 = dktX0_hides_1 := dk_seg dksX0_hides_0 22 rfl rfl
theorem dksX0_hides_2 : cX0_hides.data.toList.drop 45 = dktX0_hides_2 := dk_seg dksX0_hides_1 23 rfl rfl
theorem dksX0_hides_3 : cX0_hides.data.toList.drop 69 = dktX0_hides_3 := dk_seg dksX0_hides_2 24 rfl rfl
theorem dX0_hides_0 : decode cX0_hides 0 = .ok (.aload_n 0, 1) := dk_42 (dk_at dksX0_hides_0 0 rfl rfl)
theorem dX0_hides_1 : decode cX0_hides 1 = .ok (.iload_n 1, 1) := dk_27 (dk_at dksX0_hides_0 1 rfl rfl)
theorem dX0_hides_2 : decode cX0_hides 2 = .ok (.invokevirtual 127, 3) := dk_182 0 127 (dk_at dksX0_hides_0 2 rfl rfl)
theorem dX0_hides_5 : decode cX0_hides 5 = .ok (.ifCond .ne 7, 3) := dk_154 0 7 (dk_at dksX0_hides_0 5 rfl rfl)
theorem dX0_hides_8 : decode cX0_hides 8 = .ok (.ldc2_w 275, 3) := dk_20 1 19 (dk_at dksX0_hides_0 8 rfl rfl)
theorem dX0_hides_11 : decode cX0_hides 11 = .ok (.lreturn, 1) := dk_173 (dk_at dksX0_hides_0 11 rfl rfl)
theorem dX0_hides_12 : decode cX0_hides 12 = .ok (.aload_n 0, 1) := dk_42 (dk_at dksX0_hides_0 12 rfl rfl)
theorem dX0_hides_13 : decode cX0_hides 13 = .ok (.invokevirtual 255, 3) := dk_182 0 255 (dk_at dksX0_hides_0 13 rfl rfl)
theorem dX0_hides_16 : decode cX0_hides 16 = .ok (.aload_n 0, 1) := dk_42 (dk_at dksX0_hides_0 16 rfl rfl)
theorem dX0_hides_17 : decode cX0_hides 17 = .ok (.iconst 0, 1) := dk_3 (dk_at dksX0_hides_0 17 rfl rfl)
theorem dX0_hides_18 : decode cX0_hides 18 = .ok (.invokevirtual 305, 3) := dk_182 1 49 (dk_at dksX0_hides_0 18 rfl rfl)
theorem dX0_hides_21 : decode cX0_hides 21 = .ok (.aload_n 0, 1) := dk_42 (dk_at dksX0_hides_0 21 rfl rfl)
theorem dX0_hides_22 : decode cX0_hides 22 = .ok (.getfield 27, 3) := dk_180 0 27 (dk_at dksX0_hides_1 0 rfl rfl)
theorem dX0_hides_25 : decode cX0_hides 25 = .ok (.invokevirtual 175, 3) := dk_182 0 175 (dk_at dksX0_hides_1 3 rfl rfl)
theorem dX0_hides_28 : decode cX0_hides 28 = .ok (.iload_n 1, 1) := dk_27 (dk_at dksX0_hides_1 6 rfl rfl)
theorem dX0_hides_29 : decode cX0_hides 29 = .ok (.invokevirtual 209, 3) := dk_182 0 209 (dk_at dksX0_hides_1 7 rfl rfl)
theorem dX0_hides_32 : decode cX0_hides 32 = .ok (.lstore_n 2, 1) := dk_65 (dk_at dksX0_hides_1 10 rfl rfl)
theorem dX0_hides_33 : decode cX0_hides 33 = .ok (.aload_n 0, 1) := dk_42 (dk_at dksX0_hides_1 11 rfl rfl)
theorem dX0_hides_34 : decode cX0_hides 34 = .ok (.aload_n 0, 1) := dk_42 (dk_at dksX0_hides_1 12 rfl rfl)
theorem dX0_hides_35 : decode cX0_hides 35 = .ok (.getfield 18, 3) := dk_180 0 18 (dk_at dksX0_hides_1 13 rfl rfl)
theorem dX0_hides_38 : decode cX0_hides 38 = .ok (.invokevirtual 106, 3) := dk_182 0 106 (dk_at dksX0_hides_1 16 rfl rfl)
theorem dX0_hides_41 : decode cX0_hides 41 = .ok (.invokevirtual 305, 3) := dk_182 1 49 (dk_at dksX0_hides_1 19 rfl rfl)
theorem dX0_hides_44 : decode cX0_hides 44 = .ok (.aload_n 0, 1) := dk_42 (dk_at dksX0_hides_1 22 rfl rfl)
theorem dX0_hides_45 : decode cX0_hides 45 = .ok (.getfield 18, 3) := dk_180 0 18 (dk_at dksX0_hides_2 0 rfl rfl)
theorem dX0_hides_48 : decode cX0_hides 48 = .ok (.getfield 130, 3) := dk_180 0 130 (dk_at dksX0_hides_2 3 rfl rfl)
theorem dX0_hides_51 : decode cX0_hides 51 = .ok (.iload_n 1, 1) := dk_27 (dk_at dksX0_hides_2 6 rfl rfl)
theorem dX0_hides_52 : decode cX0_hides 52 = .ok (.invokevirtual 133, 3) := dk_182 0 133 (dk_at dksX0_hides_2 7 rfl rfl)
theorem dX0_hides_55 : decode cX0_hides 55 = .ok (.checkcast 137, 3) := dk_192 0 137 (dk_at dksX0_hides_2 10 rfl rfl)
theorem dX0_hides_58 : decode cX0_hides 58 = .ok (.iconst 0, 1) := dk_3 (dk_at dksX0_hides_2 13 rfl rfl)
theorem dX0_hides_59 : decode cX0_hides 59 = .ok (.putfield 149, 3) := dk_181 0 149 (dk_at dksX0_hides_2 14 rfl rfl)
theorem dX0_hides_62 : decode cX0_hides 62 = .ok (.aload_n 0, 1) := dk_42 (dk_at dksX0_hides_2 17 rfl rfl)
theorem dX0_hides_63 : decode cX0_hides 63 = .ok (.getfield 27, 3) := dk_180 0 27 (dk_at dksX0_hides_2 18 rfl rfl)
theorem dX0_hides_66 : decode cX0_hides 66 = .ok (.invokevirtual 175, 3) := dk_182 0 175 (dk_at dksX0_hides_2 21 rfl rfl)
theorem dX0_hides_69 : decode cX0_hides 69 = .ok (.iload_n 1, 1) := dk_27 (dk_at dksX0_hides_3 0 rfl rfl)
theorem dX0_hides_70 : decode cX0_hides 70 = .ok (.invokevirtual 209, 3) := dk_182 0 209 (dk_at dksX0_hides_3 1 rfl rfl)
theorem dX0_hides_73 : decode cX0_hides 73 = .ok (.lstore 4, 2) := dk_55 4 (dk_at dksX0_hides_3 4 rfl rfl)
theorem dX0_hides_75 : decode cX0_hides 75 = .ok (.aload_n 0, 1) := dk_42 (dk_at dksX0_hides_3 6 rfl rfl)
theorem dX0_hides_76 : decode cX0_hides 76 = .ok (.invokevirtual 258, 3) := dk_182 1 2 (dk_at dksX0_hides_3 7 rfl rfl)
theorem dX0_hides_79 : decode cX0_hides 79 = .ok (.lload_n 2, 1) := dk_32 (dk_at dksX0_hides_3 10 rfl rfl)
theorem dX0_hides_80 : decode cX0_hides 80 = .ok (.lload 4, 2) := dk_22 4 (dk_at dksX0_hides_3 11 rfl rfl)
theorem dX0_hides_82 : decode cX0_hides 82 = .ok (.lsub, 1) := dk_101 (dk_at dksX0_hides_3 13 rfl rfl)
theorem dX0_hides_83 : decode cX0_hides 83 = .ok (.lreturn, 1) := dk_173 (dk_at dksX0_hides_3 14 rfl rfl)
abbrev cX0_bait : ByteArray := prog_1_method_73_code
def yX0_bait : MethodName := ⟨RX0, "bait", "(III)J"⟩
def dkwX0_bait_2 : List UInt8 := [20, 1, 90, 109, 173]
abbrev dktX0_bait_2 : List UInt8 := dkwX0_bait_2 ++ []
def dkwX0_bait_1 : List UInt8 := [27, 182, 1, 25, 2, 159, 0, 9, 20, 1, 80, 167, 0, 17, 42, 27, 28, 29, 182, 1, 82, 180, 1, 86]
abbrev dktX0_bait_1 : List UInt8 := dkwX0_bait_1 ++ dktX0_bait_2
def dkwX0_bait_0 : List UInt8 := [42, 27, 182, 0, 119, 153, 0, 11, 28, 29, 184, 1, 77, 154, 0, 7, 20, 0, 182, 173, 42, 180, 0, 18]
abbrev dktX0_bait_0 : List UInt8 := dkwX0_bait_0 ++ dktX0_bait_1
theorem dksX0_bait_0 : cX0_bait.data.toList.drop 0 = dktX0_bait_0 := by decide +kernel
theorem dksX0_bait_1 : cX0_bait.data.toList.drop 24 = dktX0_bait_1 := dk_seg dksX0_bait_0 24 rfl rfl
theorem dksX0_bait_2 : cX0_bait.data.toList.drop 48 = dktX0_bait_2 := dk_seg dksX0_bait_1 24 rfl rfl
theorem dX0_bait_0 : decode cX0_bait 0 = .ok (.aload_n 0, 1) := dk_42 (dk_at dksX0_bait_0 0 rfl rfl)
theorem dX0_bait_1 : decode cX0_bait 1 = .ok (.iload_n 1, 1) := dk_27 (dk_at dksX0_bait_0 1 rfl rfl)
theorem dX0_bait_2 : decode cX0_bait 2 = .ok (.invokevirtual 119, 3) := dk_182 0 119 (dk_at dksX0_bait_0 2 rfl rfl)
theorem dX0_bait_5 : decode cX0_bait 5 = .ok (.ifCond .eq 11, 3) := dk_153 0 11 (dk_at dksX0_bait_0 5 rfl rfl)
theorem dX0_bait_8 : decode cX0_bait 8 = .ok (.iload_n 2, 1) := dk_28 (dk_at dksX0_bait_0 8 rfl rfl)
theorem dX0_bait_9 : decode cX0_bait 9 = .ok (.iload_n 3, 1) := dk_29 (dk_at dksX0_bait_0 9 rfl rfl)
theorem dX0_bait_10 : decode cX0_bait 10 = .ok (.invokestatic 333, 3) := dk_184 1 77 (dk_at dksX0_bait_0 10 rfl rfl)
theorem dX0_bait_13 : decode cX0_bait 13 = .ok (.ifCond .ne 7, 3) := dk_154 0 7 (dk_at dksX0_bait_0 13 rfl rfl)
theorem dX0_bait_16 : decode cX0_bait 16 = .ok (.ldc2_w 182, 3) := dk_20 0 182 (dk_at dksX0_bait_0 16 rfl rfl)
theorem dX0_bait_19 : decode cX0_bait 19 = .ok (.lreturn, 1) := dk_173 (dk_at dksX0_bait_0 19 rfl rfl)
theorem dX0_bait_20 : decode cX0_bait 20 = .ok (.aload_n 0, 1) := dk_42 (dk_at dksX0_bait_0 20 rfl rfl)
theorem dX0_bait_21 : decode cX0_bait 21 = .ok (.getfield 18, 3) := dk_180 0 18 (dk_at dksX0_bait_0 21 rfl rfl)
theorem dX0_bait_24 : decode cX0_bait 24 = .ok (.iload_n 1, 1) := dk_27 (dk_at dksX0_bait_1 0 rfl rfl)
theorem dX0_bait_25 : decode cX0_bait 25 = .ok (.invokevirtual 281, 3) := dk_182 1 25 (dk_at dksX0_bait_1 1 rfl rfl)
theorem dX0_bait_28 : decode cX0_bait 28 = .ok (.iconst (-1), 1) := dk_2 (dk_at dksX0_bait_1 4 rfl rfl)
theorem dX0_bait_29 : decode cX0_bait 29 = .ok (.if_icmp .eq 9, 3) := dk_159 0 9 (dk_at dksX0_bait_1 5 rfl rfl)
theorem dX0_bait_32 : decode cX0_bait 32 = .ok (.ldc2_w 336, 3) := dk_20 1 80 (dk_at dksX0_bait_1 8 rfl rfl)
theorem dX0_bait_35 : decode cX0_bait 35 = .ok (.goto 17, 3) := dk_167 0 17 (dk_at dksX0_bait_1 11 rfl rfl)
theorem dX0_bait_38 : decode cX0_bait 38 = .ok (.aload_n 0, 1) := dk_42 (dk_at dksX0_bait_1 14 rfl rfl)
theorem dX0_bait_39 : decode cX0_bait 39 = .ok (.iload_n 1, 1) := dk_27 (dk_at dksX0_bait_1 15 rfl rfl)
theorem dX0_bait_40 : decode cX0_bait 40 = .ok (.iload_n 2, 1) := dk_28 (dk_at dksX0_bait_1 16 rfl rfl)
theorem dX0_bait_41 : decode cX0_bait 41 = .ok (.iload_n 3, 1) := dk_29 (dk_at dksX0_bait_1 17 rfl rfl)
theorem dX0_bait_42 : decode cX0_bait 42 = .ok (.invokevirtual 338, 3) := dk_182 1 82 (dk_at dksX0_bait_1 18 rfl rfl)
theorem dX0_bait_45 : decode cX0_bait 45 = .ok (.getfield 342, 3) := dk_180 1 86 (dk_at dksX0_bait_1 21 rfl rfl)
theorem dX0_bait_48 : decode cX0_bait 48 = .ok (.ldc2_w 346, 3) := dk_20 1 90 (dk_at dksX0_bait_2 0 rfl rfl)
theorem dX0_bait_51 : decode cX0_bait 51 = .ok (.ldiv, 1) := dk_109 (dk_at dksX0_bait_2 3 rfl rfl)
theorem dX0_bait_52 : decode cX0_bait 52 = .ok (.lreturn, 1) := dk_173 (dk_at dksX0_bait_2 4 rfl rfl)
abbrev cX0_isBait : ByteArray := prog_1_method_72_code
def yX0_isBait : MethodName := ⟨RX0, "isBait", "(II)Z"⟩
def dkwX0_isBait_1 : List UInt8 := [172]
abbrev dktX0_isBait_1 : List UInt8 := dkwX0_isBait_1 ++ []
def dkwX0_isBait_0 : List UInt8 := [26, 133, 9, 20, 1, 72, 184, 0, 5, 153, 0, 14, 27, 184, 1, 74, 153, 0, 7, 4, 167, 0, 4, 3]
abbrev dktX0_isBait_0 : List UInt8 := dkwX0_isBait_0 ++ dktX0_isBait_1
theorem dksX0_isBait_0 : cX0_isBait.data.toList.drop 0 = dktX0_isBait_0 := by decide +kernel
theorem dksX0_isBait_1 : cX0_isBait.data.toList.drop 24 = dktX0_isBait_1 := dk_seg dksX0_isBait_0 24 rfl rfl
theorem dX0_isBait_0 : decode cX0_isBait 0 = .ok (.iload_n 0, 1) := dk_26 (dk_at dksX0_isBait_0 0 rfl rfl)
theorem dX0_isBait_1 : decode cX0_isBait 1 = .ok (.i2l, 1) := dk_133 (dk_at dksX0_isBait_0 1 rfl rfl)
theorem dX0_isBait_2 : decode cX0_isBait 2 = .ok (.lconst 0, 1) := dk_9 (dk_at dksX0_isBait_0 2 rfl rfl)
theorem dX0_isBait_3 : decode cX0_isBait 3 = .ok (.ldc2_w 328, 3) := dk_20 1 72 (dk_at dksX0_isBait_0 3 rfl rfl)
theorem dX0_isBait_6 : decode cX0_isBait 6 = .ok (.invokestatic 5, 3) := dk_184 0 5 (dk_at dksX0_isBait_0 6 rfl rfl)
theorem dX0_isBait_9 : decode cX0_isBait 9 = .ok (.ifCond .eq 14, 3) := dk_153 0 14 (dk_at dksX0_isBait_0 9 rfl rfl)
theorem dX0_isBait_12 : decode cX0_isBait 12 = .ok (.iload_n 1, 1) := dk_27 (dk_at dksX0_isBait_0 12 rfl rfl)
theorem dX0_isBait_13 : decode cX0_isBait 13 = .ok (.invokestatic 330, 3) := dk_184 1 74 (dk_at dksX0_isBait_0 13 rfl rfl)
theorem dX0_isBait_16 : decode cX0_isBait 16 = .ok (.ifCond .eq 7, 3) := dk_153 0 7 (dk_at dksX0_isBait_0 16 rfl rfl)
theorem dX0_isBait_19 : decode cX0_isBait 19 = .ok (.iconst 1, 1) := dk_4 (dk_at dksX0_isBait_0 19 rfl rfl)
theorem dX0_isBait_20 : decode cX0_isBait 20 = .ok (.goto 4, 3) := dk_167 0 4 (dk_at dksX0_isBait_0 20 rfl rfl)
theorem dX0_isBait_23 : decode cX0_isBait 23 = .ok (.iconst 0, 1) := dk_3 (dk_at dksX0_isBait_0 23 rfl rfl)
theorem dX0_isBait_24 : decode cX0_isBait 24 = .ok (.ireturn, 1) := dk_172 (dk_at dksX0_isBait_1 0 rfl rfl)
abbrev cX0_isHundredth : ByteArray := prog_1_method_3_code
def yX0_isHundredth : MethodName := ⟨RX0, "isHundredth", "(I)Z"⟩
def dkwX0_isHundredth_0 : List UInt8 := [26, 133, 9, 20, 0, 3, 184, 0, 5, 172]
abbrev dktX0_isHundredth_0 : List UInt8 := dkwX0_isHundredth_0 ++ []
theorem dksX0_isHundredth_0 : cX0_isHundredth.data.toList.drop 0 = dktX0_isHundredth_0 := by decide +kernel
theorem dX0_isHundredth_0 : decode cX0_isHundredth 0 = .ok (.iload_n 0, 1) := dk_26 (dk_at dksX0_isHundredth_0 0 rfl rfl)
theorem dX0_isHundredth_1 : decode cX0_isHundredth 1 = .ok (.i2l, 1) := dk_133 (dk_at dksX0_isHundredth_0 1 rfl rfl)
theorem dX0_isHundredth_2 : decode cX0_isHundredth 2 = .ok (.lconst 0, 1) := dk_9 (dk_at dksX0_isHundredth_0 2 rfl rfl)
theorem dX0_isHundredth_3 : decode cX0_isHundredth 3 = .ok (.ldc2_w 3, 3) := dk_20 0 3 (dk_at dksX0_isHundredth_0 3 rfl rfl)
theorem dX0_isHundredth_6 : decode cX0_isHundredth 6 = .ok (.invokestatic 5, 3) := dk_184 0 5 (dk_at dksX0_isHundredth_0 6 rfl rfl)
theorem dX0_isHundredth_9 : decode cX0_isHundredth 9 = .ok (.ireturn, 1) := dk_172 (dk_at dksX0_isHundredth_0 9 rfl rfl)
abbrev cX0_baits : ByteArray := prog_1_method_71_code
def yX0_baits : MethodName := ⟨RX0, "baits", "(III)LLockRail$Baited;"⟩
def dkwX0_baits_2 : List UInt8 := [180, 0, 18, 1, 181, 1, 65, 42, 180, 1, 55, 176]
abbrev dktX0_baits_2 : List UInt8 := dkwX0_baits_2 ++ []
def dkwX0_baits_1 : List UInt8 := [187, 0, 137, 89, 3, 28, 27, 183, 1, 62, 181, 1, 65, 42, 180, 1, 55, 29, 182, 1, 69, 87, 42]
abbrev dktX0_baits_1 : List UInt8 := dkwX0_baits_1 ++ dktX0_baits_2
def dkwX0_baits_0 : List UInt8 := [42, 180, 1, 55, 199, 0, 15, 42, 187, 1, 59, 89, 42, 183, 1, 61, 181, 1, 55, 42, 180, 0, 18]
abbrev dktX0_baits_0 : List UInt8 := dkwX0_baits_0 ++ dktX0_baits_1
theorem dksX0_baits_0 : cX0_baits.data.toList.drop 0 = dktX0_baits_0 := by decide +kernel
theorem dksX0_baits_1 : cX0_baits.data.toList.drop 23 = dktX0_baits_1 := dk_seg dksX0_baits_0 23 rfl rfl
theorem dksX0_baits_2 : cX0_baits.data.toList.drop 46 = dktX0_baits_2 := dk_seg dksX0_baits_1 23 rfl rfl
theorem dX0_baits_0 : decode cX0_baits 0 = .ok (.aload_n 0, 1) := dk_42 (dk_at dksX0_baits_0 0 rfl rfl)
theorem dX0_baits_1 : decode cX0_baits 1 = .ok (.getfield 311, 3) := dk_180 1 55 (dk_at dksX0_baits_0 1 rfl rfl)
theorem dX0_baits_4 : decode cX0_baits 4 = .ok (.ifnonnull 15, 3) := dk_199 0 15 (dk_at dksX0_baits_0 4 rfl rfl)
theorem dX0_baits_7 : decode cX0_baits 7 = .ok (.aload_n 0, 1) := dk_42 (dk_at dksX0_baits_0 7 rfl rfl)
theorem dX0_baits_8 : decode cX0_baits 8 = .ok (.new 315, 3) := dk_187 1 59 (dk_at dksX0_baits_0 8 rfl rfl)
theorem dX0_baits_11 : decode cX0_baits 11 = .ok (.dup, 1) := dk_89 (dk_at dksX0_baits_0 11 rfl rfl)
theorem dX0_baits_12 : decode cX0_baits 12 = .ok (.aload_n 0, 1) := dk_42 (dk_at dksX0_baits_0 12 rfl rfl)
theorem dX0_baits_13 : decode cX0_baits 13 = .ok (.invokespecial 317, 3) := dk_183 1 61 (dk_at dksX0_baits_0 13 rfl rfl)
theorem dX0_baits_16 : decode cX0_baits 16 = .ok (.putfield 311, 3) := dk_181 1 55 (dk_at dksX0_baits_0 16 rfl rfl)
theorem dX0_baits_19 : decode cX0_baits 19 = .ok (.aload_n 0, 1) := dk_42 (dk_at dksX0_baits_0 19 rfl rfl)
theorem dX0_baits_20 : decode cX0_baits 20 = .ok (.getfield 18, 3) := dk_180 0 18 (dk_at dksX0_baits_0 20 rfl rfl)
theorem dX0_baits_23 : decode cX0_baits 23 = .ok (.new 137, 3) := dk_187 0 137 (dk_at dksX0_baits_1 0 rfl rfl)
theorem dX0_baits_26 : decode cX0_baits 26 = .ok (.dup, 1) := dk_89 (dk_at dksX0_baits_1 3 rfl rfl)
theorem dX0_baits_27 : decode cX0_baits 27 = .ok (.iconst 0, 1) := dk_3 (dk_at dksX0_baits_1 4 rfl rfl)
theorem dX0_baits_28 : decode cX0_baits 28 = .ok (.iload_n 2, 1) := dk_28 (dk_at dksX0_baits_1 5 rfl rfl)
theorem dX0_baits_29 : decode cX0_baits 29 = .ok (.iload_n 1, 1) := dk_27 (dk_at dksX0_baits_1 6 rfl rfl)
theorem dX0_baits_30 : decode cX0_baits 30 = .ok (.invokespecial 318, 3) := dk_183 1 62 (dk_at dksX0_baits_1 7 rfl rfl)
theorem dX0_baits_33 : decode cX0_baits 33 = .ok (.putfield 321, 3) := dk_181 1 65 (dk_at dksX0_baits_1 10 rfl rfl)
theorem dX0_baits_36 : decode cX0_baits 36 = .ok (.aload_n 0, 1) := dk_42 (dk_at dksX0_baits_1 13 rfl rfl)
theorem dX0_baits_37 : decode cX0_baits 37 = .ok (.getfield 311, 3) := dk_180 1 55 (dk_at dksX0_baits_1 14 rfl rfl)
theorem dX0_baits_40 : decode cX0_baits 40 = .ok (.iload_n 3, 1) := dk_29 (dk_at dksX0_baits_1 17 rfl rfl)
theorem dX0_baits_41 : decode cX0_baits 41 = .ok (.invokevirtual 325, 3) := dk_182 1 69 (dk_at dksX0_baits_1 18 rfl rfl)
theorem dX0_baits_44 : decode cX0_baits 44 = .ok (.pop, 1) := dk_87 (dk_at dksX0_baits_1 21 rfl rfl)
theorem dX0_baits_45 : decode cX0_baits 45 = .ok (.aload_n 0, 1) := dk_42 (dk_at dksX0_baits_1 22 rfl rfl)
theorem dX0_baits_46 : decode cX0_baits 46 = .ok (.getfield 18, 3) := dk_180 0 18 (dk_at dksX0_baits_2 0 rfl rfl)
theorem dX0_baits_49 : decode cX0_baits 49 = .ok (.aconst_null, 1) := dk_1 (dk_at dksX0_baits_2 3 rfl rfl)
theorem dX0_baits_50 : decode cX0_baits 50 = .ok (.putfield 321, 3) := dk_181 1 65 (dk_at dksX0_baits_2 4 rfl rfl)
theorem dX0_baits_53 : decode cX0_baits 53 = .ok (.aload_n 0, 1) := dk_42 (dk_at dksX0_baits_2 7 rfl rfl)
theorem dX0_baits_54 : decode cX0_baits 54 = .ok (.getfield 311, 3) := dk_180 1 55 (dk_at dksX0_baits_2 8 rfl rfl)
theorem dX0_baits_57 : decode cX0_baits 57 = .ok (.areturn, 1) := dk_176 (dk_at dksX0_baits_2 11 rfl rfl)
abbrev cX0_caught : ByteArray := prog_1_method_74_code
def yX0_caught : MethodName := ⟨RX0, "caught", "(IIII)J"⟩
def dkwX0_caught_2 : List UInt8 := [167, 0, 15, 42, 28, 29, 21, 4, 182, 1, 82, 27, 182, 1, 92, 173]
abbrev dktX0_caught_2 : List UInt8 := dkwX0_caught_2 ++ []
def dkwX0_caught_1 : List UInt8 := [154, 0, 7, 20, 0, 182, 173, 42, 180, 0, 18, 28, 182, 1, 25, 2, 159, 0, 9, 20, 1, 80]
abbrev dktX0_caught_1 : List UInt8 := dkwX0_caught_1 ++ dktX0_caught_2
def dkwX0_caught_0 : List UInt8 := [42, 27, 182, 0, 152, 153, 0, 20, 42, 28, 182, 0, 119, 153, 0, 12, 29, 21, 4, 184, 1, 77]
abbrev dktX0_caught_0 : List UInt8 := dkwX0_caught_0 ++ dktX0_caught_1
theorem dksX0_caught_0 : cX0_caught.data.toList.drop 0 = dktX0_caught_0 := by decide +kernel
theorem dksX0_caught_1 : cX0_caught.data.toList.drop 22 = dktX0_caught_1 := dk_seg dksX0_caught_0 22 rfl rfl
theorem dksX0_caught_2 : cX0_caught.data.toList.drop 44 = dktX0_caught_2 := dk_seg dksX0_caught_1 22 rfl rfl
theorem dX0_caught_0 : decode cX0_caught 0 = .ok (.aload_n 0, 1) := dk_42 (dk_at dksX0_caught_0 0 rfl rfl)
theorem dX0_caught_1 : decode cX0_caught 1 = .ok (.iload_n 1, 1) := dk_27 (dk_at dksX0_caught_0 1 rfl rfl)
theorem dX0_caught_2 : decode cX0_caught 2 = .ok (.invokevirtual 152, 3) := dk_182 0 152 (dk_at dksX0_caught_0 2 rfl rfl)
theorem dX0_caught_5 : decode cX0_caught 5 = .ok (.ifCond .eq 20, 3) := dk_153 0 20 (dk_at dksX0_caught_0 5 rfl rfl)
theorem dX0_caught_8 : decode cX0_caught 8 = .ok (.aload_n 0, 1) := dk_42 (dk_at dksX0_caught_0 8 rfl rfl)
theorem dX0_caught_9 : decode cX0_caught 9 = .ok (.iload_n 2, 1) := dk_28 (dk_at dksX0_caught_0 9 rfl rfl)
theorem dX0_caught_10 : decode cX0_caught 10 = .ok (.invokevirtual 119, 3) := dk_182 0 119 (dk_at dksX0_caught_0 10 rfl rfl)
theorem dX0_caught_13 : decode cX0_caught 13 = .ok (.ifCond .eq 12, 3) := dk_153 0 12 (dk_at dksX0_caught_0 13 rfl rfl)
theorem dX0_caught_16 : decode cX0_caught 16 = .ok (.iload_n 3, 1) := dk_29 (dk_at dksX0_caught_0 16 rfl rfl)
theorem dX0_caught_17 : decode cX0_caught 17 = .ok (.iload 4, 2) := dk_21 4 (dk_at dksX0_caught_0 17 rfl rfl)
theorem dX0_caught_19 : decode cX0_caught 19 = .ok (.invokestatic 333, 3) := dk_184 1 77 (dk_at dksX0_caught_0 19 rfl rfl)
theorem dX0_caught_22 : decode cX0_caught 22 = .ok (.ifCond .ne 7, 3) := dk_154 0 7 (dk_at dksX0_caught_1 0 rfl rfl)
theorem dX0_caught_25 : decode cX0_caught 25 = .ok (.ldc2_w 182, 3) := dk_20 0 182 (dk_at dksX0_caught_1 3 rfl rfl)
theorem dX0_caught_28 : decode cX0_caught 28 = .ok (.lreturn, 1) := dk_173 (dk_at dksX0_caught_1 6 rfl rfl)
theorem dX0_caught_29 : decode cX0_caught 29 = .ok (.aload_n 0, 1) := dk_42 (dk_at dksX0_caught_1 7 rfl rfl)
theorem dX0_caught_30 : decode cX0_caught 30 = .ok (.getfield 18, 3) := dk_180 0 18 (dk_at dksX0_caught_1 8 rfl rfl)
theorem dX0_caught_33 : decode cX0_caught 33 = .ok (.iload_n 2, 1) := dk_28 (dk_at dksX0_caught_1 11 rfl rfl)
theorem dX0_caught_34 : decode cX0_caught 34 = .ok (.invokevirtual 281, 3) := dk_182 1 25 (dk_at dksX0_caught_1 12 rfl rfl)
theorem dX0_caught_37 : decode cX0_caught 37 = .ok (.iconst (-1), 1) := dk_2 (dk_at dksX0_caught_1 15 rfl rfl)
theorem dX0_caught_38 : decode cX0_caught 38 = .ok (.if_icmp .eq 9, 3) := dk_159 0 9 (dk_at dksX0_caught_1 16 rfl rfl)
theorem dX0_caught_41 : decode cX0_caught 41 = .ok (.ldc2_w 336, 3) := dk_20 1 80 (dk_at dksX0_caught_1 19 rfl rfl)
theorem dX0_caught_44 : decode cX0_caught 44 = .ok (.goto 15, 3) := dk_167 0 15 (dk_at dksX0_caught_2 0 rfl rfl)
theorem dX0_caught_47 : decode cX0_caught 47 = .ok (.aload_n 0, 1) := dk_42 (dk_at dksX0_caught_2 3 rfl rfl)
theorem dX0_caught_48 : decode cX0_caught 48 = .ok (.iload_n 2, 1) := dk_28 (dk_at dksX0_caught_2 4 rfl rfl)
theorem dX0_caught_49 : decode cX0_caught 49 = .ok (.iload_n 3, 1) := dk_29 (dk_at dksX0_caught_2 5 rfl rfl)
theorem dX0_caught_50 : decode cX0_caught 50 = .ok (.iload 4, 2) := dk_21 4 (dk_at dksX0_caught_2 6 rfl rfl)
theorem dX0_caught_52 : decode cX0_caught 52 = .ok (.invokevirtual 338, 3) := dk_182 1 82 (dk_at dksX0_caught_2 8 rfl rfl)
theorem dX0_caught_55 : decode cX0_caught 55 = .ok (.iload_n 1, 1) := dk_27 (dk_at dksX0_caught_2 11 rfl rfl)
theorem dX0_caught_56 : decode cX0_caught 56 = .ok (.invokevirtual 348, 3) := dk_182 1 92 (dk_at dksX0_caught_2 12 rfl rfl)
theorem dX0_caught_59 : decode cX0_caught 59 = .ok (.lreturn, 1) := dk_173 (dk_at dksX0_caught_2 15 rfl rfl)
abbrev cX0_lures : ByteArray := prog_1_method_76_code
def yX0_lures : MethodName := ⟨RX0, "lures", "(I)I"⟩
def dkwX0_lures_3 : List UInt8 := [167, 0, 8, 21, 4, 4, 96, 61, 167, 255, 223, 28, 172]
abbrev dktX0_lures_3 : List UInt8 := dkwX0_lures_3 ++ []
def dkwX0_lures_2 : List UInt8 := [162, 0, 34, 28, 29, 96, 5, 108, 54, 4, 42, 27, 21, 4, 182, 1, 95, 153, 0, 9, 21, 4, 62]
abbrev dktX0_lures_2 : List UInt8 := dkwX0_lures_2 ++ dktX0_lures_3
def dkwX0_lures_1 : List UInt8 := [16, 251, 172, 42, 27, 17, 39, 15, 182, 1, 95, 154, 0, 5, 2, 172, 3, 61, 17, 39, 15, 62, 28, 29]
abbrev dktX0_lures_1 : List UInt8 := dkwX0_lures_1 ++ dktX0_lures_2
def dkwX0_lures_0 : List UInt8 := [42, 27, 182, 0, 119, 154, 0, 6, 16, 254, 172, 42, 180, 0, 18, 27, 182, 1, 25, 2, 159, 0, 6]
abbrev dktX0_lures_0 : List UInt8 := dkwX0_lures_0 ++ dktX0_lures_1
theorem dksX0_lures_0 : cX0_lures.data.toList.drop 0 = dktX0_lures_0 := by decide +kernel
theorem dksX0_lures_1 : cX0_lures.data.toList.drop 23 = dktX0_lures_1 := dk_seg dksX0_lures_0 23 rfl rfl
theorem dksX0_lures_2 : cX0_lures.data.toList.drop 47 = dktX0_lures_2 := dk_seg dksX0_lures_1 24 rfl rfl
theorem dksX0_lures_3 : cX0_lures.data.toList.drop 70 = dktX0_lures_3 := dk_seg dksX0_lures_2 23 rfl rfl
theorem dX0_lures_0 : decode cX0_lures 0 = .ok (.aload_n 0, 1) := dk_42 (dk_at dksX0_lures_0 0 rfl rfl)
theorem dX0_lures_1 : decode cX0_lures 1 = .ok (.iload_n 1, 1) := dk_27 (dk_at dksX0_lures_0 1 rfl rfl)
theorem dX0_lures_2 : decode cX0_lures 2 = .ok (.invokevirtual 119, 3) := dk_182 0 119 (dk_at dksX0_lures_0 2 rfl rfl)
theorem dX0_lures_5 : decode cX0_lures 5 = .ok (.ifCond .ne 6, 3) := dk_154 0 6 (dk_at dksX0_lures_0 5 rfl rfl)
theorem dX0_lures_8 : decode cX0_lures 8 = .ok (.bipush (-2), 2) := dk_16 254 (dk_at dksX0_lures_0 8 rfl rfl)
theorem dX0_lures_10 : decode cX0_lures 10 = .ok (.ireturn, 1) := dk_172 (dk_at dksX0_lures_0 10 rfl rfl)
theorem dX0_lures_11 : decode cX0_lures 11 = .ok (.aload_n 0, 1) := dk_42 (dk_at dksX0_lures_0 11 rfl rfl)
theorem dX0_lures_12 : decode cX0_lures 12 = .ok (.getfield 18, 3) := dk_180 0 18 (dk_at dksX0_lures_0 12 rfl rfl)
theorem dX0_lures_15 : decode cX0_lures 15 = .ok (.iload_n 1, 1) := dk_27 (dk_at dksX0_lures_0 15 rfl rfl)
theorem dX0_lures_16 : decode cX0_lures 16 = .ok (.invokevirtual 281, 3) := dk_182 1 25 (dk_at dksX0_lures_0 16 rfl rfl)
theorem dX0_lures_19 : decode cX0_lures 19 = .ok (.iconst (-1), 1) := dk_2 (dk_at dksX0_lures_0 19 rfl rfl)
theorem dX0_lures_20 : decode cX0_lures 20 = .ok (.if_icmp .eq 6, 3) := dk_159 0 6 (dk_at dksX0_lures_0 20 rfl rfl)
theorem dX0_lures_23 : decode cX0_lures 23 = .ok (.bipush (-5), 2) := dk_16 251 (dk_at dksX0_lures_1 0 rfl rfl)
theorem dX0_lures_25 : decode cX0_lures 25 = .ok (.ireturn, 1) := dk_172 (dk_at dksX0_lures_1 2 rfl rfl)
theorem dX0_lures_26 : decode cX0_lures 26 = .ok (.aload_n 0, 1) := dk_42 (dk_at dksX0_lures_1 3 rfl rfl)
theorem dX0_lures_27 : decode cX0_lures 27 = .ok (.iload_n 1, 1) := dk_27 (dk_at dksX0_lures_1 4 rfl rfl)
theorem dX0_lures_28 : decode cX0_lures 28 = .ok (.sipush 9999, 3) := dk_17 39 15 (dk_at dksX0_lures_1 5 rfl rfl)
theorem dX0_lures_31 : decode cX0_lures 31 = .ok (.invokevirtual 351, 3) := dk_182 1 95 (dk_at dksX0_lures_1 8 rfl rfl)
theorem dX0_lures_34 : decode cX0_lures 34 = .ok (.ifCond .ne 5, 3) := dk_154 0 5 (dk_at dksX0_lures_1 11 rfl rfl)
theorem dX0_lures_37 : decode cX0_lures 37 = .ok (.iconst (-1), 1) := dk_2 (dk_at dksX0_lures_1 14 rfl rfl)
theorem dX0_lures_38 : decode cX0_lures 38 = .ok (.ireturn, 1) := dk_172 (dk_at dksX0_lures_1 15 rfl rfl)
theorem dX0_lures_39 : decode cX0_lures 39 = .ok (.iconst 0, 1) := dk_3 (dk_at dksX0_lures_1 16 rfl rfl)
theorem dX0_lures_40 : decode cX0_lures 40 = .ok (.istore_n 2, 1) := dk_61 (dk_at dksX0_lures_1 17 rfl rfl)
theorem dX0_lures_41 : decode cX0_lures 41 = .ok (.sipush 9999, 3) := dk_17 39 15 (dk_at dksX0_lures_1 18 rfl rfl)
theorem dX0_lures_44 : decode cX0_lures 44 = .ok (.istore_n 3, 1) := dk_62 (dk_at dksX0_lures_1 21 rfl rfl)
theorem dX0_lures_45 : decode cX0_lures 45 = .ok (.iload_n 2, 1) := dk_28 (dk_at dksX0_lures_1 22 rfl rfl)
theorem dX0_lures_46 : decode cX0_lures 46 = .ok (.iload_n 3, 1) := dk_29 (dk_at dksX0_lures_1 23 rfl rfl)
theorem dX0_lures_47 : decode cX0_lures 47 = .ok (.if_icmp .ge 34, 3) := dk_162 0 34 (dk_at dksX0_lures_2 0 rfl rfl)
theorem dX0_lures_50 : decode cX0_lures 50 = .ok (.iload_n 2, 1) := dk_28 (dk_at dksX0_lures_2 3 rfl rfl)
theorem dX0_lures_51 : decode cX0_lures 51 = .ok (.iload_n 3, 1) := dk_29 (dk_at dksX0_lures_2 4 rfl rfl)
theorem dX0_lures_52 : decode cX0_lures 52 = .ok (.iadd, 1) := dk_96 (dk_at dksX0_lures_2 5 rfl rfl)
theorem dX0_lures_53 : decode cX0_lures 53 = .ok (.iconst 2, 1) := dk_5 (dk_at dksX0_lures_2 6 rfl rfl)
theorem dX0_lures_54 : decode cX0_lures 54 = .ok (.idiv, 1) := dk_108 (dk_at dksX0_lures_2 7 rfl rfl)
theorem dX0_lures_55 : decode cX0_lures 55 = .ok (.istore 4, 2) := dk_54 4 (dk_at dksX0_lures_2 8 rfl rfl)
theorem dX0_lures_57 : decode cX0_lures 57 = .ok (.aload_n 0, 1) := dk_42 (dk_at dksX0_lures_2 10 rfl rfl)
theorem dX0_lures_58 : decode cX0_lures 58 = .ok (.iload_n 1, 1) := dk_27 (dk_at dksX0_lures_2 11 rfl rfl)
theorem dX0_lures_59 : decode cX0_lures 59 = .ok (.iload 4, 2) := dk_21 4 (dk_at dksX0_lures_2 12 rfl rfl)
theorem dX0_lures_61 : decode cX0_lures 61 = .ok (.invokevirtual 351, 3) := dk_182 1 95 (dk_at dksX0_lures_2 14 rfl rfl)
theorem dX0_lures_64 : decode cX0_lures 64 = .ok (.ifCond .eq 9, 3) := dk_153 0 9 (dk_at dksX0_lures_2 17 rfl rfl)
theorem dX0_lures_67 : decode cX0_lures 67 = .ok (.iload 4, 2) := dk_21 4 (dk_at dksX0_lures_2 20 rfl rfl)
theorem dX0_lures_69 : decode cX0_lures 69 = .ok (.istore_n 3, 1) := dk_62 (dk_at dksX0_lures_2 22 rfl rfl)
theorem dX0_lures_70 : decode cX0_lures 70 = .ok (.goto 8, 3) := dk_167 0 8 (dk_at dksX0_lures_3 0 rfl rfl)
theorem dX0_lures_73 : decode cX0_lures 73 = .ok (.iload 4, 2) := dk_21 4 (dk_at dksX0_lures_3 3 rfl rfl)
theorem dX0_lures_75 : decode cX0_lures 75 = .ok (.iconst 1, 1) := dk_4 (dk_at dksX0_lures_3 5 rfl rfl)
theorem dX0_lures_76 : decode cX0_lures 76 = .ok (.iadd, 1) := dk_96 (dk_at dksX0_lures_3 6 rfl rfl)
theorem dX0_lures_77 : decode cX0_lures 77 = .ok (.istore_n 2, 1) := dk_61 (dk_at dksX0_lures_3 7 rfl rfl)
theorem dX0_lures_78 : decode cX0_lures 78 = .ok (.goto (-33), 3) := dk_167 255 223 (dk_at dksX0_lures_3 8 rfl rfl)
theorem dX0_lures_81 : decode cX0_lures 81 = .ok (.iload_n 2, 1) := dk_28 (dk_at dksX0_lures_3 11 rfl rfl)
theorem dX0_lures_82 : decode cX0_lures 82 = .ok (.ireturn, 1) := dk_172 (dk_at dksX0_lures_3 12 rfl rfl)
abbrev cX0_isLured : ByteArray := prog_1_method_75_code
def yX0_isLured : MethodName := ⟨RX0, "isLured", "(II)Z"⟩
def dkwX0_isLured_4 : List UInt8 := [172]
abbrev dktX0_isLured_4 : List UInt8 := dkwX0_isLured_4 ++ []
def dkwX0_isLured_3 : List UInt8 := [160, 0, 7, 4, 167, 0, 4, 3, 62, 132, 4, 1, 167, 255, 195, 42, 180, 0, 18, 1, 181, 1, 65, 29]
abbrev dktX0_isLured_3 : List UInt8 := dkwX0_isLured_3 ++ dktX0_isLured_4
def dkwX0_isLured_2 : List UInt8 := [21, 4, 182, 0, 133, 192, 0, 155, 42, 180, 0, 18, 3, 182, 0, 167, 42, 180, 0, 18, 182, 0, 106]
abbrev dktX0_isLured_2 : List UInt8 := dkwX0_isLured_2 ++ dktX0_isLured_3
def dkwX0_isLured_1 : List UInt8 := [42, 180, 0, 18, 180, 0, 110, 182, 0, 114, 162, 0, 52, 29, 154, 0, 48, 42, 180, 0, 18, 180, 0, 110]
abbrev dktX0_isLured_1 : List UInt8 := dkwX0_isLured_1 ++ dktX0_isLured_2
def dkwX0_isLured_0 : List UInt8 := [42, 180, 0, 18, 187, 0, 137, 89, 3, 28, 27, 183, 1, 62, 181, 1, 65, 3, 62, 3, 54, 4, 21, 4]
abbrev dktX0_isLured_0 : List UInt8 := dkwX0_isLured_0 ++ dktX0_isLured_1
theorem dksX0_isLured_0 : cX0_isLured.data.toList.drop 0 = dktX0_isLured_0 := by decide +kernel
theorem dksX0_isLured_1 : cX0_isLured.data.toList.drop 24 = dktX0_isLured_1 := dk_seg dksX0_isLured_0 24 rfl rfl
theorem dksX0_isLured_2 : cX0_isLured.data.toList.drop 48 = dktX0_isLured_2 := dk_seg dksX0_isLured_1 24 rfl rfl
theorem dksX0_isLured_3 : cX0_isLured.data.toList.drop 71 = dktX0_isLured_3 := dk_seg dksX0_isLured_2 23 rfl rfl
theorem dksX0_isLured_4 : cX0_isLured.data.toList.drop 95 = dktX0_isLured_4 := dk_seg dksX0_isLured_3 24 rfl rfl
theorem dX0_isLured_0 : decode cX0_isLured 0 = .ok (.aload_n 0, 1) := dk_42 (dk_at dksX0_isLured_0 0 rfl rfl)
theorem dX0_isLured_1 : decode cX0_isLured 1 = .ok (.getfield 18, 3) := dk_180 0 18 (dk_at dksX0_isLured_0 1 rfl rfl)
theorem dX0_isLured_4 : decode cX0_isLured 4 = .ok (.new 137, 3) := dk_187 0 137 (dk_at dksX0_isLured_0 4 rfl rfl)
theorem dX0_isLured_7 : decode cX0_isLured 7 = .ok (.dup, 1) := dk_89 (dk_at dksX0_isLured_0 7 rfl rfl)
theorem dX0_isLured_8 : decode cX0_isLured 8 = .ok (.iconst 0, 1) := dk_3 (dk_at dksX0_isLured_0 8 rfl rfl)
theorem dX0_isLured_9 : decode cX0_isLured 9 = .ok (.iload_n 2, 1) := dk_28 (dk_at dksX0_isLured_0 9 rfl rfl)
theorem dX0_isLured_10 : decode cX0_isLured 10 = .ok (.iload_n 1, 1) := dk_27 (dk_at dksX0_isLured_0 10 rfl rfl)
theorem dX0_isLured_11 : decode cX0_isLured 11 = .ok (.invokespecial 318, 3) := dk_183 1 62 (dk_at dksX0_isLured_0 11 rfl rfl)
theorem dX0_isLured_14 : decode cX0_isLured 14 = .ok (.putfield 321, 3) := dk_181 1 65 (dk_at dksX0_isLured_0 14 rfl rfl)
theorem dX0_isLured_17 : decode cX0_isLured 17 = .ok (.iconst 0, 1) := dk_3 (dk_at dksX0_isLured_0 17 rfl rfl)
theorem dX0_isLured_18 : decode cX0_isLured 18 = .ok (.istore_n 3, 1) := dk_62 (dk_at dksX0_isLured_0 18 rfl rfl)
theorem dX0_isLured_19 : decode cX0_isLured 19 = .ok (.iconst 0, 1) := dk_3 (dk_at dksX0_isLured_0 19 rfl rfl)
theorem dX0_isLured_20 : decode cX0_isLured 20 = .ok (.istore 4, 2) := dk_54 4 (dk_at dksX0_isLured_0 20 rfl rfl)
theorem dX0_isLured_22 : decode cX0_isLured 22 = .ok (.iload 4, 2) := dk_21 4 (dk_at dksX0_isLured_0 22 rfl rfl)
theorem dX0_isLured_24 : decode cX0_isLured 24 = .ok (.aload_n 0, 1) := dk_42 (dk_at dksX0_isLured_1 0 rfl rfl)
theorem dX0_isLured_25 : decode cX0_isLured 25 = .ok (.getfield 18, 3) := dk_180 0 18 (dk_at dksX0_isLured_1 1 rfl rfl)
theorem dX0_isLured_28 : decode cX0_isLured 28 = .ok (.getfield 110, 3) := dk_180 0 110 (dk_at dksX0_isLured_1 4 rfl rfl)
theorem dX0_isLured_31 : decode cX0_isLured 31 = .ok (.invokevirtual 114, 3) := dk_182 0 114 (dk_at dksX0_isLured_1 7 rfl rfl)
theorem dX0_isLured_34 : decode cX0_isLured 34 = .ok (.if_icmp .ge 52, 3) := dk_162 0 52 (dk_at dksX0_isLured_1 10 rfl rfl)
theorem dX0_isLured_37 : decode cX0_isLured 37 = .ok (.iload_n 3, 1) := dk_29 (dk_at dksX0_isLured_1 13 rfl rfl)
theorem dX0_isLured_38 : decode cX0_isLured 38 = .ok (.ifCond .ne 48, 3) := dk_154 0 48 (dk_at dksX0_isLured_1 14 rfl rfl)
theorem dX0_isLured_41 : decode cX0_isLured 41 = .ok (.aload_n 0, 1) := dk_42 (dk_at dksX0_isLured_1 17 rfl rfl)
theorem dX0_isLured_42 : decode cX0_isLured 42 = .ok (.getfield 18, 3) := dk_180 0 18 (dk_at dksX0_isLured_1 18 rfl rfl)
theorem dX0_isLured_45 : decode cX0_isLured 45 = .ok (.getfield 110, 3) := dk_180 0 110 (dk_at dksX0_isLured_1 21 rfl rfl)
theorem dX0_isLured_48 : decode cX0_isLured 48 = .ok (.iload 4, 2) := dk_21 4 (dk_at dksX0_isLured_2 0 rfl rfl)
theorem dX0_isLured_50 : decode cX0_isLured 50 = .ok (.invokevirtual 133, 3) := dk_182 0 133 (dk_at dksX0_isLured_2 2 rfl rfl)
theorem dX0_isLured_53 : decode cX0_isLured 53 = .ok (.checkcast 155, 3) := dk_192 0 155 (dk_at dksX0_isLured_2 5 rfl rfl)
theorem dX0_isLured_56 : decode cX0_isLured 56 = .ok (.aload_n 0, 1) := dk_42 (dk_at dksX0_isLured_2 8 rfl rfl)
theorem dX0_isLured_57 : decode cX0_isLured 57 = .ok (.getfield 18, 3) := dk_180 0 18 (dk_at dksX0_isLured_2 9 rfl rfl)
theorem dX0_isLured_60 : decode cX0_isLured 60 = .ok (.iconst 0, 1) := dk_3 (dk_at dksX0_isLured_2 12 rfl rfl)
theorem dX0_isLured_61 : decode cX0_isLured 61 = .ok (.invokevirtual 167, 3) := dk_182 0 167 (dk_at dksX0_isLured_2 13 rfl rfl)
theorem dX0_isLured_64 : decode cX0_isLured 64 = .ok (.aload_n 0, 1) := dk_42 (dk_at dksX0_isLured_2 16 rfl rfl)
theorem dX0_isLured_65 : decode cX0_isLured 65 = .ok (.getfield 18, 3) := dk_180 0 18 (dk_at dksX0_isLured_2 17 rfl rfl)
theorem dX0_isLured_68 : decode cX0_isLured 68 = .ok (.invokevirtual 106, 3) := dk_182 0 106 (dk_at dksX0_isLured_2 20 rfl rfl)
theorem dX0_isLured_71 : decode cX0_isLured 71 = .ok (.if_icmp .ne 7, 3) := dk_160 0 7 (dk_at dksX0_isLured_3 0 rfl rfl)
theorem dX0_isLured_74 : decode cX0_isLured 74 = .ok (.iconst 1, 1) := dk_4 (dk_at dksX0_isLured_3 3 rfl rfl)
theorem dX0_isLured_75 : decode cX0_isLured 75 = .ok (.goto 4, 3) := dk_167 0 4 (dk_at dksX0_isLured_3 4 rfl rfl)
theorem dX0_isLured_78 : decode cX0_isLured 78 = .ok (.iconst 0, 1) := dk_3 (dk_at dksX0_isLured_3 7 rfl rfl)
theorem dX0_isLured_79 : decode cX0_isLured 79 = .ok (.istore_n 3, 1) := dk_62 (dk_at dksX0_isLured_3 8 rfl rfl)
theorem dX0_isLured_80 : decode cX0_isLured 80 = .ok (.iinc 4 1, 3) := dk_132 4 1 (dk_at dksX0_isLured_3 9 rfl rfl)
theorem dX0_isLured_83 : decode cX0_isLured 83 = .ok (.goto (-61), 3) := dk_167 255 195 (dk_at dksX0_isLured_3 12 rfl rfl)
theorem dX0_isLured_86 : decode cX0_isLured 86 = .ok (.aload_n 0, 1) := dk_42 (dk_at dksX0_isLured_3 15 rfl rfl)
theorem dX0_isLured_87 : decode cX0_isLured 87 = .ok (.getfield 18, 3) := dk_180 0 18 (dk_at dksX0_isLured_3 16 rfl rfl)
theorem dX0_isLured_90 : decode cX0_isLured 90 = .ok (.aconst_null, 1) := dk_1 (dk_at dksX0_isLured_3 19 rfl rfl)
theorem dX0_isLured_91 : decode cX0_isLured 91 = .ok (.putfield 321, 3) := dk_181 1 65 (dk_at dksX0_isLured_3 20 rfl rfl)
theorem dX0_isLured_94 : decode cX0_isLured 94 = .ok (.iload_n 3, 1) := dk_29 (dk_at dksX0_isLured_3 23 rfl rfl)
theorem dX0_isLured_95 : decode cX0_isLured 95 = .ok (.ireturn, 1) := dk_172 (dk_at dksX0_isLured_4 0 rfl rfl)
abbrev cX0_cover : ByteArray := prog_1_method_80_code
def yX0_cover : MethodName := ⟨RX0, "cover", "(III)J"⟩
def dkwX0_cover_1 : List UInt8 := [167, 0, 6, 20, 0, 182, 173]
abbrev dktX0_cover_1 : List UInt8 := dkwX0_cover_1 ++ []
def dkwX0_cover_0 : List UInt8 := [42, 27, 28, 29, 182, 1, 104, 153, 0, 20, 42, 27, 42, 27, 28, 29, 182, 1, 108, 28, 29, 182, 1, 100]
abbrev dktX0_cover_0 : List UInt8 := dkwX0_cover_0 ++ dktX0_cover_1
theorem dksX0_cover_0 : cX0_cover.data.toList.drop 0 = dktX0_cover_0 := by decide +kernel
theorem dksX0_cover_1 : cX0_cover.data.toList.drop 24 = dktX0_cover_1 := dk_seg dksX0_cover_0 24 rfl rfl
theorem dX0_cover_0 : decode cX0_cover 0 = .ok (.aload_n 0, 1) := dk_42 (dk_at dksX0_cover_0 0 rfl rfl)
theorem dX0_cover_1 : decode cX0_cover 1 = .ok (.iload_n 1, 1) := dk_27 (dk_at dksX0_cover_0 1 rfl rfl)
theorem dX0_cover_2 : decode cX0_cover 2 = .ok (.iload_n 2, 1) := dk_28 (dk_at dksX0_cover_0 2 rfl rfl)
theorem dX0_cover_3 : decode cX0_cover 3 = .ok (.iload_n 3, 1) := dk_29 (dk_at dksX0_cover_0 3 rfl rfl)
theorem dX0_cover_4 : decode cX0_cover 4 = .ok (.invokevirtual 360, 3) := dk_182 1 104 (dk_at dksX0_cover_0 4 rfl rfl)
theorem dX0_cover_7 : decode cX0_cover 7 = .ok (.ifCond .eq 20, 3) := dk_153 0 20 (dk_at dksX0_cover_0 7 rfl rfl)
theorem dX0_cover_10 : decode cX0_cover 10 = .ok (.aload_n 0, 1) := dk_42 (dk_at dksX0_cover_0 10 rfl rfl)
theorem dX0_cover_11 : decode cX0_cover 11 = .ok (.iload_n 1, 1) := dk_27 (dk_at dksX0_cover_0 11 rfl rfl)
theorem dX0_cover_12 : decode cX0_cover 12 = .ok (.aload_n 0, 1) := dk_42 (dk_at dksX0_cover_0 12 rfl rfl)
theorem dX0_cover_13 : decode cX0_cover 13 = .ok (.iload_n 1, 1) := dk_27 (dk_at dksX0_cover_0 13 rfl rfl)
theorem dX0_cover_14 : decode cX0_cover 14 = .ok (.iload_n 2, 1) := dk_28 (dk_at dksX0_cover_0 14 rfl rfl)
theorem dX0_cover_15 : decode cX0_cover 15 = .ok (.iload_n 3, 1) := dk_29 (dk_at dksX0_cover_0 15 rfl rfl)
theorem dX0_cover_16 : decode cX0_cover 16 = .ok (.invokevirtual 364, 3) := dk_182 1 108 (dk_at dksX0_cover_0 16 rfl rfl)
theorem dX0_cover_19 : decode cX0_cover 19 = .ok (.iload_n 2, 1) := dk_28 (dk_at dksX0_cover_0 19 rfl rfl)
theorem dX0_cover_20 : decode cX0_cover 20 = .ok (.iload_n 3, 1) := dk_29 (dk_at dksX0_cover_0 20 rfl rfl)
theorem dX0_cover_21 : decode cX0_cover 21 = .ok (.invokevirtual 356, 3) := dk_182 1 100 (dk_at dksX0_cover_0 21 rfl rfl)
theorem dX0_cover_24 : decode cX0_cover 24 = .ok (.goto 6, 3) := dk_167 0 6 (dk_at dksX0_cover_1 0 rfl rfl)
theorem dX0_cover_27 : decode cX0_cover 27 = .ok (.ldc2_w 182, 3) := dk_20 0 182 (dk_at dksX0_cover_1 3 rfl rfl)
theorem dX0_cover_30 : decode cX0_cover 30 = .ok (.lreturn, 1) := dk_173 (dk_at dksX0_cover_1 6 rfl rfl)
abbrev cX0_isCover : ByteArray := prog_1_method_78_code
def yX0_isCover : MethodName := ⟨RX0, "isCover", "(III)Z"⟩
def dkwX0_isCover_1 : List UInt8 := [153, 0, 7, 4, 167, 0, 4, 3, 172]
abbrev dktX0_isCover_1 : List UInt8 := dkwX0_isCover_1 ++ []
def dkwX0_isCover_0 : List UInt8 := [42, 27, 182, 0, 127, 153, 0, 26, 28, 133, 9, 20, 1, 72, 184, 0, 5, 153, 0, 14, 29, 184, 1, 74]
abbrev dktX0_isCover_0 : List UInt8 := dkwX0_isCover_0 ++ dktX0_isCover_1
theorem dksX0_isCover_0 : cX0_isCover.data.toList.drop 0 = dktX0_isCover_0 := by decide +kernel
theorem dksX0_isCover_1 : cX0_isCover.data.toList.drop 24 = dktX0_isCover_1 := dk_seg dksX0_isCover_0 24 rfl rfl
theorem dX0_isCover_0 : decode cX0_isCover 0 = .ok (.aload_n 0, 1) := dk_42 (dk_at dksX0_isCover_0 0 rfl rfl)
theorem dX0_isCover_1 : decode cX0_isCover 1 = .ok (.iload_n 1, 1) := dk_27 (dk_at dksX0_isCover_0 1 rfl rfl)
theorem dX0_isCover_2 : decode cX0_isCover 2 = .ok (.invokevirtual 127, 3) := dk_182 0 127 (dk_at dksX0_isCover_0 2 rfl rfl)
theorem dX0_isCover_5 : decode cX0_isCover 5 = .ok (.ifCond .eq 26, 3) := dk_153 0 26 (dk_at dksX0_isCover_0 5 rfl rfl)
theorem dX0_isCover_8 : decode cX0_isCover 8 = .ok (.iload_n 2, 1) := dk_28 (dk_at dksX0_isCover_0 8 rfl rfl)
theorem dX0_isCover_9 : decode cX0_isCover 9 = .ok (.i2l, 1) := dk_133 (dk_at dksX0_isCover_0 9 rfl rfl)
theorem dX0_isCover_10 : decode cX0_isCover 10 = .ok (.lconst 0, 1) := dk_9 (dk_at dksX0_isCover_0 10 rfl rfl)
theorem dX0_isCover_11 : decode cX0_isCover 11 = .ok (.ldc2_w 328, 3) := dk_20 1 72 (dk_at dksX0_isCover_0 11 rfl rfl)
theorem dX0_isCover_14 : decode cX0_isCover 14 = .ok (.invokestatic 5, 3) := dk_184 0 5 (dk_at dksX0_isCover_0 14 rfl rfl)
theorem dX0_isCover_17 : decode cX0_isCover 17 = .ok (.ifCond .eq 14, 3) := dk_153 0 14 (dk_at dksX0_isCover_0 17 rfl rfl)
theorem dX0_isCover_20 : decode cX0_isCover 20 = .ok (.iload_n 3, 1) := dk_29 (dk_at dksX0_isCover_0 20 rfl rfl)
theorem dX0_isCover_21 : decode cX0_isCover 21 = .ok (.invokestatic 330, 3) := dk_184 1 74 (dk_at dksX0_isCover_0 21 rfl rfl)
theorem dX0_isCover_24 : decode cX0_isCover 24 = .ok (.ifCond .eq 7, 3) := dk_153 0 7 (dk_at dksX0_isCover_1 0 rfl rfl)
theorem dX0_isCover_27 : decode cX0_isCover 27 = .ok (.iconst 1, 1) := dk_4 (dk_at dksX0_isCover_1 3 rfl rfl)
theorem dX0_isCover_28 : decode cX0_isCover 28 = .ok (.goto 4, 3) := dk_167 0 4 (dk_at dksX0_isCover_1 4 rfl rfl)
theorem dX0_isCover_31 : decode cX0_isCover 31 = .ok (.iconst 0, 1) := dk_3 (dk_at dksX0_isCover_1 7 rfl rfl)
theorem dX0_isCover_32 : decode cX0_isCover 32 = .ok (.ireturn, 1) := dk_172 (dk_at dksX0_isCover_1 8 rfl rfl)
abbrev cX0_carelessOf : ByteArray := prog_1_method_79_code
def yX0_carelessOf : MethodName := ⟨RX0, "carelessOf", "(III)I"⟩
def dkwX0_carelessOf_2 : List UInt8 := [155, 0, 6, 167, 0, 11, 21, 7, 54, 4, 22, 8, 55, 5, 132, 7, 1, 167, 255, 211, 21, 4, 172]
abbrev dktX0_carelessOf_2 : List UInt8 := dkwX0_carelessOf_2 ++ []
def dkwX0_carelessOf_1 : List UInt8 := [182, 0, 223, 162, 0, 39, 42, 27, 21, 7, 28, 29, 182, 1, 100, 55, 8, 22, 8, 22, 5, 148]
abbrev dktX0_carelessOf_1 : List UInt8 := dkwX0_carelessOf_1 ++ dktX0_carelessOf_2
def dkwX0_carelessOf_0 : List UInt8 := [3, 54, 4, 42, 27, 3, 28, 29, 182, 1, 100, 55, 5, 4, 54, 7, 21, 7, 42, 180, 0, 18]
abbrev dktX0_carelessOf_0 : List UInt8 := dkwX0_carelessOf_0 ++ dktX0_carelessOf_1
theorem dksX0_carelessOf_0 : cX0_carelessOf.data.toList.drop 0 = dktX0_carelessOf_0 := by decide +kernel
theorem dksX0_carelessOf_1 : cX0_carelessOf.data.toList.drop 22 = dktX0_carelessOf_1 := dk_seg dksX0_carelessOf_0 22 rfl rfl
theorem dksX0_carelessOf_2 : cX0_carelessOf.data.toList.drop 44 = dktX0_carelessOf_2 := dk_seg dksX0_carelessOf_1 22 rfl rfl
theorem dX0_carelessOf_0 : decode cX0_carelessOf 0 = .ok (.iconst 0, 1) := dk_3 (dk_at dksX0_carelessOf_0 0 rfl rfl)
theorem dX0_carelessOf_1 : decode cX0_carelessOf 1 = .ok (.istore 4, 2) := dk_54 4 (dk_at dksX0_carelessOf_0 1 rfl rfl)
theorem dX0_carelessOf_3 : decode cX0_carelessOf 3 = .ok (.aload_n 0, 1) := dk_42 (dk_at dksX0_carelessOf_0 3 rfl rfl)
theorem dX0_carelessOf_4 : decode cX0_carelessOf 4 = .ok (.iload_n 1, 1) := dk_27 (dk_at dksX0_carelessOf_0 4 rfl rfl)
theorem dX0_carelessOf_5 : decode cX0_carelessOf 5 = .ok (.iconst 0, 1) := dk_3 (dk_at dksX0_carelessOf_0 5 rfl rfl)
theorem dX0_carelessOf_6 : decode cX0_carelessOf 6 = .ok (.iload_n 2, 1) := dk_28 (dk_at dksX0_carelessOf_0 6 rfl rfl)
theorem dX0_carelessOf_7 : decode cX0_carelessOf 7 = .ok (.iload_n 3, 1) := dk_29 (dk_at dksX0_carelessOf_0 7 rfl rfl)
theorem dX0_carelessOf_8 : decode cX0_carelessOf 8 = .ok (.invokevirtual 356, 3) := dk_182 1 100 (dk_at dksX0_carelessOf_0 8 rfl rfl)
theorem dX0_carelessOf_11 : decode cX0_carelessOf 11 = .ok (.lstore 5, 2) := dk_55 5 (dk_at dksX0_carelessOf_0 11 rfl rfl)
theorem dX0_carelessOf_13 : decode cX0_carelessOf 13 = .ok (.iconst 1, 1) := dk_4 (dk_at dksX0_carelessOf_0 13 rfl rfl)
theorem dX0_carelessOf_14 : decode cX0_carelessOf 14 = .ok (.istore 7, 2) := dk_54 7 (dk_at dksX0_carelessOf_0 14 rfl rfl)
theorem dX0_carelessOf_16 : decode cX0_carelessOf 16 = .ok (.iload 7, 2) := dk_21 7 (dk_at dksX0_carelessOf_0 16 rfl rfl)
theorem dX0_carelessOf_18 : decode cX0_carelessOf 18 = .ok (.aload_n 0, 1) := dk_42 (dk_at dksX0_carelessOf_0 18 rfl rfl)
theorem dX0_carelessOf_19 : decode cX0_carelessOf 19 = .ok (.getfield 18, 3) := dk_180 0 18 (dk_at dksX0_carelessOf_0 19 rfl rfl)
theorem dX0_carelessOf_22 : decode cX0_carelessOf 22 = .ok (.invokevirtual 223, 3) := dk_182 0 223 (dk_at dksX0_carelessOf_1 0 rfl rfl)
theorem dX0_carelessOf_25 : decode cX0_carelessOf 25 = .ok (.if_icmp .ge 39, 3) := dk_162 0 39 (dk_at dksX0_carelessOf_1 3 rfl rfl)
theorem dX0_carelessOf_28 : decode cX0_carelessOf 28 = .ok (.aload_n 0, 1) := dk_42 (dk_at dksX0_carelessOf_1 6 rfl rfl)
theorem dX0_carelessOf_29 : decode cX0_carelessOf 29 = .ok (.iload_n 1, 1) := dk_27 (dk_at dksX0_carelessOf_1 7 rfl rfl)
theorem dX0_carelessOf_30 : decode cX0_carelessOf 30 = .ok (.iload 7, 2) := dk_21 7 (dk_at dksX0_carelessOf_1 8 rfl rfl)
theorem dX0_carelessOf_32 : decode cX0_carelessOf 32 = .ok (.iload_n 2, 1) := dk_28 (dk_at dksX0_carelessOf_1 10 rfl rfl)
theorem dX0_carelessOf_33 : decode cX0_carelessOf 33 = .ok (.iload_n 3, 1) := dk_29 (dk_at dksX0_carelessOf_1 11 rfl rfl)
theorem dX0_carelessOf_34 : decode cX0_carelessOf 34 = .ok (.invokevirtual 356, 3) := dk_182 1 100 (dk_at dksX0_carelessOf_1 12 rfl rfl)
theorem dX0_carelessOf_37 : decode cX0_carelessOf 37 = .ok (.lstore 8, 2) := dk_55 8 (dk_at dksX0_carelessOf_1 15 rfl rfl)
theorem dX0_carelessOf_39 : decode cX0_carelessOf 39 = .ok (.lload 8, 2) := dk_22 8 (dk_at dksX0_carelessOf_1 17 rfl rfl)
theorem dX0_carelessOf_41 : decode cX0_carelessOf 41 = .ok (.lload 5, 2) := dk_22 5 (dk_at dksX0_carelessOf_1 19 rfl rfl)
theorem dX0_carelessOf_43 : decode cX0_carelessOf 43 = .ok (.lcmp, 1) := dk_148 (dk_at dksX0_carelessOf_1 21 rfl rfl)
theorem dX0_carelessOf_44 : decode cX0_carelessOf 44 = .ok (.ifCond .lt 6, 3) := dk_155 0 6 (dk_at dksX0_carelessOf_2 0 rfl rfl)
theorem dX0_carelessOf_47 : decode cX0_carelessOf 47 = .ok (.goto 11, 3) := dk_167 0 11 (dk_at dksX0_carelessOf_2 3 rfl rfl)
theorem dX0_carelessOf_50 : decode cX0_carelessOf 50 = .ok (.iload 7, 2) := dk_21 7 (dk_at dksX0_carelessOf_2 6 rfl rfl)
theorem dX0_carelessOf_52 : decode cX0_carelessOf 52 = .ok (.istore 4, 2) := dk_54 4 (dk_at dksX0_carelessOf_2 8 rfl rfl)
theorem dX0_carelessOf_54 : decode cX0_carelessOf 54 = .ok (.lload 8, 2) := dk_22 8 (dk_at dksX0_carelessOf_2 10 rfl rfl)
theorem dX0_carelessOf_56 : decode cX0_carelessOf 56 = .ok (.lstore 5, 2) := dk_55 5 (dk_at dksX0_carelessOf_2 12 rfl rfl)
theorem dX0_carelessOf_58 : decode cX0_carelessOf 58 = .ok (.iinc 7 1, 3) := dk_132 7 1 (dk_at dksX0_carelessOf_2 14 rfl rfl)
theorem dX0_carelessOf_61 : decode cX0_carelessOf 61 = .ok (.goto (-45), 3) := dk_167 255 211 (dk_at dksX0_carelessOf_2 17 rfl rfl)
theorem dX0_carelessOf_64 : decode cX0_carelessOf 64 = .ok (.iload 4, 2) := dk_21 4 (dk_at dksX0_carelessOf_2 20 rfl rfl)
theorem dX0_carelessOf_66 : decode cX0_carelessOf 66 = .ok (.ireturn, 1) := dk_172 (dk_at dksX0_carelessOf_2 22 rfl rfl)
abbrev cX0_coveredBy : ByteArray := prog_1_method_77_code
def yX0_coveredBy : MethodName := ⟨RX0, "coveredBy", "(IIII)J"⟩
def dkwX0_coveredBy_3 : List UInt8 := [25, 5, 21, 6, 182, 0, 232, 22, 7, 173]
abbrev dktX0_coveredBy_3 : List UInt8 := dkwX0_coveredBy_3 ++ []
def dkwX0_coveredBy_2 : List UInt8 := [21, 4, 100, 133, 42, 180, 0, 27, 182, 0, 175, 27, 182, 0, 209, 105, 20, 0, 3, 109, 97, 55, 7]
abbrev dktX0_coveredBy_2 : List UInt8 := dkwX0_coveredBy_2 ++ dktX0_coveredBy_3
def dkwX0_coveredBy_1 : List UInt8 := [25, 5, 28, 182, 0, 232, 20, 1, 98, 29, 133, 105, 42, 180, 0, 18, 27, 182, 0, 206, 97, 16, 100]
abbrev dktX0_coveredBy_1 : List UInt8 := dkwX0_coveredBy_1 ++ dktX0_coveredBy_2
def dkwX0_coveredBy_0 : List UInt8 := [42, 180, 0, 18, 180, 0, 130, 27, 182, 0, 133, 192, 0, 137, 58, 5, 25, 5, 182, 0, 229, 54, 6]
abbrev dktX0_coveredBy_0 : List UInt8 := dkwX0_coveredBy_0 ++ dktX0_coveredBy_1
theorem dksX0_coveredBy_0 : cX0_coveredBy.data.toList.drop 0 = dktX0_coveredBy_0 := by decide +kernel
theorem dksX0_coveredBy_1 : cX0_coveredBy.data.toList.drop 23 = dktX0_coveredBy_1 := dk_seg dksX0_coveredBy_0 23 rfl rfl
theorem dksX0_coveredBy_2 : cX0_coveredBy.data.toList.drop 46 = dktX0_coveredBy_2 := dk_seg dksX0_coveredBy_1 23 rfl rfl
theorem dksX0_coveredBy_3 : cX0_coveredBy.data.toList.drop 69 = dktX0_coveredBy_3 := dk_seg dksX0_coveredBy_2 23 rfl rfl
theorem dX0_coveredBy_0 : decode cX0_coveredBy 0 = .ok (.aload_n 0, 1) := dk_42 (dk_at dksX0_coveredBy_0 0 rfl rfl)
theorem dX0_coveredBy_1 : decode cX0_coveredBy 1 = .ok (.getfield 18, 3) := dk_180 0 18 (dk_at dksX0_coveredBy_0 1 rfl rfl)
theorem dX0_coveredBy_4 : decode cX0_coveredBy 4 = .ok (.getfield 130, 3) := dk_180 0 130 (dk_at dksX0_coveredBy_0 4 rfl rfl)
theorem dX0_coveredBy_7 : decode cX0_coveredBy 7 = .ok (.iload_n 1, 1) := dk_27 (dk_at dksX0_coveredBy_0 7 rfl rfl)
theorem dX0_coveredBy_8 : decode cX0_coveredBy 8 = .ok (.invokevirtual 133, 3) := dk_182 0 133 (dk_at dksX0_coveredBy_0 8 rfl rfl)
theorem dX0_coveredBy_11 : decode cX0_coveredBy 11 = .ok (.checkcast 137, 3) := dk_192 0 137 (dk_at dksX0_coveredBy_0 11 rfl rfl)
theorem dX0_coveredBy_14 : decode cX0_coveredBy 14 = .ok (.astore 5, 2) := dk_58 5 (dk_at dksX0_coveredBy_0 14 rfl rfl)
theorem dX0_coveredBy_16 : decode cX0_coveredBy 16 = .ok (.aload 5, 2) := dk_25 5 (dk_at dksX0_coveredBy_0 16 rfl rfl)
theorem dX0_coveredBy_18 : decode cX0_coveredBy 18 = .ok (.invokevirtual 229, 3) := dk_182 0 229 (dk_at dksX0_coveredBy_0 18 rfl rfl)
theorem dX0_coveredBy_21 : decode cX0_coveredBy 21 = .ok (.istore 6, 2) := dk_54 6 (dk_at dksX0_coveredBy_0 21 rfl rfl)
theorem dX0_coveredBy_23 : decode cX0_coveredBy 23 = .ok (.aload 5, 2) := dk_25 5 (dk_at dksX0_coveredBy_1 0 rfl rfl)
theorem dX0_coveredBy_25 : decode cX0_coveredBy 25 = .ok (.iload_n 2, 1) := dk_28 (dk_at dksX0_coveredBy_1 2 rfl rfl)
theorem dX0_coveredBy_26 : decode cX0_coveredBy 26 = .ok (.invokevirtual 232, 3) := dk_182 0 232 (dk_at dksX0_coveredBy_1 3 rfl rfl)
theorem dX0_coveredBy_29 : decode cX0_coveredBy 29 = .ok (.ldc2_w 354, 3) := dk_20 1 98 (dk_at dksX0_coveredBy_1 6 rfl rfl)
theorem dX0_coveredBy_32 : decode cX0_coveredBy 32 = .ok (.iload_n 3, 1) := dk_29 (dk_at dksX0_coveredBy_1 9 rfl rfl)
theorem dX0_coveredBy_33 : decode cX0_coveredBy 33 = .ok (.i2l, 1) := dk_133 (dk_at dksX0_coveredBy_1 10 rfl rfl)
theorem dX0_coveredBy_34 : decode cX0_coveredBy 34 = .ok (.lmul, 1) := dk_105 (dk_at dksX0_coveredBy_1 11 rfl rfl)
theorem dX0_coveredBy_35 : decode cX0_coveredBy 35 = .ok (.aload_n 0, 1) := dk_42 (dk_at dksX0_coveredBy_1 12 rfl rfl)
theorem dX0_coveredBy_36 : decode cX0_coveredBy 36 = .ok (.getfield 18, 3) := dk_180 0 18 (dk_at dksX0_coveredBy_1 13 rfl rfl)
theorem dX0_coveredBy_39 : decode cX0_coveredBy 39 = .ok (.iload_n 1, 1) := dk_27 (dk_at dksX0_coveredBy_1 16 rfl rfl)
theorem dX0_coveredBy_40 : decode cX0_coveredBy 40 = .ok (.invokevirtual 206, 3) := dk_182 0 206 (dk_at dksX0_coveredBy_1 17 rfl rfl)
theorem dX0_coveredBy_43 : decode cX0_coveredBy 43 = .ok (.ladd, 1) := dk_97 (dk_at dksX0_coveredBy_1 20 rfl rfl)
theorem dX0_coveredBy_44 : decode cX0_coveredBy 44 = .ok (.bipush 100, 2) := dk_16 100 (dk_at dksX0_coveredBy_1 21 rfl rfl)
theorem dX0_coveredBy_46 : decode cX0_coveredBy 46 = .ok (.iload 4, 2) := dk_21 4 (dk_at dksX0_coveredBy_2 0 rfl rfl)
theorem dX0_coveredBy_48 : decode cX0_coveredBy 48 = .ok (.isub, 1) := dk_100 (dk_at dksX0_coveredBy_2 2 rfl rfl)
theorem dX0_coveredBy_49 : decode cX0_coveredBy 49 = .ok (.i2l, 1) := dk_133 (dk_at dksX0_coveredBy_2 3 rfl rfl)
theorem dX0_coveredBy_50 : decode cX0_coveredBy 50 = .ok (.aload_n 0, 1) := dk_42 (dk_at dksX0_coveredBy_2 4 rfl rfl)
theorem dX0_coveredBy_51 : decode cX0_coveredBy 51 = .ok (.getfield 27, 3) := dk_180 0 27 (dk_at dksX0_coveredBy_2 5 rfl rfl)
theorem dX0_coveredBy_54 : decode cX0_coveredBy 54 = .ok (.invokevirtual 175, 3) := dk_182 0 175 (dk_at dksX0_coveredBy_2 8 rfl rfl)
theorem dX0_coveredBy_57 : decode cX0_coveredBy 57 = .ok (.iload_n 1, 1) := dk_27 (dk_at dksX0_coveredBy_2 11 rfl rfl)
theorem dX0_coveredBy_58 : decode cX0_coveredBy 58 = .ok (.invokevirtual 209, 3) := dk_182 0 209 (dk_at dksX0_coveredBy_2 12 rfl rfl)
theorem dX0_coveredBy_61 : decode cX0_coveredBy 61 = .ok (.lmul, 1) := dk_105 (dk_at dksX0_coveredBy_2 15 rfl rfl)
theorem dX0_coveredBy_62 : decode cX0_coveredBy 62 = .ok (.ldc2_w 3, 3) := dk_20 0 3 (dk_at dksX0_coveredBy_2 16 rfl rfl)
theorem dX0_coveredBy_65 : decode cX0_coveredBy 65 = .ok (.ldiv, 1) := dk_109 (dk_at dksX0_coveredBy_2 19 rfl rfl)
theorem dX0_coveredBy_66 : decode cX0_coveredBy 66 = .ok (.ladd, 1) := dk_97 (dk_at dksX0_coveredBy_2 20 rfl rfl)
theorem dX0_coveredBy_67 : decode cX0_coveredBy 67 = .ok (.lstore 7, 2) := dk_55 7 (dk_at dksX0_coveredBy_2 21 rfl rfl)
theorem dX0_coveredBy_69 : decode cX0_coveredBy 69 = .ok (.aload 5, 2) := dk_25 5 (dk_at dksX0_coveredBy_3 0 rfl rfl)
theorem dX0_coveredBy_71 : decode cX0_coveredBy 71 = .ok (.iload 6, 2) := dk_21 6 (dk_at dksX0_coveredBy_3 2 rfl rfl)
theorem dX0_coveredBy_73 : decode cX0_coveredBy 73 = .ok (.invokevirtual 232, 3) := dk_182 0 232 (dk_at dksX0_coveredBy_3 4 rfl rfl)
theorem dX0_coveredBy_76 : decode cX0_coveredBy 76 = .ok (.lload 7, 2) := dk_22 7 (dk_at dksX0_coveredBy_3 7 rfl rfl)
theorem dX0_coveredBy_78 : decode cX0_coveredBy 78 = .ok (.lreturn, 1) := dk_173 (dk_at dksX0_coveredBy_3 9 rfl rfl)
abbrev cX0_careless : ByteArray := prog_1_method_81_code
def yX0_careless : MethodName := ⟨RX0, "careless", "(III)I"⟩
def dkwX0_careless_0 : List UInt8 := [42, 27, 28, 29, 182, 1, 104, 153, 0, 13, 42, 27, 28, 29, 182, 1, 108, 167, 0, 5, 16, 254, 172]
abbrev dktX0_careless_0 : List UInt8 := dkwX0_careless_0 ++ []
theorem dksX0_careless_0 : cX0_careless.data.toList.drop 0 = dktX0_careless_0 := by decide +kernel
theorem dX0_careless_0 : decode cX0_careless 0 = .ok (.aload_n 0, 1) := dk_42 (dk_at dksX0_careless_0 0 rfl rfl)
theorem dX0_careless_1 : decode cX0_careless 1 = .ok (.iload_n 1, 1) := dk_27 (dk_at dksX0_careless_0 1 rfl rfl)
theorem dX0_careless_2 : decode cX0_careless 2 = .ok (.iload_n 2, 1) := dk_28 (dk_at dksX0_careless_0 2 rfl rfl)
theorem dX0_careless_3 : decode cX0_careless 3 = .ok (.iload_n 3, 1) := dk_29 (dk_at dksX0_careless_0 3 rfl rfl)
theorem dX0_careless_4 : decode cX0_careless 4 = .ok (.invokevirtual 360, 3) := dk_182 1 104 (dk_at dksX0_careless_0 4 rfl rfl)
theorem dX0_careless_7 : decode cX0_careless 7 = .ok (.ifCond .eq 13, 3) := dk_153 0 13 (dk_at dksX0_careless_0 7 rfl rfl)
theorem dX0_careless_10 : decode cX0_careless 10 = .ok (.aload_n 0, 1) := dk_42 (dk_at dksX0_careless_0 10 rfl rfl)
theorem dX0_careless_11 : decode cX0_careless 11 = .ok (.iload_n 1, 1) := dk_27 (dk_at dksX0_careless_0 11 rfl rfl)
theorem dX0_careless_12 : decode cX0_careless 12 = .ok (.iload_n 2, 1) := dk_28 (dk_at dksX0_careless_0 12 rfl rfl)
theorem dX0_careless_13 : decode cX0_careless 13 = .ok (.iload_n 3, 1) := dk_29 (dk_at dksX0_careless_0 13 rfl rfl)
theorem dX0_careless_14 : decode cX0_careless 14 = .ok (.invokevirtual 364, 3) := dk_182 1 108 (dk_at dksX0_careless_0 14 rfl rfl)
theorem dX0_careless_17 : decode cX0_careless 17 = .ok (.goto 5, 3) := dk_167 0 5 (dk_at dksX0_careless_0 17 rfl rfl)
theorem dX0_careless_20 : decode cX0_careless 20 = .ok (.bipush (-2), 2) := dk_16 254 (dk_at dksX0_careless_0 20 rfl rfl)
theorem dX0_careless_22 : decode cX0_careless 22 = .ok (.ireturn, 1) := dk_172 (dk_at dksX0_careless_0 22 rfl rfl)
abbrev cX0_law : ByteArray := prog_1_method_83_code
def yX0_law : MethodName := ⟨RX0, "law", "(I)J"⟩
def dkwX0_law_1 : List UInt8 := [133, 184, 0, 5, 153, 0, 11, 42, 27, 182, 1, 121, 167, 0, 6, 20, 0, 182, 173]
abbrev dktX0_law_1 : List UInt8 := dkwX0_law_1 ++ []
def dkwX0_law_0 : List UInt8 := [42, 182, 0, 171, 153, 0, 35, 27, 133, 20, 1, 5, 42, 180, 0, 18, 180, 1, 118, 182, 0, 114, 4, 100]
abbrev dktX0_law_0 : List UInt8 := dkwX0_law_0 ++ dktX0_law_1
theorem dksX0_law_0 : cX0_law.data.toList.drop 0 = dktX0_law_0 := by decide +kernel
theorem dksX0_law_1 : cX0_law.data.toList.drop 24 = dktX0_law_1 := dk_seg dksX0_law_0 24 rfl rfl
theorem dX0_law_0 : decode cX0_law 0 = .ok (.aload_n 0, 1) := dk_42 (dk_at dksX0_law_0 0 rfl rfl)
theorem dX0_law_1 : decode cX0_law 1 = .ok (.invokevirtual 171, 3) := dk_182 0 171 (dk_at dksX0_law_0 1 rfl rfl)
theorem dX0_law_4 : decode cX0_law 4 = .ok (.ifCond .eq 35, 3) := dk_153 0 35 (dk_at dksX0_law_0 4 rfl rfl)
theorem dX0_law_7 : decode cX0_law 7 = .ok (.iload_n 1, 1) := dk_27 (dk_at dksX0_law_0 7 rfl rfl)
theorem dX0_law_8 : decode cX0_law 8 = .ok (.i2l, 1) := dk_133 (dk_at dksX0_law_0 8 rfl rfl)
theorem dX0_law_9 : decode cX0_law 9 = .ok (.ldc2_w 261, 3) := dk_20 1 5 (dk_at dksX0_law_0 9 rfl rfl)
theorem dX0_law_12 : decode cX0_law 12 = .ok (.aload_n 0, 1) := dk_42 (dk_at dksX0_law_0 12 rfl rfl)
theorem dX0_law_13 : decode cX0_law 13 = .ok (.getfield 18, 3) := dk_180 0 18 (dk_at dksX0_law_0 13 rfl rfl)
theorem dX0_law_16 : decode cX0_law 16 = .ok (.getfield 374, 3) := dk_180 1 118 (dk_at dksX0_law_0 16 rfl rfl)
theorem dX0_law_19 : decode cX0_law 19 = .ok (.invokevirtual 114, 3) := dk_182 0 114 (dk_at dksX0_law_0 19 rfl rfl)
theorem dX0_law_22 : decode cX0_law 22 = .ok (.iconst 1, 1) := dk_4 (dk_at dksX0_law_0 22 rfl rfl)
theorem dX0_law_23 : decode cX0_law 23 = .ok (.isub, 1) := dk_100 (dk_at dksX0_law_0 23 rfl rfl)
theorem dX0_law_24 : decode cX0_law 24 = .ok (.i2l, 1) := dk_133 (dk_at dksX0_law_1 0 rfl rfl)
theorem dX0_law_25 : decode cX0_law 25 = .ok (.invokestatic 5, 3) := dk_184 0 5 (dk_at dksX0_law_1 1 rfl rfl)
theorem dX0_law_28 : decode cX0_law 28 = .ok (.ifCond .eq 11, 3) := dk_153 0 11 (dk_at dksX0_law_1 4 rfl rfl)
theorem dX0_law_31 : decode cX0_law 31 = .ok (.aload_n 0, 1) := dk_42 (dk_at dksX0_law_1 7 rfl rfl)
theorem dX0_law_32 : decode cX0_law 32 = .ok (.iload_n 1, 1) := dk_27 (dk_at dksX0_law_1 8 rfl rfl)
theorem dX0_law_33 : decode cX0_law 33 = .ok (.invokevirtual 377, 3) := dk_182 1 121 (dk_at dksX0_law_1 9 rfl rfl)
theorem dX0_law_36 : decode cX0_law 36 = .ok (.goto 6, 3) := dk_167 0 6 (dk_at dksX0_law_1 12 rfl rfl)
theorem dX0_law_39 : decode cX0_law 39 = .ok (.ldc2_w 182, 3) := dk_20 0 182 (dk_at dksX0_law_1 15 rfl rfl)
theorem dX0_law_42 : decode cX0_law 42 = .ok (.lreturn, 1) := dk_173 (dk_at dksX0_law_1 18 rfl rfl)
abbrev cX0_lawOf : ByteArray := prog_1_method_82_code
def yX0_lawOf : MethodName := ⟨RX0, "lawOf", "(I)J"⟩
def dkwX0_lawOf_3 : List UInt8 := [182, 1, 2, 32, 173]
abbrev dktX0_lawOf_3 : List UInt8 := dkwX0_lawOf_3 ++ []
def dkwX0_lawOf_2 : List UInt8 := [180, 0, 146, 184, 1, 112, 181, 0, 146, 132, 2, 1, 167, 255, 204, 42, 5, 182, 0, 220, 65, 42]
abbrev dktX0_lawOf_2 : List UInt8 := dkwX0_lawOf_2 ++ dktX0_lawOf_3
def dkwX0_lawOf_1 : List UInt8 := [28, 182, 0, 133, 192, 0, 137, 27, 42, 180, 0, 18, 180, 0, 130, 28, 182, 0, 133, 192, 0, 137]
abbrev dktX0_lawOf_1 : List UInt8 := dkwX0_lawOf_1 ++ dktX0_lawOf_2
def dkwX0_lawOf_0 : List UInt8 := [42, 182, 0, 255, 3, 61, 28, 42, 180, 0, 18, 182, 0, 106, 162, 0, 47, 42, 180, 0, 18, 180, 0, 130]
abbrev dktX0_lawOf_0 : List UInt8 := dkwX0_lawOf_0 ++ dktX0_lawOf_1
theorem dksX0_lawOf_0 : cX0_lawOf.data.toList.drop 0 = dktX0_lawOf_0 := by decide +kernel
theorem dksX0_lawOf_1 : cX0_lawOf.data.toList.drop 24 = dktX0_lawOf_1 := dk_seg dksX0_lawOf_0 24 rfl rfl
theorem dksX0_lawOf_2 : cX0_lawOf.data.toList.drop 46 = dktX0_lawOf_2 := dk_seg dksX0_lawOf_1 22 rfl rfl
theorem dksX0_lawOf_3 : cX0_lawOf.data.toList.drop 68 = dktX0_lawOf_3 := dk_seg dksX0_lawOf_2 22 rfl rfl
theorem dX0_lawOf_0 : decode cX0_lawOf 0 = .ok (.aload_n 0, 1) := dk_42 (dk_at dksX0_lawOf_0 0 rfl rfl)
theorem dX0_lawOf_1 : decode cX0_lawOf 1 = .ok (.invokevirtual 255, 3) := dk_182 0 255 (dk_at dksX0_lawOf_0 1 rfl rfl)
theorem dX0_lawOf_4 : decode cX0_lawOf 4 = .ok (.iconst 0, 1) := dk_3 (dk_at dksX0_lawOf_0 4 rfl rfl)
theorem dX0_lawOf_5 : decode cX0_lawOf 5 = .ok (.istore_n 2, 1) := dk_61 (dk_at dksX0_lawOf_0 5 rfl rfl)
theorem dX0_lawOf_6 : decode cX0_lawOf 6 = .ok (.iload_n 2, 1) := dk_28 (dk_at dksX0_lawOf_0 6 rfl rfl)
theorem dX0_lawOf_7 : decode cX0_lawOf 7 = .ok (.aload_n 0, 1) := dk_42 (dk_at dksX0_lawOf_0 7 rfl rfl)
theorem dX0_lawOf_8 : decode cX0_lawOf 8 = .ok (.getfield 18, 3) := dk_180 0 18 (dk_at dksX0_lawOf_0 8 rfl rfl)
theorem dX0_lawOf_11 : decode cX0_lawOf 11 = .ok (.invokevirtual 106, 3) := dk_182 0 106 (dk_at dksX0_lawOf_0 11 rfl rfl)
theorem dX0_lawOf_14 : decode cX0_lawOf 14 = .ok (.if_icmp .ge 47, 3) := dk_162 0 47 (dk_at dksX0_lawOf_0 14 rfl rfl)
theorem dX0_lawOf_17 : decode cX0_lawOf 17 = .ok (.aload_n 0, 1) := dk_42 (dk_at dksX0_lawOf_0 17 rfl rfl)
theorem dX0_lawOf_18 : decode cX0_lawOf 18 = .ok (.getfield 18, 3) := dk_180 0 18 (dk_at dksX0_lawOf_0 18 rfl rfl)
theorem dX0_lawOf_21 : decode cX0_lawOf 21 = .ok (.getfield 130, 3) := dk_180 0 130 (dk_at dksX0_lawOf_0 21 rfl rfl)
theorem dX0_lawOf_24 : decode cX0_lawOf 24 = .ok (.iload_n 2, 1) := dk_28 (dk_at dksX0_lawOf_1 0 rfl rfl)
theorem dX0_lawOf_25 : decode cX0_lawOf 25 = .ok (.invokevirtual 133, 3) := dk_182 0 133 (dk_at dksX0_lawOf_1 1 rfl rfl)
theorem dX0_lawOf_28 : decode cX0_lawOf 28 = .ok (.checkcast 137, 3) := dk_192 0 137 (dk_at dksX0_lawOf_1 4 rfl rfl)
theorem dX0_lawOf_31 : decode cX0_lawOf 31 = .ok (.iload_n 1, 1) := dk_27 (dk_at dksX0_lawOf_1 7 rfl rfl)
theorem dX0_lawOf_32 : decode cX0_lawOf 32 = .ok (.aload_n 0, 1) := dk_42 (dk_at dksX0_lawOf_1 8 rfl rfl)
theorem dX0_lawOf_33 : decode cX0_lawOf 33 = .ok (.getfield 18, 3) := dk_180 0 18 (dk_at dksX0_lawOf_1 9 rfl rfl)
theorem dX0_lawOf_36 : decode cX0_lawOf 36 = .ok (.getfield 130, 3) := dk_180 0 130 (dk_at dksX0_lawOf_1 12 rfl rfl)
theorem dX0_lawOf_39 : decode cX0_lawOf 39 = .ok (.iload_n 2, 1) := dk_28 (dk_at dksX0_lawOf_1 15 rfl rfl)
theorem dX0_lawOf_40 : decode cX0_lawOf 40 = .ok (.invokevirtual 133, 3) := dk_182 0 133 (dk_at dksX0_lawOf_1 16 rfl rfl)
theorem dX0_lawOf_43 : decode cX0_lawOf 43 = .ok (.checkcast 137, 3) := dk_192 0 137 (dk_at dksX0_lawOf_1 19 rfl rfl)
theorem dX0_lawOf_46 : decode cX0_lawOf 46 = .ok (.getfield 146, 3) := dk_180 0 146 (dk_at dksX0_lawOf_2 0 rfl rfl)
theorem dX0_lawOf_49 : decode cX0_lawOf 49 = .ok (.invokestatic 368, 3) := dk_184 1 112 (dk_at dksX0_lawOf_2 3 rfl rfl)
theorem dX0_lawOf_52 : decode cX0_lawOf 52 = .ok (.putfield 146, 3) := dk_181 0 146 (dk_at dksX0_lawOf_2 6 rfl rfl)
theorem dX0_lawOf_55 : decode cX0_lawOf 55 = .ok (.iinc 2 1, 3) := dk_132 2 1 (dk_at dksX0_lawOf_2 9 rfl rfl)
theorem dX0_lawOf_58 : decode cX0_lawOf 58 = .ok (.goto (-52), 3) := dk_167 255 204 (dk_at dksX0_lawOf_2 12 rfl rfl)
theorem dX0_lawOf_61 : decode cX0_lawOf 61 = .ok (.aload_n 0, 1) := dk_42 (dk_at dksX0_lawOf_2 15 rfl rfl)
theorem dX0_lawOf_62 : decode cX0_lawOf 62 = .ok (.iconst 2, 1) := dk_5 (dk_at dksX0_lawOf_2 16 rfl rfl)
theorem dX0_lawOf_63 : decode cX0_lawOf 63 = .ok (.invokevirtual 220, 3) := dk_182 0 220 (dk_at dksX0_lawOf_2 17 rfl rfl)
theorem dX0_lawOf_66 : decode cX0_lawOf 66 = .ok (.lstore_n 2, 1) := dk_65 (dk_at dksX0_lawOf_2 20 rfl rfl)
theorem dX0_lawOf_67 : decode cX0_lawOf 67 = .ok (.aload_n 0, 1) := dk_42 (dk_at dksX0_lawOf_2 21 rfl rfl)
theorem dX0_lawOf_68 : decode cX0_lawOf 68 = .ok (.invokevirtual 258, 3) := dk_182 1 2 (dk_at dksX0_lawOf_3 0 rfl rfl)
theorem dX0_lawOf_71 : decode cX0_lawOf 71 = .ok (.lload_n 2, 1) := dk_32 (dk_at dksX0_lawOf_3 3 rfl rfl)
theorem dX0_lawOf_72 : decode cX0_lawOf 72 = .ok (.lreturn, 1) := dk_173 (dk_at dksX0_lawOf_3 4 rfl rfl)
abbrev cX0_laws : ByteArray := prog_1_method_84_code
def yX0_laws : MethodName := ⟨RX0, "laws", "()I"⟩
def dkwX0_laws_2 : List UInt8 := [155, 0, 6, 167, 0, 9, 21, 4, 60, 22, 5, 65, 132, 4, 1, 167, 255, 214, 27, 172]
abbrev dktX0_laws_2 : List UInt8 := dkwX0_laws_2 ++ []
def dkwX0_laws_1 : List UInt8 := [180, 0, 18, 180, 1, 118, 182, 0, 114, 162, 0, 33, 42, 21, 4, 182, 1, 121, 55, 5, 22, 5, 32, 148]
abbrev dktX0_laws_1 : List UInt8 := dkwX0_laws_1 ++ dktX0_laws_2
def dkwX0_laws_0 : List UInt8 := [42, 182, 0, 171, 154, 0, 6, 16, 254, 172, 2, 60, 42, 2, 182, 1, 121, 65, 3, 54, 4, 21, 4, 42]
abbrev dktX0_laws_0 : List UInt8 := dkwX0_laws_0 ++ dktX0_laws_1
theorem dksX0_laws_0 : cX0_laws.data.toList.drop 0 = dktX0_laws_0 := by decide +kernel
theorem dksX0_laws_1 : cX0_laws.data.toList.drop 24 = dktX0_laws_1 := dk_seg dksX0_laws_0 24 rfl rfl
theorem dksX0_laws_2 : cX0_laws.data.toList.drop 48 = dktX0_laws_2 := dk_seg dksX0_laws_1 24 rfl rfl
theorem dX0_laws_0 : decode cX0_laws 0 = .ok (.aload_n 0, 1) := dk_42 (dk_at dksX0_laws_0 0 rfl rfl)
theorem dX0_laws_1 : decode cX0_laws 1 = .ok (.invokevirtual 171, 3) := dk_182 0 171 (dk_at dksX0_laws_0 1 rfl rfl)
theorem dX0_laws_4 : decode cX0_laws 4 = .ok (.ifCond .ne 6, 3) := dk_154 0 6 (dk_at dksX0_laws_0 4 rfl rfl)
theorem dX0_laws_7 : decode cX0_laws 7 = .ok (.bipush (-2), 2) := dk_16 254 (dk_at dksX0_laws_0 7 rfl rfl)
theorem dX0_laws_9 : decode cX0_laws 9 = .ok (.ireturn, 1) := dk_172 (dk_at dksX0_laws_0 9 rfl rfl)
theorem dX0_laws_10 : decode cX0_laws 10 = .ok (.iconst (-1), 1) := dk_2 (dk_at dksX0_laws_0 10 rfl rfl)
theorem dX0_laws_11 : decode cX0_laws 11 = .ok (.istore_n 1, 1) := dk_60 (dk_at dksX0_laws_0 11 rfl rfl)
theorem dX0_laws_12 : decode cX0_laws 12 = .ok (.aload_n 0, 1) := dk_42 (dk_at dksX0_laws_0 12 rfl rfl)
theorem dX0_laws_13 : decode cX0_laws 13 = .ok (.iconst (-1), 1) := dk_2 (dk_at dksX0_laws_0 13 rfl rfl)
theorem dX0_laws_14 : decode cX0_laws 14 = .ok (.invokevirtual 377, 3) := dk_182 1 121 (dk_at dksX0_laws_0 14 rfl rfl)
theorem dX0_laws_17 : decode cX0_laws 17 = .ok (.lstore_n 2, 1) := dk_65 (dk_at dksX0_laws_0 17 rfl rfl)
theorem dX0_laws_18 : decode cX0_laws 18 = .ok (.iconst 0, 1) := dk_3 (dk_at dksX0_laws_0 18 rfl rfl)
theorem dX0_laws_19 : decode cX0_laws 19 = .ok (.istore 4, 2) := dk_54 4 (dk_at dksX0_laws_0 19 rfl rfl)
theorem dX0_laws_21 : decode cX0_laws 21 = .ok (.iload 4, 2) := dk_21 4 (dk_at dksX0_laws_0 21 rfl rfl)
theorem dX0_laws_23 : decode cX0_laws 23 = .ok (.aload_n 0, 1) := dk_42 (dk_at dksX0_laws_0 23 rfl rfl)
theorem dX0_laws_24 : decode cX0_laws 24 = .ok (.getfield 18, 3) := dk_180 0 18 (dk_at dksX0_laws_1 0 rfl rfl)
theorem dX0_laws_27 : decode cX0_laws 27 = .ok (.getfield 374, 3) := dk_180 1 118 (dk_at dksX0_laws_1 3 rfl rfl)
theorem dX0_laws_30 : decode cX0_laws 30 = .ok (.invokevirtual 114, 3) := dk_182 0 114 (dk_at dksX0_laws_1 6 rfl rfl)
theorem dX0_laws_33 : decode cX0_laws 33 = .ok (.if_icmp .ge 33, 3) := dk_162 0 33 (dk_at dksX0_laws_1 9 rfl rfl)
theorem dX0_laws_36 : decode cX0_laws 36 = .ok (.aload_n 0, 1) := dk_42 (dk_at dksX0_laws_1 12 rfl rfl)
theorem dX0_laws_37 : decode cX0_laws 37 = .ok (.iload 4, 2) := dk_21 4 (dk_at dksX0_laws_1 13 rfl rfl)
theorem dX0_laws_39 : decode cX0_laws 39 = .ok (.invokevirtual 377, 3) := dk_182 1 121 (dk_at dksX0_laws_1 15 rfl rfl)
theorem dX0_laws_42 : decode cX0_laws 42 = .ok (.lstore 5, 2) := dk_55 5 (dk_at dksX0_laws_1 18 rfl rfl)
theorem dX0_laws_44 : decode cX0_laws 44 = .ok (.lload 5, 2) := dk_22 5 (dk_at dksX0_laws_1 20 rfl rfl)
theorem dX0_laws_46 : decode cX0_laws 46 = .ok (.lload_n 2, 1) := dk_32 (dk_at dksX0_laws_1 22 rfl rfl)
theorem dX0_laws_47 : decode cX0_laws 47 = .ok (.lcmp, 1) := dk_148 (dk_at dksX0_laws_1 23 rfl rfl)
theorem dX0_laws_48 : decode cX0_laws 48 = .ok (.ifCond .lt 6, 3) := dk_155 0 6 (dk_at dksX0_laws_2 0 rfl rfl)
theorem dX0_laws_51 : decode cX0_laws 51 = .ok (.goto 9, 3) := dk_167 0 9 (dk_at dksX0_laws_2 3 rfl rfl)
theorem dX0_laws_54 : decode cX0_laws 54 = .ok (.iload 4, 2) := dk_21 4 (dk_at dksX0_laws_2 6 rfl rfl)
theorem dX0_laws_56 : decode cX0_laws 56 = .ok (.istore_n 1, 1) := dk_60 (dk_at dksX0_laws_2 8 rfl rfl)
theorem dX0_laws_57 : decode cX0_laws 57 = .ok (.lload 5, 2) := dk_22 5 (dk_at dksX0_laws_2 9 rfl rfl)
theorem dX0_laws_59 : decode cX0_laws 59 = .ok (.lstore_n 2, 1) := dk_65 (dk_at dksX0_laws_2 11 rfl rfl)
theorem dX0_laws_60 : decode cX0_laws 60 = .ok (.iinc 4 1, 3) := dk_132 4 1 (dk_at dksX0_laws_2 12 rfl rfl)
theorem dX0_laws_63 : decode cX0_laws 63 = .ok (.goto (-42), 3) := dk_167 255 214 (dk_at dksX0_laws_2 15 rfl rfl)
theorem dX0_laws_66 : decode cX0_laws 66 = .ok (.iload_n 1, 1) := dk_27 (dk_at dksX0_laws_2 18 rfl rfl)
theorem dX0_laws_67 : decode cX0_laws 67 = .ok (.ireturn, 1) := dk_172 (dk_at dksX0_laws_2 19 rfl rfl)
abbrev cX0_rather : ByteArray := prog_1_method_86_code
def yX0_rather : MethodName := ⟨RX0, "rather", "(II)I"⟩
def dkwX0_rather_4 : List UInt8 := [21, 6, 21, 5, 164, 0, 7, 4, 167, 0, 4, 3, 172]
abbrev dktX0_rather_4 : List UInt8 := dkwX0_rather_4 ++ []
def dkwX0_rather_3 : List UInt8 := [54, 5, 45, 25, 4, 184, 1, 125, 54, 6, 21, 5, 154, 0, 12, 21, 6, 154, 0, 7, 2, 167, 0, 15]
abbrev dktX0_rather_3 : List UInt8 := dkwX0_rather_3 ++ dktX0_rather_4
def dkwX0_rather_2 : List UInt8 := [192, 0, 155, 78, 42, 180, 0, 67, 28, 50, 180, 1, 124, 58, 4, 45, 42, 180, 0, 18, 184, 1, 125]
abbrev dktX0_rather_2 : List UInt8 := dkwX0_rather_2 ++ dktX0_rather_3
def dkwX0_rather_1 : List UInt8 := [28, 50, 180, 1, 124, 199, 0, 6, 16, 254, 172, 42, 180, 0, 18, 180, 0, 110, 27, 182, 0, 133]
abbrev dktX0_rather_1 : List UInt8 := dkwX0_rather_1 ++ dktX0_rather_2
def dkwX0_rather_0 : List UInt8 := [42, 27, 182, 0, 152, 153, 0, 27, 28, 133, 9, 20, 0, 215, 184, 0, 5, 153, 0, 15, 42, 180, 0, 67]
abbrev dktX0_rather_0 : List UInt8 := dkwX0_rather_0 ++ dktX0_rather_1
theorem dksX0_rather_0 : cX0_rather.data.toList.drop 0 = dktX0_rather_0 := by decide +kernel
theorem dksX0_rather_1 : cX0_rather.data.toList.drop 24 = dktX0_rather_1 := dk_seg dksX0_rather_0 24 rfl rfl
theorem dksX0_rather_2 : cX0_rather.data.toList.drop 46 = dktX0_rather_2 := dk_seg dksX0_rather_1 22 rfl rfl
theorem dksX0_rather_3 : cX0_rather.data.toList.drop 69 = dktX0_rather_3 := dk_seg dksX0_rather_2 23 rfl rfl
theorem dksX0_rather_4 : cX0_rather.data.toList.drop 93 = dktX0_rather_4 := dk_seg dksX0_rather_3 24 rfl rfl
theorem dX0_rather_0 : decode cX0_rather 0 = .ok (.aload_n 0, 1) := dk_42 (dk_at dksX0_rather_0 0 rfl rfl)
theorem dX0_rather_1 : decode cX0_rather 1 = .ok (.iload_n 1, 1) := dk_27 (dk_at dksX0_rather_0 1 rfl rfl)
theorem dX0_rather_2 : decode cX0_rather 2 = .ok (.invokevirtual 152, 3) := dk_182 0 152 (dk_at dksX0_rather_0 2 rfl rfl)
theorem dX0_rather_5 : decode cX0_rather 5 = .ok (.ifCond .eq 27, 3) := dk_153 0 27 (dk_at dksX0_rather_0 5 rfl rfl)
theorem dX0_rather_8 : decode cX0_rather 8 = .ok (.iload_n 2, 1) := dk_28 (dk_at dksX0_rather_0 8 rfl rfl)
theorem dX0_rather_9 : decode cX0_rather 9 = .ok (.i2l, 1) := dk_133 (dk_at dksX0_rather_0 9 rfl rfl)
theorem dX0_rather_10 : decode cX0_rather 10 = .ok (.lconst 0, 1) := dk_9 (dk_at dksX0_rather_0 10 rfl rfl)
theorem dX0_rather_11 : decode cX0_rather 11 = .ok (.ldc2_w 215, 3) := dk_20 0 215 (dk_at dksX0_rather_0 11 rfl rfl)
theorem dX0_rather_14 : decode cX0_rather 14 = .ok (.invokestatic 5, 3) := dk_184 0 5 (dk_at dksX0_rather_0 14 rfl rfl)
theorem dX0_rather_17 : decode cX0_rather 17 = .ok (.ifCond .eq 15, 3) := dk_153 0 15 (dk_at dksX0_rather_0 17 rfl rfl)
theorem dX0_rather_20 : decode cX0_rather 20 = .ok (.aload_n 0, 1) := dk_42 (dk_at dksX0_rather_0 20 rfl rfl)
theorem dX0_rather_21 : decode cX0_rather 21 = .ok (.getfield 67, 3) := dk_180 0 67 (dk_at dksX0_rather_0 21 rfl rfl)
theorem dX0_rather_24 : decode cX0_rather 24 = .ok (.iload_n 2, 1) := dk_28 (dk_at dksX0_rather_1 0 rfl rfl)
theorem dX0_rather_25 : decode cX0_rather 25 = .ok (.aaload, 1) := dk_50 (dk_at dksX0_rather_1 1 rfl rfl)
theorem dX0_rather_26 : decode cX0_rather 26 = .ok (.getfield 380, 3) := dk_180 1 124 (dk_at dksX0_rather_1 2 rfl rfl)
theorem dX0_rather_29 : decode cX0_rather 29 = .ok (.ifnonnull 6, 3) := dk_199 0 6 (dk_at dksX0_rather_1 5 rfl rfl)
theorem dX0_rather_32 : decode cX0_rather 32 = .ok (.bipush (-2), 2) := dk_16 254 (dk_at dksX0_rather_1 8 rfl rfl)
theorem dX0_rather_34 : decode cX0_rather 34 = .ok (.ireturn, 1) := dk_172 (dk_at dksX0_rather_1 10 rfl rfl)
theorem dX0_rather_35 : decode cX0_rather 35 = .ok (.aload_n 0, 1) := dk_42 (dk_at dksX0_rather_1 11 rfl rfl)
theorem dX0_rather_36 : decode cX0_rather 36 = .ok (.getfield 18, 3) := dk_180 0 18 (dk_at dksX0_rather_1 12 rfl rfl)
theorem dX0_rather_39 : decode cX0_rather 39 = .ok (.getfield 110, 3) := dk_180 0 110 (dk_at dksX0_rather_1 15 rfl rfl)
theorem dX0_rather_42 : decode cX0_rather 42 = .ok (.iload_n 1, 1) := dk_27 (dk_at dksX0_rather_1 18 rfl rfl)
theorem dX0_rather_43 : decode cX0_rather 43 = .ok (.invokevirtual 133, 3) := dk_182 0 133 (dk_at dksX0_rather_1 19 rfl rfl)
theorem dX0_rather_46 : decode cX0_rather 46 = .ok (.checkcast 155, 3) := dk_192 0 155 (dk_at dksX0_rather_2 0 rfl rfl)
theorem dX0_rather_49 : decode cX0_rather 49 = .ok (.astore_n 3, 1) := dk_78 (dk_at dksX0_rather_2 3 rfl rfl)
theorem dX0_rather_50 : decode cX0_rather 50 = .ok (.aload_n 0, 1) := dk_42 (dk_at dksX0_rather_2 4 rfl rfl)
theorem dX0_rather_51 : decode cX0_rather 51 = .ok (.getfield 67, 3) := dk_180 0 67 (dk_at dksX0_rather_2 5 rfl rfl)
theorem dX0_rather_54 : decode cX0_rather 54 = .ok (.iload_n 2, 1) := dk_28 (dk_at dksX0_rather_2 8 rfl rfl)
theorem dX0_rather_55 : decode cX0_rather 55 = .ok (.aaload, 1) := dk_50 (dk_at dksX0_rather_2 9 rfl rfl)
theorem dX0_rather_56 : decode cX0_rather 56 = .ok (.getfield 380, 3) := dk_180 1 124 (dk_at dksX0_rather_2 10 rfl rfl)
theorem dX0_rather_59 : decode cX0_rather 59 = .ok (.astore 4, 2) := dk_58 4 (dk_at dksX0_rather_2 13 rfl rfl)
theorem dX0_rather_61 : decode cX0_rather 61 = .ok (.aload_n 3, 1) := dk_45 (dk_at dksX0_rather_2 15 rfl rfl)
theorem dX0_rather_62 : decode cX0_rather 62 = .ok (.aload_n 0, 1) := dk_42 (dk_at dksX0_rather_2 16 rfl rfl)
theorem dX0_rather_63 : decode cX0_rather 63 = .ok (.getfield 18, 3) := dk_180 0 18 (dk_at dksX0_rather_2 17 rfl rfl)
theorem dX0_rather_66 : decode cX0_rather 66 = .ok (.invokestatic 381, 3) := dk_184 1 125 (dk_at dksX0_rather_2 20 rfl rfl)
theorem dX0_rather_69 : decode cX0_rather 69 = .ok (.istore 5, 2) := dk_54 5 (dk_at dksX0_rather_3 0 rfl rfl)
theorem dX0_rather_71 : decode cX0_rather 71 = .ok (.aload_n 3, 1) := dk_45 (dk_at dksX0_rather_3 2 rfl rfl)
theorem dX0_rather_72 : decode cX0_rather 72 = .ok (.aload 4, 2) := dk_25 4 (dk_at dksX0_rather_3 3 rfl rfl)
theorem dX0_rather_74 : decode cX0_rather 74 = .ok (.invokestatic 381, 3) := dk_184 1 125 (dk_at dksX0_rather_3 5 rfl rfl)
theorem dX0_rather_77 : decode cX0_rather 77 = .ok (.istore 6, 2) := dk_54 6 (dk_at dksX0_rather_3 8 rfl rfl)
theorem dX0_rather_79 : decode cX0_rather 79 = .ok (.iload 5, 2) := dk_21 5 (dk_at dksX0_rather_3 10 rfl rfl)
theorem dX0_rather_81 : decode cX0_rather 81 = .ok (.ifCond .ne 12, 3) := dk_154 0 12 (dk_at dksX0_rather_3 12 rfl rfl)
theorem dX0_rather_84 : decode cX0_rather 84 = .ok (.iload 6, 2) := dk_21 6 (dk_at dksX0_rather_3 15 rfl rfl)
theorem dX0_rather_86 : decode cX0_rather 86 = .ok (.ifCond .ne 7, 3) := dk_154 0 7 (dk_at dksX0_rather_3 17 rfl rfl)
theorem dX0_rather_89 : decode cX0_rather 89 = .ok (.iconst (-1), 1) := dk_2 (dk_at dksX0_rather_3 20 rfl rfl)
theorem dX0_rather_90 : decode cX0_rather 90 = .ok (.goto 15, 3) := dk_167 0 15 (dk_at dksX0_rather_3 21 rfl rfl)
theorem dX0_rather_93 : decode cX0_rather 93 = .ok (.iload 6, 2) := dk_21 6 (dk_at dksX0_rather_4 0 rfl rfl)
theorem dX0_rather_95 : decode cX0_rather 95 = .ok (.iload 5, 2) := dk_21 5 (dk_at dksX0_rather_4 2 rfl rfl)
theorem dX0_rather_97 : decode cX0_rather 97 = .ok (.if_icmp .le 7, 3) := dk_164 0 7 (dk_at dksX0_rather_4 4 rfl rfl)
theorem dX0_rather_100 : decode cX0_rather 100 = .ok (.iconst 1, 1) := dk_4 (dk_at dksX0_rather_4 7 rfl rfl)
theorem dX0_rather_101 : decode cX0_rather 101 = .ok (.goto 4, 3) := dk_167 0 4 (dk_at dksX0_rather_4 8 rfl rfl)
theorem dX0_rather_104 : decode cX0_rather 104 = .ok (.iconst 0, 1) := dk_3 (dk_at dksX0_rather_4 11 rfl rfl)
theorem dX0_rather_105 : decode cX0_rather 105 = .ok (.ireturn, 1) := dk_172 (dk_at dksX0_rather_4 12 rfl rfl)
abbrev cX0_netAt : ByteArray := prog_1_method_85_code
def yX0_netAt : MethodName := ⟨RX0, "netAt", "(LLockRail$Thief;LLockRail$Rail;)I"⟩
def dkwX0_netAt_1 : List UInt8 := [182, 0, 157, 100, 172]
abbrev dktX0_netAt_1 : List UInt8 := dkwX0_netAt_1 ++ []
def dkwX0_netAt_0 : List UInt8 := [42, 43, 3, 182, 0, 167, 61, 28, 2, 160, 0, 7, 3, 167, 0, 15, 43, 28, 182, 0, 161, 43, 42, 28]
abbrev dktX0_netAt_0 : List UInt8 := dkwX0_netAt_0 ++ dktX0_netAt_1
theorem dksX0_netAt_0 : cX0_netAt.data.toList.drop 0 = dktX0_netAt_0 := by decide +kernel
theorem dksX0_netAt_1 : cX0_netAt.data.toList.drop 24 = dktX0_netAt_1 := dk_seg dksX0_netAt_0 24 rfl rfl
theorem dX0_netAt_0 : decode cX0_netAt 0 = .ok (.aload_n 0, 1) := dk_42 (dk_at dksX0_netAt_0 0 rfl rfl)
theorem dX0_netAt_1 : decode cX0_netAt 1 = .ok (.aload_n 1, 1) := dk_43 (dk_at dksX0_netAt_0 1 rfl rfl)
theorem dX0_netAt_2 : decode cX0_netAt 2 = .ok (.iconst 0, 1) := dk_3 (dk_at dksX0_netAt_0 2 rfl rfl)
theorem dX0_netAt_3 : decode cX0_netAt 3 = .ok (.invokevirtual 167, 3) := dk_182 0 167 (dk_at dksX0_netAt_0 3 rfl rfl)
theorem dX0_netAt_6 : decode cX0_netAt 6 = .ok (.istore_n 2, 1) := dk_61 (dk_at dksX0_netAt_0 6 rfl rfl)
theorem dX0_netAt_7 : decode cX0_netAt 7 = .ok (.iload_n 2, 1) := dk_28 (dk_at dksX0_netAt_0 7 rfl rfl)
theorem dX0_netAt_8 : decode cX0_netAt 8 = .ok (.iconst (-1), 1) := dk_2 (dk_at dksX0_netAt_0 8 rfl rfl)
theorem dX0_netAt_9 : decode cX0_netAt 9 = .ok (.if_icmp .ne 7, 3) := dk_160 0 7 (dk_at dksX0_netAt_0 9 rfl rfl)
theorem dX0_netAt_12 : decode cX0_netAt 12 = .ok (.iconst 0, 1) := dk_3 (dk_at dksX0_netAt_0 12 rfl rfl)
theorem dX0_netAt_13 : decode cX0_netAt 13 = .ok (.goto 15, 3) := dk_167 0 15 (dk_at dksX0_netAt_0 13 rfl rfl)
theorem dX0_netAt_16 : decode cX0_netAt 16 = .ok (.aload_n 1, 1) := dk_43 (dk_at dksX0_netAt_0 16 rfl rfl)
theorem dX0_netAt_17 : decode cX0_netAt 17 = .ok (.iload_n 2, 1) := dk_28 (dk_at dksX0_netAt_0 17 rfl rfl)
theorem dX0_netAt_18 : decode cX0_netAt 18 = .ok (.invokevirtual 161, 3) := dk_182 0 161 (dk_at dksX0_netAt_0 18 rfl rfl)
theorem dX0_netAt_21 : decode cX0_netAt 21 = .ok (.aload_n 1, 1) := dk_43 (dk_at dksX0_netAt_0 21 rfl rfl)
theorem dX0_netAt_22 : decode cX0_netAt 22 = .ok (.aload_n 0, 1) := dk_42 (dk_at dksX0_netAt_0 22 rfl rfl)
theorem dX0_netAt_23 : decode cX0_netAt 23 = .ok (.iload_n 2, 1) := dk_28 (dk_at dksX0_netAt_0 23 rfl rfl)
theorem dX0_netAt_24 : decode cX0_netAt 24 = .ok (.invokevirtual 157, 3) := dk_182 0 157 (dk_at dksX0_netAt_1 0 rfl rfl)
theorem dX0_netAt_27 : decode cX0_netAt 27 = .ok (.isub, 1) := dk_100 (dk_at dksX0_netAt_1 3 rfl rfl)
theorem dX0_netAt_28 : decode cX0_netAt 28 = .ok (.ireturn, 1) := dk_172 (dk_at dksX0_netAt_1 4 rfl rfl)
abbrev cX0_run : ByteArray := prog_1_method_88_code
def yX0_run : MethodName := ⟨RX0, "run", "(I)I"⟩
def dkwX0_run_1 : List UInt8 := [182, 1, 134, 42, 180, 0, 50, 182, 1, 138, 172]
abbrev dktX0_run_1 : List UInt8 := dkwX0_run_1 ++ []
def dkwX0_run_0 : List UInt8 := [27, 184, 1, 131, 153, 0, 10, 42, 182, 0, 171, 154, 0, 6, 16, 254, 172, 42, 180, 0, 50, 27, 133]
abbrev dktX0_run_0 : List UInt8 := dkwX0_run_0 ++ dktX0_run_1
theorem dksX0_run_0 : cX0_run.data.toList.drop 0 = dktX0_run_0 := by decide +kernel
theorem dksX0_run_1 : cX0_run.data.toList.drop 23 = dktX0_run_1 := dk_seg dksX0_run_0 23 rfl rfl
theorem dX0_run_0 : decode cX0_run 0 = .ok (.iload_n 1, 1) := dk_27 (dk_at dksX0_run_0 0 rfl rfl)
theorem dX0_run_1 : decode cX0_run 1 = .ok (.invokestatic 387, 3) := dk_184 1 131 (dk_at dksX0_run_0 1 rfl rfl)
theorem dX0_run_4 : decode cX0_run 4 = .ok (.ifCond .eq 10, 3) := dk_153 0 10 (dk_at dksX0_run_0 4 rfl rfl)
theorem dX0_run_7 : decode cX0_run 7 = .ok (.aload_n 0, 1) := dk_42 (dk_at dksX0_run_0 7 rfl rfl)
theorem dX0_run_8 : decode cX0_run 8 = .ok (.invokevirtual 171, 3) := dk_182 0 171 (dk_at dksX0_run_0 8 rfl rfl)
theorem dX0_run_11 : decode cX0_run 11 = .ok (.ifCond .ne 6, 3) := dk_154 0 6 (dk_at dksX0_run_0 11 rfl rfl)
theorem dX0_run_14 : decode cX0_run 14 = .ok (.bipush (-2), 2) := dk_16 254 (dk_at dksX0_run_0 14 rfl rfl)
theorem dX0_run_16 : decode cX0_run 16 = .ok (.ireturn, 1) := dk_172 (dk_at dksX0_run_0 16 rfl rfl)
theorem dX0_run_17 : decode cX0_run 17 = .ok (.aload_n 0, 1) := dk_42 (dk_at dksX0_run_0 17 rfl rfl)
theorem dX0_run_18 : decode cX0_run 18 = .ok (.getfield 50, 3) := dk_180 0 50 (dk_at dksX0_run_0 18 rfl rfl)
theorem dX0_run_21 : decode cX0_run 21 = .ok (.iload_n 1, 1) := dk_27 (dk_at dksX0_run_0 21 rfl rfl)
theorem dX0_run_22 : decode cX0_run 22 = .ok (.i2l, 1) := dk_133 (dk_at dksX0_run_0 22 rfl rfl)
theorem dX0_run_23 : decode cX0_run 23 = .ok (.invokevirtual 390, 3) := dk_182 1 134 (dk_at dksX0_run_1 0 rfl rfl)
theorem dX0_run_26 : decode cX0_run 26 = .ok (.aload_n 0, 1) := dk_42 (dk_at dksX0_run_1 3 rfl rfl)
theorem dX0_run_27 : decode cX0_run 27 = .ok (.getfield 50, 3) := dk_180 0 50 (dk_at dksX0_run_1 4 rfl rfl)
theorem dX0_run_30 : decode cX0_run 30 = .ok (.invokevirtual 394, 3) := dk_182 1 138 (dk_at dksX0_run_1 7 rfl rfl)
theorem dX0_run_33 : decode cX0_run 33 = .ok (.ireturn, 1) := dk_172 (dk_at dksX0_run_1 10 rfl rfl)
abbrev cX0_isSeed : ByteArray := prog_1_method_87_code
def yX0_isSeed : MethodName := ⟨RX0, "isSeed", "(I)Z"⟩
def dkwX0_isSeed_0 : List UInt8 := [26, 133, 9, 20, 1, 129, 184, 0, 5, 172]
abbrev dktX0_isSeed_0 : List UInt8 := dkwX0_isSeed_0 ++ []
theorem dksX0_isSeed_0 : cX0_isSeed.data.toList.drop 0 = dktX0_isSeed_0 := by decide +kernel
theorem dX0_isSeed_0 : decode cX0_isSeed 0 = .ok (.iload_n 0, 1) := dk_26 (dk_at dksX0_isSeed_0 0 rfl rfl)
theorem dX0_isSeed_1 : decode cX0_isSeed 1 = .ok (.i2l, 1) := dk_133 (dk_at dksX0_isSeed_0 1 rfl rfl)
theorem dX0_isSeed_2 : decode cX0_isSeed 2 = .ok (.lconst 0, 1) := dk_9 (dk_at dksX0_isSeed_0 2 rfl rfl)
theorem dX0_isSeed_3 : decode cX0_isSeed 3 = .ok (.ldc2_w 385, 3) := dk_20 1 129 (dk_at dksX0_isSeed_0 3 rfl rfl)
theorem dX0_isSeed_6 : decode cX0_isSeed 6 = .ok (.invokestatic 5, 3) := dk_184 0 5 (dk_at dksX0_isSeed_0 6 rfl rfl)
theorem dX0_isSeed_9 : decode cX0_isSeed 9 = .ok (.ireturn, 1) := dk_172 (dk_at dksX0_isSeed_0 9 rfl rfl)
abbrev cX0_told : ByteArray := prog_1_method_89_code
def yX0_told : MethodName := ⟨RX0, "told", "(I)I"⟩
def dkwX0_told_8 : List UInt8 := [182, 1, 138, 172, 77, 16, 250, 172]
abbrev dktX0_told_8 : List UInt8 := dkwX0_told_8 ++ []
def dkwX0_told_7 : List UInt8 := [180, 0, 50, 21, 5, 182, 1, 155, 132, 5, 1, 167, 255, 209, 132, 4, 1, 167, 255, 186, 42, 180, 0, 50]
abbrev dktX0_told_7 : List UInt8 := dkwX0_told_7 ++ dktX0_told_8
def dkwX0_told_6 : List UInt8 := [162, 0, 38, 42, 180, 0, 60, 27, 50, 21, 4, 182, 1, 146, 136, 21, 5, 184, 1, 46, 153, 0, 12, 42]
abbrev dktX0_told_6 : List UInt8 := dkwX0_told_6 ++ dktX0_told_7
def dkwX0_told_5 : List UInt8 := [180, 0, 50, 3, 181, 1, 152, 3, 54, 5, 21, 5, 42, 180, 0, 18, 180, 0, 110, 182, 0, 114]
abbrev dktX0_told_5 : List UInt8 := dkwX0_told_5 ++ dktX0_told_6
def dkwX0_told_4 : List UInt8 := [154, 0, 6, 16, 254, 172, 42, 180, 0, 50, 182, 1, 149, 3, 54, 4, 21, 4, 28, 162, 0, 70, 42]
abbrev dktX0_told_4 : List UInt8 := dkwX0_told_4 ++ dktX0_told_5
def dkwX0_told_3 : List UInt8 := [180, 0, 18, 180, 0, 110, 182, 0, 114, 120, 4, 100, 133, 184, 0, 5, 62, 132, 4, 1, 167, 255, 212, 29]
abbrev dktX0_told_3 : List UInt8 := dkwX0_told_3 ++ dktX0_told_4
def dkwX0_told_2 : List UInt8 := [21, 4, 28, 162, 0, 44, 29, 153, 0, 40, 42, 180, 0, 60, 27, 50, 21, 4, 182, 1, 146, 9, 4, 42]
abbrev dktX0_told_2 : List UInt8 := dkwX0_told_2 ++ dktX0_told_3
def dkwX0_told_1 : List UInt8 := [182, 1, 142, 61, 28, 42, 180, 0, 18, 180, 1, 143, 163, 0, 7, 4, 167, 0, 4, 3, 62, 3, 54, 4]
abbrev dktX0_told_1 : List UInt8 := dkwX0_told_1 ++ dktX0_told_2
def dkwX0_told_0 : List UInt8 := [27, 184, 1, 139, 153, 0, 10, 42, 182, 0, 171, 154, 0, 6, 16, 254, 172, 42, 180, 0, 60, 27, 50]
abbrev dktX0_told_0 : List UInt8 := dkwX0_told_0 ++ dktX0_told_1
theorem dksX0_told_0 : cX0_told.data.toList.drop 0 = dktX0_told_0 := by decide +kernel
theorem dksX0_told_1 : cX0_told.data.toList.drop 23 = dktX0_told_1 := dk_seg dksX0_told_0 23 rfl rfl
theorem dksX0_told_2 : cX0_told.data.toList.drop 47 = dktX0_told_2 := dk_seg dksX0_told_1 24 rfl rfl
theorem dksX0_told_3 : cX0_told.data.toList.drop 71 = dktX0_told_3 := dk_seg dksX0_told_2 24 rfl rfl
theorem dksX0_told_4 : cX0_told.data.toList.drop 95 = dktX0_told_4 := dk_seg dksX0_told_3 24 rfl rfl
theorem dksX0_told_5 : cX0_told.data.toList.drop 118 = dktX0_told_5 := dk_seg dksX0_told_4 23 rfl rfl
theorem dksX0_told_6 : cX0_told.data.toList.drop 140 = dktX0_told_6 := dk_seg dksX0_told_5 22 rfl rfl
theorem dksX0_told_7 : cX0_told.data.toList.drop 164 = dktX0_told_7 := dk_seg dksX0_told_6 24 rfl rfl
theorem dksX0_told_8 : cX0_told.data.toList.drop 188 = dktX0_told_8 := dk_seg dksX0_told_7 24 rfl rfl
theorem dX0_told_0 : decode cX0_told 0 = .ok (.iload_n 1, 1) := dk_27 (dk_at dksX0_told_0 0 rfl rfl)
theorem dX0_told_1 : decode cX0_told 1 = .ok (.invokestatic 395, 3) := dk_184 1 139 (dk_at dksX0_told_0 1 rfl rfl)
theorem dX0_told_4 : decode cX0_told 4 = .ok (.ifCond .eq 10, 3) := dk_153 0 10 (dk_at dksX0_told_0 4 rfl rfl)
theorem dX0_told_7 : decode cX0_told 7 = .ok (.aload_n 0, 1) := dk_42 (dk_at dksX0_told_0 7 rfl rfl)
theorem dX0_told_8 : decode cX0_told 8 = .ok (.invokevirtual 171, 3) := dk_182 0 171 (dk_at dksX0_told_0 8 rfl rfl)
theorem dX0_told_11 : decode cX0_told 11 = .ok (.ifCond .ne 6, 3) := dk_154 0 6 (dk_at dksX0_told_0 11 rfl rfl)
theorem dX0_told_14 : decode cX0_told 14 = .ok (.bipush (-2), 2) := dk_16 254 (dk_at dksX0_told_0 14 rfl rfl)
theorem dX0_told_16 : decode cX0_told 16 = .ok (.ireturn, 1) := dk_172 (dk_at dksX0_told_0 16 rfl rfl)
theorem dX0_told_17 : decode cX0_told 17 = .ok (.aload_n 0, 1) := dk_42 (dk_at dksX0_told_0 17 rfl rfl)
theorem dX0_told_18 : decode cX0_told 18 = .ok (.getfield 60, 3) := dk_180 0 60 (dk_at dksX0_told_0 18 rfl rfl)
theorem dX0_told_21 : decode cX0_told 21 = .ok (.iload_n 1, 1) := dk_27 (dk_at dksX0_told_0 21 rfl rfl)
theorem dX0_told_22 : decode cX0_told 22 = .ok (.aaload, 1) := dk_50 (dk_at dksX0_told_0 22 rfl rfl)
theorem dX0_told_23 : decode cX0_told 23 = .ok (.invokevirtual 398, 3) := dk_182 1 142 (dk_at dksX0_told_1 0 rfl rfl)
theorem dX0_told_26 : decode cX0_told 26 = .ok (.istore_n 2, 1) := dk_61 (dk_at dksX0_told_1 3 rfl rfl)
theorem dX0_told_27 : decode cX0_told 27 = .ok (.iload_n 2, 1) := dk_28 (dk_at dksX0_told_1 4 rfl rfl)
theorem dX0_told_28 : decode cX0_told 28 = .ok (.aload_n 0, 1) := dk_42 (dk_at dksX0_told_1 5 rfl rfl)
theorem dX0_told_29 : decode cX0_told 29 = .ok (.getfield 18, 3) := dk_180 0 18 (dk_at dksX0_told_1 6 rfl rfl)
theorem dX0_told_32 : decode cX0_told 32 = .ok (.getfield 399, 3) := dk_180 1 143 (dk_at dksX0_told_1 9 rfl rfl)
theorem dX0_told_35 : decode cX0_told 35 = .ok (.if_icmp .gt 7, 3) := dk_163 0 7 (dk_at dksX0_told_1 12 rfl rfl)
theorem dX0_told_38 : decode cX0_told 38 = .ok (.iconst 1, 1) := dk_4 (dk_at dksX0_told_1 15 rfl rfl)
theorem dX0_told_39 : decode cX0_told 39 = .ok (.goto 4, 3) := dk_167 0 4 (dk_at dksX0_told_1 16 rfl rfl)
theorem dX0_told_42 : decode cX0_told 42 = .ok (.iconst 0, 1) := dk_3 (dk_at dksX0_told_1 19 rfl rfl)
theorem dX0_told_43 : decode cX0_told 43 = .ok (.istore_n 3, 1) := dk_62 (dk_at dksX0_told_1 20 rfl rfl)
theorem dX0_told_44 : decode cX0_told 44 = .ok (.iconst 0, 1) := dk_3 (dk_at dksX0_told_1 21 rfl rfl)
theorem dX0_told_45 : decode cX0_told 45 = .ok (.istore 4, 2) := dk_54 4 (dk_at dksX0_told_1 22 rfl rfl)
theorem dX0_told_47 : decode cX0_told 47 = .ok (.iload 4, 2) := dk_21 4 (dk_at dksX0_told_2 0 rfl rfl)
theorem dX0_told_49 : decode cX0_told 49 = .ok (.iload_n 2, 1) := dk_28 (dk_at dksX0_told_2 2 rfl rfl)
theorem dX0_told_50 : decode cX0_told 50 = .ok (.if_icmp .ge 44, 3) := dk_162 0 44 (dk_at dksX0_told_2 3 rfl rfl)
theorem dX0_told_53 : decode cX0_told 53 = .ok (.iload_n 3, 1) := dk_29 (dk_at dksX0_told_2 6 rfl rfl)
theorem dX0_told_54 : decode cX0_told 54 = .ok (.ifCond .eq 40, 3) := dk_153 0 40 (dk_at dksX0_told_2 7 rfl rfl)
theorem dX0_told_57 : decode cX0_told 57 = .ok (.aload_n 0, 1) := dk_42 (dk_at dksX0_told_2 10 rfl rfl)
theorem dX0_told_58 : decode cX0_told 58 = .ok (.getfield 60, 3) := dk_180 0 60 (dk_at dksX0_told_2 11 rfl rfl)
theorem dX0_told_61 : decode cX0_told 61 = .ok (.iload_n 1, 1) := dk_27 (dk_at dksX0_told_2 14 rfl rfl)
theorem dX0_told_62 : decode cX0_told 62 = .ok (.aaload, 1) := dk_50 (dk_at dksX0_told_2 15 rfl rfl)
theorem dX0_told_63 : decode cX0_told 63 = .ok (.iload 4, 2) := dk_21 4 (dk_at dksX0_told_2 16 rfl rfl)
theorem dX0_told_65 : decode cX0_told 65 = .ok (.invokevirtual 402, 3) := dk_182 1 146 (dk_at dksX0_told_2 18 rfl rfl)
theorem dX0_told_68 : decode cX0_told 68 = .ok (.lconst 0, 1) := dk_9 (dk_at dksX0_told_2 21 rfl rfl)
theorem dX0_told_69 : decode cX0_told 69 = .ok (.iconst 1, 1) := dk_4 (dk_at dksX0_told_2 22 rfl rfl)
theorem dX0_told_70 : decode cX0_told 70 = .ok (.aload_n 0, 1) := dk_42 (dk_at dksX0_told_2 23 rfl rfl)
theorem dX0_told_71 : decode cX0_told 71 = .ok (.getfield 18, 3) := dk_180 0 18 (dk_at dksX0_told_3 0 rfl rfl)
theorem dX0_told_74 : decode cX0_told 74 = .ok (.getfield 110, 3) := dk_180 0 110 (dk_at dksX0_told_3 3 rfl rfl)
theorem dX0_told_77 : decode cX0_told 77 = .ok (.invokevirtual 114, 3) := dk_182 0 114 (dk_at dksX0_told_3 6 rfl rfl)
theorem dX0_told_80 : decode cX0_told 80 = .ok (.ishl, 1) := dk_120 (dk_at dksX0_told_3 9 rfl rfl)
theorem dX0_told_81 : decode cX0_told 81 = .ok (.iconst 1, 1) := dk_4 (dk_at dksX0_told_3 10 rfl rfl)
theorem dX0_told_82 : decode cX0_told 82 = .ok (.isub, 1) := dk_100 (dk_at dksX0_told_3 11 rfl rfl)
theorem dX0_told_83 : decode cX0_told 83 = .ok (.i2l, 1) := dk_133 (dk_at dksX0_told_3 12 rfl rfl)
theorem dX0_told_84 : decode cX0_told 84 = .ok (.invokestatic 5, 3) := dk_184 0 5 (dk_at dksX0_told_3 13 rfl rfl)
theorem dX0_told_87 : decode cX0_told 87 = .ok (.istore_n 3, 1) := dk_62 (dk_at dksX0_told_3 16 rfl rfl)
theorem dX0_told_88 : decode cX0_told 88 = .ok (.iinc 4 1, 3) := dk_132 4 1 (dk_at dksX0_told_3 17 rfl rfl)
theorem dX0_told_91 : decode cX0_told 91 = .ok (.goto (-44), 3) := dk_167 255 212 (dk_at dksX0_told_3 20 rfl rfl)
theorem dX0_told_94 : decode cX0_told 94 = .ok (.iload_n 3, 1) := dk_29 (dk_at dksX0_told_3 23 rfl rfl)
theorem dX0_told_95 : decode cX0_told 95 = .ok (.ifCond .ne 6, 3) := dk_154 0 6 (dk_at dksX0_told_4 0 rfl rfl)
theorem dX0_told_98 : decode cX0_told 98 = .ok (.bipush (-2), 2) := dk_16 254 (dk_at dksX0_told_4 3 rfl rfl)
theorem dX0_told_100 : decode cX0_told 100 = .ok (.ireturn, 1) := dk_172 (dk_at dksX0_told_4 5 rfl rfl)
theorem dX0_told_101 : decode cX0_told 101 = .ok (.aload_n 0, 1) := dk_42 (dk_at dksX0_told_4 6 rfl rfl)
theorem dX0_told_102 : decode cX0_told 102 = .ok (.getfield 50, 3) := dk_180 0 50 (dk_at dksX0_told_4 7 rfl rfl)
theorem dX0_told_105 : decode cX0_told 105 = .ok (.invokevirtual 405, 3) := dk_182 1 149 (dk_at dksX0_told_4 10 rfl rfl)
theorem dX0_told_108 : decode cX0_told 108 = .ok (.iconst 0, 1) := dk_3 (dk_at dksX0_told_4 13 rfl rfl)
theorem dX0_told_109 : decode cX0_told 109 = .ok (.istore 4, 2) := dk_54 4 (dk_at dksX0_told_4 14 rfl rfl)
theorem dX0_told_111 : decode cX0_told 111 = .ok (.iload 4, 2) := dk_21 4 (dk_at dksX0_told_4 16 rfl rfl)
theorem dX0_told_113 : decode cX0_told 113 = .ok (.iload_n 2, 1) := dk_28 (dk_at dksX0_told_4 18 rfl rfl)
theorem dX0_told_114 : decode cX0_told 114 = .ok (.if_icmp .ge 70, 3) := dk_162 0 70 (dk_at dksX0_told_4 19 rfl rfl)
theorem dX0_told_117 : decode cX0_told 117 = .ok (.aload_n 0, 1) := dk_42 (dk_at dksX0_told_4 22 rfl rfl)
theorem dX0_told_118 : decode cX0_told 118 = .ok (.getfield 50, 3) := dk_180 0 50 (dk_at dksX0_told_5 0 rfl rfl)
theorem dX0_told_121 : decode cX0_told 121 = .ok (.iconst 0, 1) := dk_3 (dk_at dksX0_told_5 3 rfl rfl)
theorem dX0_told_122 : decode cX0_told 122 = .ok (.putfield 408, 3) := dk_181 1 152 (dk_at dksX0_told_5 4 rfl rfl)
theorem dX0_told_125 : decode cX0_told 125 = .ok (.iconst 0, 1) := dk_3 (dk_at dksX0_told_5 7 rfl rfl)
theorem dX0_told_126 : decode cX0_told 126 = .ok (.istore 5, 2) := dk_54 5 (dk_at dksX0_told_5 8 rfl rfl)
theorem dX0_told_128 : decode cX0_told 128 = .ok (.iload 5, 2) := dk_21 5 (dk_at dksX0_told_5 10 rfl rfl)
theorem dX0_told_130 : decode cX0_told 130 = .ok (.aload_n 0, 1) := dk_42 (dk_at dksX0_told_5 12 rfl rfl)
theorem dX0_told_131 : decode cX0_told 131 = .ok (.getfield 18, 3) := dk_180 0 18 (dk_at dksX0_told_5 13 rfl rfl)
theorem dX0_told_134 : decode cX0_told 134 = .ok (.getfield 110, 3) := dk_180 0 110 (dk_at dksX0_told_5 16 rfl rfl)
theorem dX0_told_137 : decode cX0_told 137 = .ok (.invokevirtual 114, 3) := dk_182 0 114 (dk_at dksX0_told_5 19 rfl rfl)
theorem dX0_told_140 : decode cX0_told 140 = .ok (.if_icmp .ge 38, 3) := dk_162 0 38 (dk_at dksX0_told_6 0 rfl rfl)
theorem dX0_told_143 : decode cX0_told 143 = .ok (.aload_n 0, 1) := dk_42 (dk_at dksX0_told_6 3 rfl rfl)
theorem dX0_told_144 : decode cX0_told 144 = .ok (.getfield 60, 3) := dk_180 0 60 (dk_at dksX0_told_6 4 rfl rfl)
theorem dX0_told_147 : decode cX0_told 147 = .ok (.iload_n 1, 1) := dk_27 (dk_at dksX0_told_6 7 rfl rfl)
theorem dX0_told_148 : decode cX0_told 148 = .ok (.aaload, 1) := dk_50 (dk_at dksX0_told_6 8 rfl rfl)
theorem dX0_told_149 : decode cX0_told 149 = .ok (.iload 4, 2) := dk_21 4 (dk_at dksX0_told_6 9 rfl rfl)
theorem dX0_told_151 : decode cX0_told 151 = .ok (.invokevirtual 402, 3) := dk_182 1 146 (dk_at dksX0_told_6 11 rfl rfl)
theorem dX0_told_154 : decode cX0_told 154 = .ok (.l2i, 1) := dk_136 (dk_at dksX0_told_6 14 rfl rfl)
theorem dX0_told_155 : decode cX0_told 155 = .ok (.iload 5, 2) := dk_21 5 (dk_at dksX0_told_6 15 rfl rfl)
theorem dX0_told_157 : decode cX0_told 157 = .ok (.invokestatic 302, 3) := dk_184 1 46 (dk_at dksX0_told_6 17 rfl rfl)
theorem dX0_told_160 : decode cX0_told 160 = .ok (.ifCond .eq 12, 3) := dk_153 0 12 (dk_at dksX0_told_6 20 rfl rfl)
theorem dX0_told_163 : decode cX0_told 163 = .ok (.aload_n 0, 1) := dk_42 (dk_at dksX0_told_6 23 rfl rfl)
theorem dX0_told_164 : decode cX0_told 164 = .ok (.getfield 50, 3) := dk_180 0 50 (dk_at dksX0_told_7 0 rfl rfl)
theorem dX0_told_167 : decode cX0_told 167 = .ok (.iload 5, 2) := dk_21 5 (dk_at dksX0_told_7 3 rfl rfl)
theorem dX0_told_169 : decode cX0_told 169 = .ok (.invokevirtual 411, 3) := dk_182 1 155 (dk_at dksX0_told_7 5 rfl rfl)
theorem dX0_told_172 : decode cX0_told 172 = .ok (.iinc 5 1, 3) := dk_132 5 1 (dk_at dksX0_told_7 8 rfl rfl)
theorem dX0_told_175 : decode cX0_told 175 = .ok (.goto (-47), 3) := dk_167 255 209 (dk_at dksX0_told_7 11 rfl rfl)
theorem dX0_told_178 : decode cX0_told 178 = .ok (.iinc 4 1, 3) := dk_132 4 1 (dk_at dksX0_told_7 14 rfl rfl)
theorem dX0_told_181 : decode cX0_told 181 = .ok (.goto (-70), 3) := dk_167 255 186 (dk_at dksX0_told_7 17 rfl rfl)
theorem dX0_told_184 : decode cX0_told 184 = .ok (.aload_n 0, 1) := dk_42 (dk_at dksX0_told_7 20 rfl rfl)
theorem dX0_told_185 : decode cX0_told 185 = .ok (.getfield 50, 3) := dk_180 0 50 (dk_at dksX0_told_7 21 rfl rfl)
theorem dX0_told_188 : decode cX0_told 188 = .ok (.invokevirtual 394, 3) := dk_182 1 138 (dk_at dksX0_told_8 0 rfl rfl)
theorem dX0_told_191 : decode cX0_told 191 = .ok (.ireturn, 1) := dk_172 (dk_at dksX0_told_8 3 rfl rfl)
theorem dX0_told_192 : decode cX0_told 192 = .ok (.astore_n 2, 1) := dk_77 (dk_at dksX0_told_8 4 rfl rfl)
theorem dX0_told_193 : decode cX0_told 193 = .ok (.bipush (-6), 2) := dk_16 250 (dk_at dksX0_told_8 5 rfl rfl)
theorem dX0_told_195 : decode cX0_told 195 = .ok (.ireturn, 1) := dk_172 (dk_at dksX0_told_8 7 rfl rfl)
abbrev cX0_isSlot : ByteArray := prog_1_method_93_code
def yX0_isSlot : MethodName := ⟨RX0, "isSlot", "(I)Z"⟩
def dkwX0_isSlot_0 : List UInt8 := [26, 133, 9, 20, 1, 171, 184, 0, 5, 172]
abbrev dktX0_isSlot_0 : List UInt8 := dkwX0_isSlot_0 ++ []
theorem dksX0_isSlot_0 : cX0_isSlot.data.toList.drop 0 = dktX0_isSlot_0 := by decide +kernel
theorem dX0_isSlot_0 : decode cX0_isSlot 0 = .ok (.iload_n 0, 1) := dk_26 (dk_at dksX0_isSlot_0 0 rfl rfl)
theorem dX0_isSlot_1 : decode cX0_isSlot 1 = .ok (.i2l, 1) := dk_133 (dk_at dksX0_isSlot_0 1 rfl rfl)
theorem dX0_isSlot_2 : decode cX0_isSlot 2 = .ok (.lconst 0, 1) := dk_9 (dk_at dksX0_isSlot_0 2 rfl rfl)
theorem dX0_isSlot_3 : decode cX0_isSlot 3 = .ok (.ldc2_w 427, 3) := dk_20 1 171 (dk_at dksX0_isSlot_0 3 rfl rfl)
theorem dX0_isSlot_6 : decode cX0_isSlot 6 = .ok (.invokestatic 5, 3) := dk_184 0 5 (dk_at dksX0_isSlot_0 6 rfl rfl)
theorem dX0_isSlot_9 : decode cX0_isSlot 9 = .ok (.ireturn, 1) := dk_172 (dk_at dksX0_isSlot_0 9 rfl rfl)
abbrev cX0_taken : ByteArray := prog_1_method_90_code
def yX0_taken : MethodName := ⟨RX0, "taken", "(I)I"⟩
def dkwX0_taken_1 : List UInt8 := [180, 0, 50, 180, 1, 160, 27, 46, 167, 0, 4, 2, 172]
abbrev dktX0_taken_1 : List UInt8 := dkwX0_taken_1 ++ []
def dkwX0_taken_0 : List UInt8 := [42, 27, 182, 0, 127, 154, 0, 8, 16, 254, 167, 0, 26, 42, 180, 0, 50, 180, 0, 88, 153, 0, 15, 42]
abbrev dktX0_taken_0 : List UInt8 := dkwX0_taken_0 ++ dktX0_taken_1
theorem dksX0_taken_0 : cX0_taken.data.toList.drop 0 = dktX0_taken_0 := by decide +kernel
theorem dksX0_taken_1 : cX0_taken.data.toList.drop 24 = dktX0_taken_1 := dk_seg dksX0_taken_0 24 rfl rfl
theorem dX0_taken_0 : decode cX0_taken 0 = .ok (.aload_n 0, 1) := dk_42 (dk_at dksX0_taken_0 0 rfl rfl)
theorem dX0_taken_1 : decode cX0_taken 1 = .ok (.iload_n 1, 1) := dk_27 (dk_at dksX0_taken_0 1 rfl rfl)
theorem dX0_taken_2 : decode cX0_taken 2 = .ok (.invokevirtual 127, 3) := dk_182 0 127 (dk_at dksX0_taken_0 2 rfl rfl)
theorem dX0_taken_5 : decode cX0_taken 5 = .ok (.ifCond .ne 8, 3) := dk_154 0 8 (dk_at dksX0_taken_0 5 rfl rfl)
theorem dX0_taken_8 : decode cX0_taken 8 = .ok (.bipush (-2), 2) := dk_16 254 (dk_at dksX0_taken_0 8 rfl rfl)
theorem dX0_taken_10 : decode cX0_taken 10 = .ok (.goto 26, 3) := dk_167 0 26 (dk_at dksX0_taken_0 10 rfl rfl)
theorem dX0_taken_13 : decode cX0_taken 13 = .ok (.aload_n 0, 1) := dk_42 (dk_at dksX0_taken_0 13 rfl rfl)
theorem dX0_taken_14 : decode cX0_taken 14 = .ok (.getfield 50, 3) := dk_180 0 50 (dk_at dksX0_taken_0 14 rfl rfl)
theorem dX0_taken_17 : decode cX0_taken 17 = .ok (.getfield 88, 3) := dk_180 0 88 (dk_at dksX0_taken_0 17 rfl rfl)
theorem dX0_taken_20 : decode cX0_taken 20 = .ok (.ifCond .eq 15, 3) := dk_153 0 15 (dk_at dksX0_taken_0 20 rfl rfl)
theorem dX0_taken_23 : decode cX0_taken 23 = .ok (.aload_n 0, 1) := dk_42 (dk_at dksX0_taken_0 23 rfl rfl)
theorem dX0_taken_24 : decode cX0_taken 24 = .ok (.getfield 50, 3) := dk_180 0 50 (dk_at dksX0_taken_1 0 rfl rfl)
theorem dX0_taken_27 : decode cX0_taken 27 = .ok (.getfield 416, 3) := dk_180 1 160 (dk_at dksX0_taken_1 3 rfl rfl)
theorem dX0_taken_30 : decode cX0_taken 30 = .ok (.iload_n 1, 1) := dk_27 (dk_at dksX0_taken_1 6 rfl rfl)
theorem dX0_taken_31 : decode cX0_taken 31 = .ok (.iaload, 1) := dk_46 (dk_at dksX0_taken_1 7 rfl rfl)
theorem dX0_taken_32 : decode cX0_taken 32 = .ok (.goto 4, 3) := dk_167 0 4 (dk_at dksX0_taken_1 8 rfl rfl)
theorem dX0_taken_35 : decode cX0_taken 35 = .ok (.iconst (-1), 1) := dk_2 (dk_at dksX0_taken_1 11 rfl rfl)
theorem dX0_taken_36 : decode cX0_taken 36 = .ok (.ireturn, 1) := dk_172 (dk_at dksX0_taken_1 12 rfl rfl)
abbrev cX0_took : ByteArray := prog_1_method_91_code
def yX0_took : MethodName := ⟨RX0, "took", "(I)I"⟩
def dkwX0_took_1 : List UInt8 := [180, 0, 50, 180, 1, 163, 27, 46, 167, 0, 4, 2, 172]
abbrev dktX0_took_1 : List UInt8 := dkwX0_took_1 ++ []
def dkwX0_took_0 : List UInt8 := [42, 27, 182, 0, 152, 154, 0, 8, 16, 254, 167, 0, 26, 42, 180, 0, 50, 180, 0, 88, 153, 0, 15, 42]
abbrev dktX0_took_0 : List UInt8 := dkwX0_took_0 ++ dktX0_took_1
theorem dksX0_took_0 : cX0_took.data.toList.drop 0 = dktX0_took_0 := by decide +kernel
theorem dksX0_took_1 : cX0_took.data.toList.drop 24 = dktX0_took_1 := dk_seg dksX0_took_0 24 rfl rfl
theorem dX0_took_0 : decode cX0_took 0 = .ok (.aload_n 0, 1) := dk_42 (dk_at dksX0_took_0 0 rfl rfl)
theorem dX0_took_1 : decode cX0_took 1 = .ok (.iload_n 1, 1) := dk_27 (dk_at dksX0_took_0 1 rfl rfl)
theorem dX0_took_2 : decode cX0_took 2 = .ok (.invokevirtual 152, 3) := dk_182 0 152 (dk_at dksX0_took_0 2 rfl rfl)
theorem dX0_took_5 : decode cX0_took 5 = .ok (.ifCond .ne 8, 3) := dk_154 0 8 (dk_at dksX0_took_0 5 rfl rfl)
theorem dX0_took_8 : decode cX0_took 8 = .ok (.bipush (-2), 2) := dk_16 254 (dk_at dksX0_took_0 8 rfl rfl)
theorem dX0_took_10 : decode cX0_took 10 = .ok (.goto 26, 3) := dk_167 0 26 (dk_at dksX0_took_0 10 rfl rfl)
theorem dX0_took_13 : decode cX0_took 13 = .ok (.aload_n 0, 1) := dk_42 (dk_at dksX0_took_0 13 rfl rfl)
theorem dX0_took_14 : decode cX0_took 14 = .ok (.getfield 50, 3) := dk_180 0 50 (dk_at dksX0_took_0 14 rfl rfl)
theorem dX0_took_17 : decode cX0_took 17 = .ok (.getfield 88, 3) := dk_180 0 88 (dk_at dksX0_took_0 17 rfl rfl)
theorem dX0_took_20 : decode cX0_took 20 = .ok (.ifCond .eq 15, 3) := dk_153 0 15 (dk_at dksX0_took_0 20 rfl rfl)
theorem dX0_took_23 : decode cX0_took 23 = .ok (.aload_n 0, 1) := dk_42 (dk_at dksX0_took_0 23 rfl rfl)
theorem dX0_took_24 : decode cX0_took 24 = .ok (.getfield 50, 3) := dk_180 0 50 (dk_at dksX0_took_1 0 rfl rfl)
theorem dX0_took_27 : decode cX0_took 27 = .ok (.getfield 419, 3) := dk_180 1 163 (dk_at dksX0_took_1 3 rfl rfl)
theorem dX0_took_30 : decode cX0_took 30 = .ok (.iload_n 1, 1) := dk_27 (dk_at dksX0_took_1 6 rfl rfl)
theorem dX0_took_31 : decode cX0_took 31 = .ok (.iaload, 1) := dk_46 (dk_at dksX0_took_1 7 rfl rfl)
theorem dX0_took_32 : decode cX0_took 32 = .ok (.goto 4, 3) := dk_167 0 4 (dk_at dksX0_took_1 8 rfl rfl)
theorem dX0_took_35 : decode cX0_took 35 = .ok (.iconst (-1), 1) := dk_2 (dk_at dksX0_took_1 11 rfl rfl)
theorem dX0_took_36 : decode cX0_took 36 = .ok (.ireturn, 1) := dk_172 (dk_at dksX0_took_1 12 rfl rfl)
abbrev cX0_years : ByteArray := prog_1_method_92_code
def yX0_years : MethodName := ⟨RX0, "years", "(III)J"⟩
def dkwX0_years_5 : List UInt8 := [167, 255, 191, 29, 4, 160, 0, 8, 22, 6, 167, 0, 5, 22, 4, 173]
abbrev dktX0_years_5 : List UInt8 := dkwX0_years_5 ++ []
def dkwX0_years_4 : List UInt8 := [180, 0, 54, 182, 1, 169, 167, 0, 11, 42, 180, 0, 54, 182, 1, 138, 133, 97, 55, 4, 132, 8, 1]
abbrev dktX0_years_4 : List UInt8 := dkwX0_years_4 ++ dktX0_years_5
def dkwX0_years_3 : List UInt8 := [22, 6, 42, 180, 0, 54, 182, 1, 138, 133, 184, 1, 166, 55, 6, 22, 4, 29, 5, 160, 0, 13, 42]
abbrev dktX0_years_3 : List UInt8 := dkwX0_years_3 ++ dktX0_years_4
def dkwX0_years_2 : List UInt8 := [55, 6, 3, 54, 8, 21, 8, 28, 162, 0, 65, 42, 180, 0, 54, 27, 133, 21, 8, 133, 97, 182, 1, 134]
abbrev dktX0_years_2 : List UInt8 := dkwX0_years_2 ++ dktX0_years_3
def dkwX0_years_1 : List UInt8 := [20, 0, 215, 184, 0, 5, 153, 0, 10, 42, 182, 0, 171, 154, 0, 7, 20, 0, 182, 173, 9, 55, 4, 9]
abbrev dktX0_years_1 : List UInt8 := dkwX0_years_1 ++ dktX0_years_2
def dkwX0_years_0 : List UInt8 := [27, 184, 1, 131, 153, 0, 34, 28, 133, 10, 20, 0, 3, 184, 0, 5, 153, 0, 22, 29, 133, 9]
abbrev dktX0_years_0 : List UInt8 := dkwX0_years_0 ++ dktX0_years_1
theorem dksX0_years_0 : cX0_years.data.toList.drop 0 = dktX0_years_0 := by decide +kernel
theorem dksX0_years_1 : cX0_years.data.toList.drop 22 = dktX0_years_1 := dk_seg dksX0_years_0 22 rfl rfl
theorem dksX0_years_2 : cX0_years.data.toList.drop 46 = dktX0_years_2 := dk_seg dksX0_years_1 24 rfl rfl
theorem dksX0_years_3 : cX0_years.data.toList.drop 70 = dktX0_years_3 := dk_seg dksX0_years_2 24 rfl rfl
theorem dksX0_years_4 : cX0_years.data.toList.drop 93 = dktX0_years_4 := dk_seg dksX0_years_3 23 rfl rfl
theorem dksX0_years_5 : cX0_years.data.toList.drop 116 = dktX0_years_5 := dk_seg dksX0_years_4 23 rfl rfl
theorem dX0_years_0 : decode cX0_years 0 = .ok (.iload_n 1, 1) := dk_27 (dk_at dksX0_years_0 0 rfl rfl)
theorem dX0_years_1 : decode cX0_years 1 = .ok (.invokestatic 387, 3) := dk_184 1 131 (dk_at dksX0_years_0 1 rfl rfl)
theorem dX0_years_4 : decode cX0_years 4 = .ok (.ifCond .eq 34, 3) := dk_153 0 34 (dk_at dksX0_years_0 4 rfl rfl)
theorem dX0_years_7 : decode cX0_years 7 = .ok (.iload_n 2, 1) := dk_28 (dk_at dksX0_years_0 7 rfl rfl)
theorem dX0_years_8 : decode cX0_years 8 = .ok (.i2l, 1) := dk_133 (dk_at dksX0_years_0 8 rfl rfl)
theorem dX0_years_9 : decode cX0_years 9 = .ok (.lconst 1, 1) := dk_10 (dk_at dksX0_years_0 9 rfl rfl)
theorem dX0_years_10 : decode cX0_years 10 = .ok (.ldc2_w 3, 3) := dk_20 0 3 (dk_at dksX0_years_0 10 rfl rfl)
theorem dX0_years_13 : decode cX0_years 13 = .ok (.invokestatic 5, 3) := dk_184 0 5 (dk_at dksX0_years_0 13 rfl rfl)
theorem dX0_years_16 : decode cX0_years 16 = .ok (.ifCond .eq 22, 3) := dk_153 0 22 (dk_at dksX0_years_0 16 rfl rfl)
theorem dX0_years_19 : decode cX0_years 19 = .ok (.iload_n 3, 1) := dk_29 (dk_at dksX0_years_0 19 rfl rfl)
theorem dX0_years_20 : decode cX0_years 20 = .ok (.i2l, 1) := dk_133 (dk_at dksX0_years_0 20 rfl rfl)
theorem dX0_years_21 : decode cX0_years 21 = .ok (.lconst 0, 1) := dk_9 (dk_at dksX0_years_0 21 rfl rfl)
theorem dX0_years_22 : decode cX0_years 22 = .ok (.ldc2_w 215, 3) := dk_20 0 215 (dk_at dksX0_years_1 0 rfl rfl)
theorem dX0_years_25 : decode cX0_years 25 = .ok (.invokestatic 5, 3) := dk_184 0 5 (dk_at dksX0_years_1 3 rfl rfl)
theorem dX0_years_28 : decode cX0_years 28 = .ok (.ifCond .eq 10, 3) := dk_153 0 10 (dk_at dksX0_years_1 6 rfl rfl)
theorem dX0_years_31 : decode cX0_years 31 = .ok (.aload_n 0, 1) := dk_42 (dk_at dksX0_years_1 9 rfl rfl)
theorem dX0_years_32 : decode cX0_years 32 = .ok (.invokevirtual 171, 3) := dk_182 0 171 (dk_at dksX0_years_1 10 rfl rfl)
theorem dX0_years_35 : decode cX0_years 35 = .ok (.ifCond .ne 7, 3) := dk_154 0 7 (dk_at dksX0_years_1 13 rfl rfl)
theorem dX0_years_38 : decode cX0_years 38 = .ok (.ldc2_w 182, 3) := dk_20 0 182 (dk_at dksX0_years_1 16 rfl rfl)
theorem dX0_years_41 : decode cX0_years 41 = .ok (.lreturn, 1) := dk_173 (dk_at dksX0_years_1 19 rfl rfl)
theorem dX0_years_42 : decode cX0_years 42 = .ok (.lconst 0, 1) := dk_9 (dk_at dksX0_years_1 20 rfl rfl)
theorem dX0_years_43 : decode cX0_years 43 = .ok (.lstore 4, 2) := dk_55 4 (dk_at dksX0_years_1 21 rfl rfl)
theorem dX0_years_45 : decode cX0_years 45 = .ok (.lconst 0, 1) := dk_9 (dk_at dksX0_years_1 23 rfl rfl)
theorem dX0_years_46 : decode cX0_years 46 = .ok (.lstore 6, 2) := dk_55 6 (dk_at dksX0_years_2 0 rfl rfl)
theorem dX0_years_48 : decode cX0_years 48 = .ok (.iconst 0, 1) := dk_3 (dk_at dksX0_years_2 2 rfl rfl)
theorem dX0_years_49 : decode cX0_years 49 = .ok (.istore 8, 2) := dk_54 8 (dk_at dksX0_years_2 3 rfl rfl)
theorem dX0_years_51 : decode cX0_years 51 = .ok (.iload 8, 2) := dk_21 8 (dk_at dksX0_years_2 5 rfl rfl)
theorem dX0_years_53 : decode cX0_years 53 = .ok (.iload_n 2, 1) := dk_28 (dk_at dksX0_years_2 7 rfl rfl)
theorem dX0_years_54 : decode cX0_years 54 = .ok (.if_icmp .ge 65, 3) := dk_162 0 65 (dk_at dksX0_years_2 8 rfl rfl)
theorem dX0_years_57 : decode cX0_years 57 = .ok (.aload_n 0, 1) := dk_42 (dk_at dksX0_years_2 11 rfl rfl)
theorem dX0_years_58 : decode cX0_years 58 = .ok (.getfield 54, 3) := dk_180 0 54 (dk_at dksX0_years_2 12 rfl rfl)
theorem dX0_years_61 : decode cX0_years 61 = .ok (.iload_n 1, 1) := dk_27 (dk_at dksX0_years_2 15 rfl rfl)
theorem dX0_years_62 : decode cX0_years 62 = .ok (.i2l, 1) := dk_133 (dk_at dksX0_years_2 16 rfl rfl)
theorem dX0_years_63 : decode cX0_years 63 = .ok (.iload 8, 2) := dk_21 8 (dk_at dksX0_years_2 17 rfl rfl)
theorem dX0_years_65 : decode cX0_years 65 = .ok (.i2l, 1) := dk_133 (dk_at dksX0_years_2 19 rfl rfl)
theorem dX0_years_66 : decode cX0_years 66 = .ok (.ladd, 1) := dk_97 (dk_at dksX0_years_2 20 rfl rfl)
theorem dX0_years_67 : decode cX0_years 67 = .ok (.invokevirtual 390, 3) := dk_182 1 134 (dk_at dksX0_years_2 21 rfl rfl)
theorem dX0_years_70 : decode cX0_years 70 = .ok (.lload 6, 2) := dk_22 6 (dk_at dksX0_years_3 0 rfl rfl)
theorem dX0_years_72 : decode cX0_years 72 = .ok (.aload_n 0, 1) := dk_42 (dk_at dksX0_years_3 2 rfl rfl)
theorem dX0_years_73 : decode cX0_years 73 = .ok (.getfield 54, 3) := dk_180 0 54 (dk_at dksX0_years_3 3 rfl rfl)
theorem dX0_years_76 : decode cX0_years 76 = .ok (.invokevirtual 394, 3) := dk_182 1 138 (dk_at dksX0_years_3 6 rfl rfl)
theorem dX0_years_79 : decode cX0_years 79 = .ok (.i2l, 1) := dk_133 (dk_at dksX0_years_3 9 rfl rfl)
theorem dX0_years_80 : decode cX0_years 80 = .ok (.invokestatic 422, 3) := dk_184 1 166 (dk_at dksX0_years_3 10 rfl rfl)
theorem dX0_years_83 : decode cX0_years 83 = .ok (.lstore 6, 2) := dk_55 6 (dk_at dksX0_years_3 13 rfl rfl)
theorem dX0_years_85 : decode cX0_years 85 = .ok (.lload 4, 2) := dk_22 4 (dk_at dksX0_years_3 15 rfl rfl)
theorem dX0_years_87 : decode cX0_years 87 = .ok (.iload_n 3, 1) := dk_29 (dk_at dksX0_years_3 17 rfl rfl)
theorem dX0_years_88 : decode cX0_years 88 = .ok (.iconst 2, 1) := dk_5 (dk_at dksX0_years_3 18 rfl rfl)
theorem dX0_years_89 : decode cX0_years 89 = .ok (.if_icmp .ne 13, 3) := dk_160 0 13 (dk_at dksX0_years_3 19 rfl rfl)
theorem dX0_years_92 : decode cX0_years 92 = .ok (.aload_n 0, 1) := dk_42 (dk_at dksX0_years_3 22 rfl rfl)
theorem dX0_years_93 : decode cX0_years 93 = .ok (.getfield 54, 3) := dk_180 0 54 (dk_at dksX0_years_4 0 rfl rfl)
theorem dX0_years_96 : decode cX0_years 96 = .ok (.invokevirtual 425, 3) := dk_182 1 169 (dk_at dksX0_years_4 3 rfl rfl)
theorem dX0_years_99 : decode cX0_years 99 = .ok (.goto 11, 3) := dk_167 0 11 (dk_at dksX0_years_4 6 rfl rfl)
theorem dX0_years_102 : decode cX0_years 102 = .ok (.aload_n 0, 1) := dk_42 (dk_at dksX0_years_4 9 rfl rfl)
theorem dX0_years_103 : decode cX0_years 103 = .ok (.getfield 54, 3) := dk_180 0 54 (dk_at dksX0_years_4 10 rfl rfl)
theorem dX0_years_106 : decode cX0_years 106 = .ok (.invokevirtual 394, 3) := dk_182 1 138 (dk_at dksX0_years_4 13 rfl rfl)
theorem dX0_years_109 : decode cX0_years 109 = .ok (.i2l, 1) := dk_133 (dk_at dksX0_years_4 16 rfl rfl)
theorem dX0_years_110 : decode cX0_years 110 = .ok (.ladd, 1) := dk_97 (dk_at dksX0_years_4 17 rfl rfl)
theorem dX0_years_111 : decode cX0_years 111 = .ok (.lstore 4, 2) := dk_55 4 (dk_at dksX0_years_4 18 rfl rfl)
theorem dX0_years_113 : decode cX0_years 113 = .ok (.iinc 8 1, 3) := dk_132 8 1 (dk_at dksX0_years_4 20 rfl rfl)
theorem dX0_years_116 : decode cX0_years 116 = .ok (.goto (-65), 3) := dk_167 255 191 (dk_at dksX0_years_5 0 rfl rfl)
theorem dX0_years_119 : decode cX0_years 119 = .ok (.iload_n 3, 1) := dk_29 (dk_at dksX0_years_5 3 rfl rfl)
theorem dX0_years_120 : decode cX0_years 120 = .ok (.iconst 1, 1) := dk_4 (dk_at dksX0_years_5 4 rfl rfl)
theorem dX0_years_121 : decode cX0_years 121 = .ok (.if_icmp .ne 8, 3) := dk_160 0 8 (dk_at dksX0_years_5 5 rfl rfl)
theorem dX0_years_124 : decode cX0_years 124 = .ok (.lload 6, 2) := dk_22 6 (dk_at dksX0_years_5 8 rfl rfl)
theorem dX0_years_126 : decode cX0_years 126 = .ok (.goto 5, 3) := dk_167 0 5 (dk_at dksX0_years_5 10 rfl rfl)
theorem dX0_years_129 : decode cX0_years 129 = .ok (.lload 4, 2) := dk_22 4 (dk_at dksX0_years_5 13 rfl rfl)
theorem dX0_years_131 : decode cX0_years 131 = .ok (.lreturn, 1) := dk_173 (dk_at dksX0_years_5 15 rfl rfl)
abbrev cX0_count : ByteArray := prog_1_method_94_code
def yX0_count : MethodName := ⟨RX0, "count", "(I)I"⟩
def dkwX0_count_9 : List UInt8 := [172]
abbrev dktX0_count_9 : List UInt8 := dkwX0_count_9 ++ []
def dkwX0_count_8 : List UInt8 := [29, 50, 180, 1, 179, 199, 0, 7, 3, 167, 0, 4, 4, 96, 61, 132, 3, 1, 167, 255, 228, 28, 172, 2]
abbrev dktX0_count_8 : List UInt8 := dkwX0_count_8 ++ dktX0_count_9
def dkwX0_count_7 : List UInt8 := [180, 0, 88, 153, 0, 7, 4, 167, 0, 4, 3, 172, 3, 62, 29, 7, 162, 0, 29, 28, 42, 180, 0, 60]
abbrev dktX0_count_7 : List UInt8 := dkwX0_count_7 ++ dktX0_count_8
def dkwX0_count_6 : List UInt8 := [182, 0, 171, 153, 0, 13, 42, 180, 0, 18, 182, 0, 223, 167, 0, 4, 3, 172, 42, 180, 0, 50]
abbrev dktX0_count_6 : List UInt8 := dkwX0_count_6 ++ dktX0_count_7
def dkwX0_count_5 : List UInt8 := [180, 0, 18, 182, 1, 176, 172, 42, 180, 0, 18, 180, 0, 199, 153, 0, 7, 4, 167, 0, 4, 3, 172, 42]
abbrev dktX0_count_5 : List UInt8 := dkwX0_count_5 ++ dktX0_count_6
def dkwX0_count_4 : List UInt8 := [180, 0, 18, 180, 0, 110, 182, 0, 114, 172, 42, 180, 0, 18, 180, 0, 92, 172, 42, 180, 0, 71, 172, 42]
abbrev dktX0_count_4 : List UInt8 := dkwX0_count_4 ++ dktX0_count_5
def dkwX0_count_3 : List UInt8 := [182, 0, 114, 172, 42, 180, 0, 18, 180, 1, 118, 182, 0, 114, 172, 42, 180, 0, 18, 182, 0, 106, 172, 42]
abbrev dktX0_count_3 : List UInt8 := dkwX0_count_3 ++ dktX0_count_4
def dkwX0_count_2 : List UInt8 := [42, 180, 0, 18, 180, 0, 103, 172, 42, 180, 0, 18, 180, 1, 143, 172, 42, 180, 0, 18, 180, 1, 173]
abbrev dktX0_count_2 : List UInt8 := dkwX0_count_2 ++ dktX0_count_3
def dkwX0_count_1 : List UInt8 := [170, 0, 0, 0, 229, 0, 0, 0, 0, 0, 0, 0, 12, 0, 0, 0, 65, 0, 0, 0, 73, 0, 0, 0, 81, 0, 0, 0, 92, 0, 0, 0, 103, 0, 0, 0, 111, 0, 0, 0, 122, 0, 0, 0, 130, 0, 0, 0, 135, 0, 0, 0, 143, 0, 0, 0, 159, 0, 0, 0, 178, 0, 0, 0, 194]
abbrev dktX0_count_1 : List UInt8 := dkwX0_count_1 ++ dktX0_count_2
def dkwX0_count_0 : List UInt8 := [3, 61, 27]
abbrev dktX0_count_0 : List UInt8 := dkwX0_count_0 ++ dktX0_count_1
theorem dksX0_count_0 : cX0_count.data.toList.drop 0 = dktX0_count_0 := by decide +kernel
theorem dksX0_count_1 : cX0_count.data.toList.drop 3 = dktX0_count_1 := dk_seg dksX0_count_0 3 rfl rfl
theorem dksX0_count_2 : cX0_count.data.toList.drop 68 = dktX0_count_2 := dk_seg dksX0_count_1 65 rfl rfl
theorem dksX0_count_3 : cX0_count.data.toList.drop 91 = dktX0_count_3 := dk_seg dksX0_count_2 23 rfl rfl
theorem dksX0_count_4 : cX0_count.data.toList.drop 115 = dktX0_count_4 := dk_seg dksX0_count_3 24 rfl rfl
theorem dksX0_count_5 : cX0_count.data.toList.drop 139 = dktX0_count_5 := dk_seg dksX0_count_4 24 rfl rfl
theorem dksX0_count_6 : cX0_count.data.toList.drop 163 = dktX0_count_6 := dk_seg dksX0_count_5 24 rfl rfl
theorem dksX0_count_7 : cX0_count.data.toList.drop 185 = dktX0_count_7 := dk_seg dksX0_count_6 22 rfl rfl
theorem dksX0_count_8 : cX0_count.data.toList.drop 209 = dktX0_count_8 := dk_seg dksX0_count_7 24 rfl rfl
theorem dksX0_count_9 : cX0_count.data.toList.drop 233 = dktX0_count_9 := dk_seg dksX0_count_8 24 rfl rfl
theorem dX0_count_0 : decode cX0_count 0 = .ok (.iconst 0, 1) := dk_3 (dk_at dksX0_count_0 0 rfl rfl)
theorem dX0_count_1 : decode cX0_count 1 = .ok (.istore_n 2, 1) := dk_61 (dk_at dksX0_count_0 1 rfl rfl)
theorem dX0_count_2 : decode cX0_count 2 = .ok (.iload_n 1, 1) := dk_27 (dk_at dksX0_count_0 2 rfl rfl)
theorem dX0_count_3 : decode cX0_count 3 = .ok (.tableswitch 229 0 12 #[65, 73, 81, 92, 103, 111, 122, 130, 135, 143, 159, 178, 194], 65) := by decide +kernel
theorem dX0_count_68 : decode cX0_count 68 = .ok (.aload_n 0, 1) := dk_42 (dk_at dksX0_count_2 0 rfl rfl)
theorem dX0_count_69 : decode cX0_count 69 = .ok (.getfield 18, 3) := dk_180 0 18 (dk_at dksX0_count_2 1 rfl rfl)
theorem dX0_count_72 : decode cX0_count 72 = .ok (.getfield 103, 3) := dk_180 0 103 (dk_at dksX0_count_2 4 rfl rfl)
theorem dX0_count_75 : decode cX0_count 75 = .ok (.ireturn, 1) := dk_172 (dk_at dksX0_count_2 7 rfl rfl)
theorem dX0_count_76 : decode cX0_count 76 = .ok (.aload_n 0, 1) := dk_42 (dk_at dksX0_count_2 8 rfl rfl)
theorem dX0_count_77 : decode cX0_count 77 = .ok (.getfield 18, 3) := dk_180 0 18 (dk_at dksX0_count_2 9 rfl rfl)
theorem dX0_count_80 : decode cX0_count 80 = .ok (.getfield 399, 3) := dk_180 1 143 (dk_at dksX0_count_2 12 rfl rfl)
theorem dX0_count_83 : decode cX0_count 83 = .ok (.ireturn, 1) := dk_172 (dk_at dksX0_count_2 15 rfl rfl)
theorem dX0_count_84 : decode cX0_count 84 = .ok (.aload_n 0, 1) := dk_42 (dk_at dksX0_count_2 16 rfl rfl)
theorem dX0_count_85 : decode cX0_count 85 = .ok (.getfield 18, 3) := dk_180 0 18 (dk_at dksX0_count_2 17 rfl rfl)
theorem dX0_count_88 : decode cX0_count 88 = .ok (.getfield 429, 3) := dk_180 1 173 (dk_at dksX0_count_2 20 rfl rfl)
theorem dX0_count_91 : decode cX0_count 91 = .ok (.invokevirtual 114, 3) := dk_182 0 114 (dk_at dksX0_count_3 0 rfl rfl)
theorem dX0_count_94 : decode cX0_count 94 = .ok (.ireturn, 1) := dk_172 (dk_at dksX0_count_3 3 rfl rfl)
theorem dX0_count_95 : decode cX0_count 95 = .ok (.aload_n 0, 1) := dk_42 (dk_at dksX0_count_3 4 rfl rfl)
theorem dX0_count_96 : decode cX0_count 96 = .ok (.getfield 18, 3) := dk_180 0 18 (dk_at dksX0_count_3 5 rfl rfl)
theorem dX0_count_99 : decode cX0_count 99 = .ok (.getfield 374, 3) := dk_180 1 118 (dk_at dksX0_count_3 8 rfl rfl)
theorem dX0_count_102 : decode cX0_count 102 = .ok (.invokevirtual 114, 3) := dk_182 0 114 (dk_at dksX0_count_3 11 rfl rfl)
theorem dX0_count_105 : decode cX0_count 105 = .ok (.ireturn, 1) := dk_172 (dk_at dksX0_count_3 14 rfl rfl)
theorem dX0_count_106 : decode cX0_count 106 = .ok (.aload_n 0, 1) := dk_42 (dk_at dksX0_count_3 15 rfl rfl)
theorem dX0_count_107 : decode cX0_count 107 = .ok (.getfield 18, 3) := dk_180 0 18 (dk_at dksX0_count_3 16 rfl rfl)
theorem dX0_count_110 : decode cX0_count 110 = .ok (.invokevirtual 106, 3) := dk_182 0 106 (dk_at dksX0_count_3 19 rfl rfl)
theorem dX0_count_113 : decode cX0_count 113 = .ok (.ireturn, 1) := dk_172 (dk_at dksX0_count_3 22 rfl rfl)
theorem dX0_count_114 : decode cX0_count 114 = .ok (.aload_n 0, 1) := dk_42 (dk_at dksX0_count_3 23 rfl rfl)
theorem dX0_count_115 : decode cX0_count 115 = .ok (.getfield 18, 3) := dk_180 0 18 (dk_at dksX0_count_4 0 rfl rfl)
theorem dX0_count_118 : decode cX0_count 118 = .ok (.getfield 110, 3) := dk_180 0 110 (dk_at dksX0_count_4 3 rfl rfl)
theorem dX0_count_121 : decode cX0_count 121 = .ok (.invokevirtual 114, 3) := dk_182 0 114 (dk_at dksX0_count_4 6 rfl rfl)
theorem dX0_count_124 : decode cX0_count 124 = .ok (.ireturn, 1) := dk_172 (dk_at dksX0_count_4 9 rfl rfl)
theorem dX0_count_125 : decode cX0_count 125 = .ok (.aload_n 0, 1) := dk_42 (dk_at dksX0_count_4 10 rfl rfl)
theorem dX0_count_126 : decode cX0_count 126 = .ok (.getfield 18, 3) := dk_180 0 18 (dk_at dksX0_count_4 11 rfl rfl)
theorem dX0_count_129 : decode cX0_count 129 = .ok (.getfield 92, 3) := dk_180 0 92 (dk_at dksX0_count_4 14 rfl rfl)
theorem dX0_count_132 : decode cX0_count 132 = .ok (.ireturn, 1) := dk_172 (dk_at dksX0_count_4 17 rfl rfl)
theorem dX0_count_133 : decode cX0_count 133 = .ok (.aload_n 0, 1) := dk_42 (dk_at dksX0_count_4 18 rfl rfl)
theorem dX0_count_134 : decode cX0_count 134 = .ok (.getfield 71, 3) := dk_180 0 71 (dk_at dksX0_count_4 19 rfl rfl)
theorem dX0_count_137 : decode cX0_count 137 = .ok (.ireturn, 1) := dk_172 (dk_at dksX0_count_4 22 rfl rfl)
theorem dX0_count_138 : decode cX0_count 138 = .ok (.aload_n 0, 1) := dk_42 (dk_at dksX0_count_4 23 rfl rfl)
theorem dX0_count_139 : decode cX0_count 139 = .ok (.getfield 18, 3) := dk_180 0 18 (dk_at dksX0_count_5 0 rfl rfl)
theorem dX0_count_142 : decode cX0_count 142 = .ok (.invokevirtual 432, 3) := dk_182 1 176 (dk_at dksX0_count_5 3 rfl rfl)
theorem dX0_count_145 : decode cX0_count 145 = .ok (.ireturn, 1) := dk_172 (dk_at dksX0_count_5 6 rfl rfl)
theorem dX0_count_146 : decode cX0_count 146 = .ok (.aload_n 0, 1) := dk_42 (dk_at dksX0_count_5 7 rfl rfl)
theorem dX0_count_147 : decode cX0_count 147 = .ok (.getfield 18, 3) := dk_180 0 18 (dk_at dksX0_count_5 8 rfl rfl)
theorem dX0_count_150 : decode cX0_count 150 = .ok (.getfield 199, 3) := dk_180 0 199 (dk_at dksX0_count_5 11 rfl rfl)
theorem dX0_count_153 : decode cX0_count 153 = .ok (.ifCond .eq 7, 3) := dk_153 0 7 (dk_at dksX0_count_5 14 rfl rfl)
theorem dX0_count_156 : decode cX0_count 156 = .ok (.iconst 1, 1) := dk_4 (dk_at dksX0_count_5 17 rfl rfl)
theorem dX0_count_157 : decode cX0_count 157 = .ok (.goto 4, 3) := dk_167 0 4 (dk_at dksX0_count_5 18 rfl rfl)
theorem dX0_count_160 : decode cX0_count 160 = .ok (.iconst 0, 1) := dk_3 (dk_at dksX0_count_5 21 rfl rfl)
theorem dX0_count_161 : decode cX0_count 161 = .ok (.ireturn, 1) := dk_172 (dk_at dksX0_count_5 22 rfl rfl)
theorem dX0_count_162 : decode cX0_count 162 = .ok (.aload_n 0, 1) := dk_42 (dk_at dksX0_count_5 23 rfl rfl)
theorem dX0_count_163 : decode cX0_count 163 = .ok (.invokevirtual 171, 3) := dk_182 0 171 (dk_at dksX0_count_6 0 rfl rfl)
theorem dX0_count_166 : decode cX0_count 166 = .ok (.ifCond .eq 13, 3) := dk_153 0 13 (dk_at dksX0_count_6 3 rfl rfl)
theorem dX0_count_169 : decode cX0_count 169 = .ok (.aload_n 0, 1) := dk_42 (dk_at dksX0_count_6 6 rfl rfl)
theorem dX0_count_170 : decode cX0_count 170 = .ok (.getfield 18, 3) := dk_180 0 18 (dk_at dksX0_count_6 7 rfl rfl)
theorem dX0_count_173 : decode cX0_count 173 = .ok (.invokevirtual 223, 3) := dk_182 0 223 (dk_at dksX0_count_6 10 rfl rfl)
theorem dX0_count_176 : decode cX0_count 176 = .ok (.goto 4, 3) := dk_167 0 4 (dk_at dksX0_count_6 13 rfl rfl)
theorem dX0_count_179 : decode cX0_count 179 = .ok (.iconst 0, 1) := dk_3 (dk_at dksX0_count_6 16 rfl rfl)
theorem dX0_count_180 : decode cX0_count 180 = .ok (.ireturn, 1) := dk_172 (dk_at dksX0_count_6 17 rfl rfl)
theorem dX0_count_181 : decode cX0_count 181 = .ok (.aload_n 0, 1) := dk_42 (dk_at dksX0_count_6 18 rfl rfl)
theorem dX0_count_182 : decode cX0_count 182 = .ok (.getfield 50, 3) := dk_180 0 50 (dk_at dksX0_count_6 19 rfl rfl)
theorem dX0_count_185 : decode cX0_count 185 = .ok (.getfield 88, 3) := dk_180 0 88 (dk_at dksX0_count_7 0 rfl rfl)
theorem dX0_count_188 : decode cX0_count 188 = .ok (.ifCond .eq 7, 3) := dk_153 0 7 (dk_at dksX0_count_7 3 rfl rfl)
theorem dX0_count_191 : decode cX0_count 191 = .ok (.iconst 1, 1) := dk_4 (dk_at dksX0_count_7 6 rfl rfl)
theorem dX0_count_192 : decode cX0_count 192 = .ok (.goto 4, 3) := dk_167 0 4 (dk_at dksX0_count_7 7 rfl rfl)
theorem dX0_count_195 : decode cX0_count 195 = .ok (.iconst 0, 1) := dk_3 (dk_at dksX0_count_7 10 rfl rfl)
theorem dX0_count_196 : decode cX0_count 196 = .ok (.ireturn, 1) := dk_172 (dk_at dksX0_count_7 11 rfl rfl)
theorem dX0_count_197 : decode cX0_count 197 = .ok (.iconst 0, 1) := dk_3 (dk_at dksX0_count_7 12 rfl rfl)
theorem dX0_count_198 : decode cX0_count 198 = .ok (.istore_n 3, 1) := dk_62 (dk_at dksX0_count_7 13 rfl rfl)
theorem dX0_count_199 : decode cX0_count 199 = .ok (.iload_n 3, 1) := dk_29 (dk_at dksX0_count_7 14 rfl rfl)
theorem dX0_count_200 : decode cX0_count 200 = .ok (.iconst 4, 1) := dk_7 (dk_at dksX0_count_7 15 rfl rfl)
theorem dX0_count_201 : decode cX0_count 201 = .ok (.if_icmp .ge 29, 3) := dk_162 0 29 (dk_at dksX0_count_7 16 rfl rfl)
theorem dX0_count_204 : decode cX0_count 204 = .ok (.iload_n 2, 1) := dk_28 (dk_at dksX0_count_7 19 rfl rfl)
theorem dX0_count_205 : decode cX0_count 205 = .ok (.aload_n 0, 1) := dk_42 (dk_at dksX0_count_7 20 rfl rfl)
theorem dX0_count_206 : decode cX0_count 206 = .ok (.getfield 60, 3) := dk_180 0 60 (dk_at dksX0_count_7 21 rfl rfl)
theorem dX0_count_209 : decode cX0_count 209 = .ok (.iload_n 3, 1) := dk_29 (dk_at dksX0_count_8 0 rfl rfl)
theorem dX0_count_210 : decode cX0_count 210 = .ok (.aaload, 1) := dk_50 (dk_at dksX0_count_8 1 rfl rfl)
theorem dX0_count_211 : decode cX0_count 211 = .ok (.getfield 435, 3) := dk_180 1 179 (dk_at dksX0_count_8 2 rfl rfl)
theorem dX0_count_214 : decode cX0_count 214 = .ok (.ifnonnull 7, 3) := dk_199 0 7 (dk_at dksX0_count_8 5 rfl rfl)
theorem dX0_count_217 : decode cX0_count 217 = .ok (.iconst 0, 1) := dk_3 (dk_at dksX0_count_8 8 rfl rfl)
theorem dX0_count_218 : decode cX0_count 218 = .ok (.goto 4, 3) := dk_167 0 4 (dk_at dksX0_count_8 9 rfl rfl)
theorem dX0_count_221 : decode cX0_count 221 = .ok (.iconst 1, 1) := dk_4 (dk_at dksX0_count_8 12 rfl rfl)
theorem dX0_count_222 : decode cX0_count 222 = .ok (.iadd, 1) := dk_96 (dk_at dksX0_count_8 13 rfl rfl)
theorem dX0_count_223 : decode cX0_count 223 = .ok (.istore_n 2, 1) := dk_61 (dk_at dksX0_count_8 14 rfl rfl)
theorem dX0_count_224 : decode cX0_count 224 = .ok (.iinc 3 1, 3) := dk_132 3 1 (dk_at dksX0_count_8 15 rfl rfl)
theorem dX0_count_227 : decode cX0_count 227 = .ok (.goto (-28), 3) := dk_167 255 228 (dk_at dksX0_count_8 18 rfl rfl)
theorem dX0_count_230 : decode cX0_count 230 = .ok (.iload_n 2, 1) := dk_28 (dk_at dksX0_count_8 21 rfl rfl)
theorem dX0_count_231 : decode cX0_count 231 = .ok (.ireturn, 1) := dk_172 (dk_at dksX0_count_8 22 rfl rfl)
theorem dX0_count_232 : decode cX0_count 232 = .ok (.iconst (-1), 1) := dk_2 (dk_at dksX0_count_8 23 rfl rfl)
theorem dX0_count_233 : decode cX0_count 233 = .ok (.ireturn, 1) := dk_172 (dk_at dksX0_count_9 0 rfl rfl)
abbrev cX0_keep : ByteArray := prog_1_method_95_code
def yX0_keep : MethodName := ⟨RX0, "keep", "(I)I"⟩
def dkwX0_keep_2 : List UInt8 := [182, 1, 187, 3, 172]
abbrev dktX0_keep_2 : List UInt8 := dkwX0_keep_2 ++ []
def dkwX0_keep_1 : List UInt8 := [180, 0, 18, 182, 1, 183, 181, 1, 124, 42, 180, 0, 67, 27, 50, 180, 1, 186, 42, 180, 0, 50]
abbrev dktX0_keep_1 : List UInt8 := dkwX0_keep_1 ++ dktX0_keep_2
def dkwX0_keep_0 : List UInt8 := [27, 133, 9, 20, 0, 215, 184, 0, 5, 154, 0, 6, 16, 254, 172, 42, 180, 0, 67, 27, 50, 42]
abbrev dktX0_keep_0 : List UInt8 := dkwX0_keep_0 ++ dktX0_keep_1
theorem dksX0_keep_0 : cX0_keep.data.toList.drop 0 = dktX0_keep_0 := by decide +kernel
theorem dksX0_keep_1 : cX0_keep.data.toList.drop 22 = dktX0_keep_1 := dk_seg dksX0_keep_0 22 rfl rfl
theorem dksX0_keep_2 : cX0_keep.data.toList.drop 44 = dktX0_keep_2 := dk_seg dksX0_keep_1 22 rfl rfl
theorem dX0_keep_0 : decode cX0_keep 0 = .ok (.iload_n 1, 1) := dk_27 (dk_at dksX0_keep_0 0 rfl rfl)
theorem dX0_keep_1 : decode cX0_keep 1 = .ok (.i2l, 1) := dk_133 (dk_at dksX0_keep_0 1 rfl rfl)
theorem dX0_keep_2 : decode cX0_keep 2 = .ok (.lconst 0, 1) := dk_9 (dk_at dksX0_keep_0 2 rfl rfl)
theorem dX0_keep_3 : decode cX0_keep 3 = .ok (.ldc2_w 215, 3) := dk_20 0 215 (dk_at dksX0_keep_0 3 rfl rfl)
theorem dX0_keep_6 : decode cX0_keep 6 = .ok (.invokestatic 5, 3) := dk_184 0 5 (dk_at dksX0_keep_0 6 rfl rfl)
theorem dX0_keep_9 : decode cX0_keep 9 = .ok (.ifCond .ne 6, 3) := dk_154 0 6 (dk_at dksX0_keep_0 9 rfl rfl)
theorem dX0_keep_12 : decode cX0_keep 12 = .ok (.bipush (-2), 2) := dk_16 254 (dk_at dksX0_keep_0 12 rfl rfl)
theorem dX0_keep_14 : decode cX0_keep 14 = .ok (.ireturn, 1) := dk_172 (dk_at dksX0_keep_0 14 rfl rfl)
theorem dX0_keep_15 : decode cX0_keep 15 = .ok (.aload_n 0, 1) := dk_42 (dk_at dksX0_keep_0 15 rfl rfl)
theorem dX0_keep_16 : decode cX0_keep 16 = .ok (.getfield 67, 3) := dk_180 0 67 (dk_at dksX0_keep_0 16 rfl rfl)
theorem dX0_keep_19 : decode cX0_keep 19 = .ok (.iload_n 1, 1) := dk_27 (dk_at dksX0_keep_0 19 rfl rfl)
theorem dX0_keep_20 : decode cX0_keep 20 = .ok (.aaload, 1) := dk_50 (dk_at dksX0_keep_0 20 rfl rfl)
theorem dX0_keep_21 : decode cX0_keep 21 = .ok (.aload_n 0, 1) := dk_42 (dk_at dksX0_keep_0 21 rfl rfl)
theorem dX0_keep_22 : decode cX0_keep 22 = .ok (.getfield 18, 3) := dk_180 0 18 (dk_at dksX0_keep_1 0 rfl rfl)
theorem dX0_keep_25 : decode cX0_keep 25 = .ok (.invokevirtual 439, 3) := dk_182 1 183 (dk_at dksX0_keep_1 3 rfl rfl)
theorem dX0_keep_28 : decode cX0_keep 28 = .ok (.putfield 380, 3) := dk_181 1 124 (dk_at dksX0_keep_1 6 rfl rfl)
theorem dX0_keep_31 : decode cX0_keep 31 = .ok (.aload_n 0, 1) := dk_42 (dk_at dksX0_keep_1 9 rfl rfl)
theorem dX0_keep_32 : decode cX0_keep 32 = .ok (.getfield 67, 3) := dk_180 0 67 (dk_at dksX0_keep_1 10 rfl rfl)
theorem dX0_keep_35 : decode cX0_keep 35 = .ok (.iload_n 1, 1) := dk_27 (dk_at dksX0_keep_1 13 rfl rfl)
theorem dX0_keep_36 : decode cX0_keep 36 = .ok (.aaload, 1) := dk_50 (dk_at dksX0_keep_1 14 rfl rfl)
theorem dX0_keep_37 : decode cX0_keep 37 = .ok (.getfield 442, 3) := dk_180 1 186 (dk_at dksX0_keep_1 15 rfl rfl)
theorem dX0_keep_40 : decode cX0_keep 40 = .ok (.aload_n 0, 1) := dk_42 (dk_at dksX0_keep_1 18 rfl rfl)
theorem dX0_keep_41 : decode cX0_keep 41 = .ok (.getfield 50, 3) := dk_180 0 50 (dk_at dksX0_keep_1 19 rfl rfl)
theorem dX0_keep_44 : decode cX0_keep 44 = .ok (.invokevirtual 443, 3) := dk_182 1 187 (dk_at dksX0_keep_2 0 rfl rfl)
theorem dX0_keep_47 : decode cX0_keep 47 = .ok (.iconst 0, 1) := dk_3 (dk_at dksX0_keep_2 3 rfl rfl)
theorem dX0_keep_48 : decode cX0_keep 48 = .ok (.ireturn, 1) := dk_172 (dk_at dksX0_keep_2 4 rfl rfl)
abbrev cX0_back : ByteArray := prog_1_method_96_code
def yX0_back : MethodName := ⟨RX0, "back", "(I)I"⟩
def dkwX0_back_2 : List UInt8 := [180, 0, 50, 42, 180, 0, 67, 27, 50, 180, 1, 186, 182, 1, 187, 3, 172]
abbrev dktX0_back_2 : List UInt8 := dkwX0_back_2 ++ []
def dkwX0_back_1 : List UInt8 := [199, 0, 6, 16, 250, 172, 42, 42, 180, 0, 67, 27, 50, 180, 1, 124, 182, 1, 183, 181, 0, 18, 42]
abbrev dktX0_back_1 : List UInt8 := dkwX0_back_1 ++ dktX0_back_2
def dkwX0_back_0 : List UInt8 := [27, 133, 9, 20, 0, 215, 184, 0, 5, 154, 0, 6, 16, 254, 172, 42, 180, 0, 67, 27, 50, 180, 1, 124]
abbrev dktX0_back_0 : List UInt8 := dkwX0_back_0 ++ dktX0_back_1
theorem dksX0_back_0 : cX0_back.data.toList.drop 0 = dktX0_back_0 := by decide +kernel
theorem dksX0_back_1 : cX0_back.data.toList.drop 24 = dktX0_back_1 := dk_seg dksX0_back_0 24 rfl rfl
theorem dksX0_back_2 : cX0_back.data.toList.drop 47 = dktX0_back_2 := dk_seg dksX0_back_1 23 rfl rfl
theorem dX0_back_0 : decode cX0_back 0 = .ok (.iload_n 1, 1) := dk_27 (dk_at dksX0_back_0 0 rfl rfl)
theorem dX0_back_1 : decode cX0_back 1 = .ok (.i2l, 1) := dk_133 (dk_at dksX0_back_0 1 rfl rfl)
theorem dX0_back_2 : decode cX0_back 2 = .ok (.lconst 0, 1) := dk_9 (dk_at dksX0_back_0 2 rfl rfl)
theorem dX0_back_3 : decode cX0_back 3 = .ok (.ldc2_w 215, 3) := dk_20 0 215 (dk_at dksX0_back_0 3 rfl rfl)
theorem dX0_back_6 : decode cX0_back 6 = .ok (.invokestatic 5, 3) := dk_184 0 5 (dk_at dksX0_back_0 6 rfl rfl)
theorem dX0_back_9 : decode cX0_back 9 = .ok (.ifCond .ne 6, 3) := dk_154 0 6 (dk_at dksX0_back_0 9 rfl rfl)
theorem dX0_back_12 : decode cX0_back 12 = .ok (.bipush (-2), 2) := dk_16 254 (dk_at dksX0_back_0 12 rfl rfl)
theorem dX0_back_14 : decode cX0_back 14 = .ok (.ireturn, 1) := dk_172 (dk_at dksX0_back_0 14 rfl rfl)
theorem dX0_back_15 : decode cX0_back 15 = .ok (.aload_n 0, 1) := dk_42 (dk_at dksX0_back_0 15 rfl rfl)
theorem dX0_back_16 : decode cX0_back 16 = .ok (.getfield 67, 3) := dk_180 0 67 (dk_at dksX0_back_0 16 rfl rfl)
theorem dX0_back_19 : decode cX0_back 19 = .ok (.iload_n 1, 1) := dk_27 (dk_at dksX0_back_0 19 rfl rfl)
theorem dX0_back_20 : decode cX0_back 20 = .ok (.aaload, 1) := dk_50 (dk_at dksX0_back_0 20 rfl rfl)
theorem dX0_back_21 : decode cX0_back 21 = .ok (.getfield 380, 3) := dk_180 1 124 (dk_at dksX0_back_0 21 rfl rfl)
theorem dX0_back_24 : decode cX0_back 24 = .ok (.ifnonnull 6, 3) := dk_199 0 6 (dk_at dksX0_back_1 0 rfl rfl)
theorem dX0_back_27 : decode cX0_back 27 = .ok (.bipush (-6), 2) := dk_16 250 (dk_at dksX0_back_1 3 rfl rfl)
theorem dX0_back_29 : decode cX0_back 29 = .ok (.ireturn, 1) := dk_172 (dk_at dksX0_back_1 5 rfl rfl)
theorem dX0_back_30 : decode cX0_back 30 = .ok (.aload_n 0, 1) := dk_42 (dk_at dksX0_back_1 6 rfl rfl)
theorem dX0_back_31 : decode cX0_back 31 = .ok (.aload_n 0, 1) := dk_42 (dk_at dksX0_back_1 7 rfl rfl)
theorem dX0_back_32 : decode cX0_back 32 = .ok (.getfield 67, 3) := dk_180 0 67 (dk_at dksX0_back_1 8 rfl rfl)
theorem dX0_back_35 : decode cX0_back 35 = .ok (.iload_n 1, 1) := dk_27 (dk_at dksX0_back_1 11 rfl rfl)
theorem dX0_back_36 : decode cX0_back 36 = .ok (.aaload, 1) := dk_50 (dk_at dksX0_back_1 12 rfl rfl)
theorem dX0_back_37 : decode cX0_back 37 = .ok (.getfield 380, 3) := dk_180 1 124 (dk_at dksX0_back_1 13 rfl rfl)
theorem dX0_back_40 : decode cX0_back 40 = .ok (.invokevirtual 439, 3) := dk_182 1 183 (dk_at dksX0_back_1 16 rfl rfl)
theorem dX0_back_43 : decode cX0_back 43 = .ok (.putfield 18, 3) := dk_181 0 18 (dk_at dksX0_back_1 19 rfl rfl)
theorem dX0_back_46 : decode cX0_back 46 = .ok (.aload_n 0, 1) := dk_42 (dk_at dksX0_back_1 22 rfl rfl)
theorem dX0_back_47 : decode cX0_back 47 = .ok (.getfield 50, 3) := dk_180 0 50 (dk_at dksX0_back_2 0 rfl rfl)
theorem dX0_back_50 : decode cX0_back 50 = .ok (.aload_n 0, 1) := dk_42 (dk_at dksX0_back_2 3 rfl rfl)
theorem dX0_back_51 : decode cX0_back 51 = .ok (.getfield 67, 3) := dk_180 0 67 (dk_at dksX0_back_2 4 rfl rfl)
theorem dX0_back_54 : decode cX0_back 54 = .ok (.iload_n 1, 1) := dk_27 (dk_at dksX0_back_2 7 rfl rfl)
theorem dX0_back_55 : decode cX0_back 55 = .ok (.aaload, 1) := dk_50 (dk_at dksX0_back_2 8 rfl rfl)
theorem dX0_back_56 : decode cX0_back 56 = .ok (.getfield 442, 3) := dk_180 1 186 (dk_at dksX0_back_2 9 rfl rfl)
theorem dX0_back_59 : decode cX0_back 59 = .ok (.invokevirtual 443, 3) := dk_182 1 187 (dk_at dksX0_back_2 12 rfl rfl)
theorem dX0_back_62 : decode cX0_back 62 = .ok (.iconst 0, 1) := dk_3 (dk_at dksX0_back_2 15 rfl rfl)
theorem dX0_back_63 : decode cX0_back 63 = .ok (.ireturn, 1) := dk_172 (dk_at dksX0_back_2 16 rfl rfl)
abbrev cX0_row : ByteArray := prog_1_method_97_code
def yX0_row : MethodName := ⟨RX0, "row", "(III)I"⟩
def dkwX0_row_1 : List UInt8 := [164, 0, 6, 16, 254, 172, 42, 180, 0, 60, 27, 50, 28, 29, 182, 1, 191, 3, 172, 58, 4, 16, 253, 172]
abbrev dktX0_row_1 : List UInt8 := dkwX0_row_1 ++ []
def dkwX0_row_0 : List UInt8 := [27, 184, 1, 139, 153, 0, 21, 28, 133, 9, 20, 1, 171, 184, 0, 5, 153, 0, 9, 29, 16, 60]
abbrev dktX0_row_0 : List UInt8 := dkwX0_row_0 ++ dktX0_row_1
theorem dksX0_row_0 : cX0_row.data.toList.drop 0 = dktX0_row_0 := by decide +kernel
theorem dksX0_row_1 : cX0_row.data.toList.drop 22 = dktX0_row_1 := dk_seg dksX0_row_0 22 rfl rfl
theorem dX0_row_0 : decode cX0_row 0 = .ok (.iload_n 1, 1) := dk_27 (dk_at dksX0_row_0 0 rfl rfl)
theorem dX0_row_1 : decode cX0_row 1 = .ok (.invokestatic 395, 3) := dk_184 1 139 (dk_at dksX0_row_0 1 rfl rfl)
theorem dX0_row_4 : decode cX0_row 4 = .ok (.ifCond .eq 21, 3) := dk_153 0 21 (dk_at dksX0_row_0 4 rfl rfl)
theorem dX0_row_7 : decode cX0_row 7 = .ok (.iload_n 2, 1) := dk_28 (dk_at dksX0_row_0 7 rfl rfl)
theorem dX0_row_8 : decode cX0_row 8 = .ok (.i2l, 1) := dk_133 (dk_at dksX0_row_0 8 rfl rfl)
theorem dX0_row_9 : decode cX0_row 9 = .ok (.lconst 0, 1) := dk_9 (dk_at dksX0_row_0 9 rfl rfl)
theorem dX0_row_10 : decode cX0_row 10 = .ok (.ldc2_w 427, 3) := dk_20 1 171 (dk_at dksX0_row_0 10 rfl rfl)
theorem dX0_row_13 : decode cX0_row 13 = .ok (.invokestatic 5, 3) := dk_184 0 5 (dk_at dksX0_row_0 13 rfl rfl)
theorem dX0_row_16 : decode cX0_row 16 = .ok (.ifCond .eq 9, 3) := dk_153 0 9 (dk_at dksX0_row_0 16 rfl rfl)
theorem dX0_row_19 : decode cX0_row 19 = .ok (.iload_n 3, 1) := dk_29 (dk_at dksX0_row_0 19 rfl rfl)
theorem dX0_row_20 : decode cX0_row 20 = .ok (.bipush 60, 2) := dk_16 60 (dk_at dksX0_row_0 20 rfl rfl)
theorem dX0_row_22 : decode cX0_row 22 = .ok (.if_icmp .le 6, 3) := dk_164 0 6 (dk_at dksX0_row_1 0 rfl rfl)
theorem dX0_row_25 : decode cX0_row 25 = .ok (.bipush (-2), 2) := dk_16 254 (dk_at dksX0_row_1 3 rfl rfl)
theorem dX0_row_27 : decode cX0_row 27 = .ok (.ireturn, 1) := dk_172 (dk_at dksX0_row_1 5 rfl rfl)
theorem dX0_row_28 : decode cX0_row 28 = .ok (.aload_n 0, 1) := dk_42 (dk_at dksX0_row_1 6 rfl rfl)
theorem dX0_row_29 : decode cX0_row 29 = .ok (.getfield 60, 3) := dk_180 0 60 (dk_at dksX0_row_1 7 rfl rfl)
theorem dX0_row_32 : decode cX0_row 32 = .ok (.iload_n 1, 1) := dk_27 (dk_at dksX0_row_1 10 rfl rfl)
theorem dX0_row_33 : decode cX0_row 33 = .ok (.aaload, 1) := dk_50 (dk_at dksX0_row_1 11 rfl rfl)
theorem dX0_row_34 : decode cX0_row 34 = .ok (.iload_n 2, 1) := dk_28 (dk_at dksX0_row_1 12 rfl rfl)
theorem dX0_row_35 : decode cX0_row 35 = .ok (.iload_n 3, 1) := dk_29 (dk_at dksX0_row_1 13 rfl rfl)
theorem dX0_row_36 : decode cX0_row 36 = .ok (.invokevirtual 447, 3) := dk_182 1 191 (dk_at dksX0_row_1 14 rfl rfl)
theorem dX0_row_39 : decode cX0_row 39 = .ok (.iconst 0, 1) := dk_3 (dk_at dksX0_row_1 17 rfl rfl)
theorem dX0_row_40 : decode cX0_row 40 = .ok (.ireturn, 1) := dk_172 (dk_at dksX0_row_1 18 rfl rfl)
theorem dX0_row_41 : decode cX0_row 41 = .ok (.astore 4, 2) := dk_58 4 (dk_at dksX0_row_1 19 rfl rfl)
theorem dX0_row_43 : decode cX0_row 43 = .ok (.bipush (-3), 2) := dk_16 253 (dk_at dksX0_row_1 21 rfl rfl)
theorem dX0_row_45 : decode cX0_row 45 = .ok (.ireturn, 1) := dk_172 (dk_at dksX0_row_1 23 rfl rfl)
abbrev cX0_write : ByteArray := prog_1_method_98_code
def yX0_write : MethodName := ⟨RX0, "write", "(IIJ)I"⟩
def dkwX0_write_1 : List UInt8 := [58, 5, 16, 250, 172, 58, 5, 16, 249, 172]
abbrev dktX0_write_1 : List UInt8 := dkwX0_write_1 ++ []
def dkwX0_write_0 : List UInt8 := [27, 184, 1, 139, 154, 0, 6, 16, 254, 172, 42, 180, 0, 60, 27, 50, 28, 33, 182, 1, 196, 3, 172]
abbrev dktX0_write_0 : List UInt8 := dkwX0_write_0 ++ dktX0_write_1
theorem dksX0_write_0 : cX0_write.data.toList.drop 0 = dktX0_write_0 := by decide +kernel
theorem dksX0_write_1 : cX0_write.data.toList.drop 23 = dktX0_write_1 := dk_seg dksX0_write_0 23 rfl rfl
theorem dX0_write_0 : decode cX0_write 0 = .ok (.iload_n 1, 1) := dk_27 (dk_at dksX0_write_0 0 rfl rfl)
theorem dX0_write_1 : decode cX0_write 1 = .ok (.invokestatic 395, 3) := dk_184 1 139 (dk_at dksX0_write_0 1 rfl rfl)
theorem dX0_write_4 : decode cX0_write 4 = .ok (.ifCond .ne 6, 3) := dk_154 0 6 (dk_at dksX0_write_0 4 rfl rfl)
theorem dX0_write_7 : decode cX0_write 7 = .ok (.bipush (-2), 2) := dk_16 254 (dk_at dksX0_write_0 7 rfl rfl)
theorem dX0_write_9 : decode cX0_write 9 = .ok (.ireturn, 1) := dk_172 (dk_at dksX0_write_0 9 rfl rfl)
theorem dX0_write_10 : decode cX0_write 10 = .ok (.aload_n 0, 1) := dk_42 (dk_at dksX0_write_0 10 rfl rfl)
theorem dX0_write_11 : decode cX0_write 11 = .ok (.getfield 60, 3) := dk_180 0 60 (dk_at dksX0_write_0 11 rfl rfl)
theorem dX0_write_14 : decode cX0_write 14 = .ok (.iload_n 1, 1) := dk_27 (dk_at dksX0_write_0 14 rfl rfl)
theorem dX0_write_15 : decode cX0_write 15 = .ok (.aaload, 1) := dk_50 (dk_at dksX0_write_0 15 rfl rfl)
theorem dX0_write_16 : decode cX0_write 16 = .ok (.iload_n 2, 1) := dk_28 (dk_at dksX0_write_0 16 rfl rfl)
theorem dX0_write_17 : decode cX0_write 17 = .ok (.lload_n 3, 1) := dk_33 (dk_at dksX0_write_0 17 rfl rfl)
theorem dX0_write_18 : decode cX0_write 18 = .ok (.invokevirtual 452, 3) := dk_182 1 196 (dk_at dksX0_write_0 18 rfl rfl)
theorem dX0_write_21 : decode cX0_write 21 = .ok (.iconst 0, 1) := dk_3 (dk_at dksX0_write_0 21 rfl rfl)
theorem dX0_write_22 : decode cX0_write 22 = .ok (.ireturn, 1) := dk_172 (dk_at dksX0_write_0 22 rfl rfl)
theorem dX0_write_23 : decode cX0_write 23 = .ok (.astore 5, 2) := dk_58 5 (dk_at dksX0_write_1 0 rfl rfl)
theorem dX0_write_25 : decode cX0_write 25 = .ok (.bipush (-6), 2) := dk_16 250 (dk_at dksX0_write_1 2 rfl rfl)
theorem dX0_write_27 : decode cX0_write 27 = .ok (.ireturn, 1) := dk_172 (dk_at dksX0_write_1 4 rfl rfl)
theorem dX0_write_28 : decode cX0_write 28 = .ok (.astore 5, 2) := dk_58 5 (dk_at dksX0_write_1 5 rfl rfl)
theorem dX0_write_30 : decode cX0_write 30 = .ok (.bipush (-7), 2) := dk_16 249 (dk_at dksX0_write_1 7 rfl rfl)
theorem dX0_write_32 : decode cX0_write 32 = .ok (.ireturn, 1) := dk_172 (dk_at dksX0_write_1 9 rfl rfl)
abbrev cX0_paste : ByteArray := prog_1_method_99_code
def yX0_paste : MethodName := ⟨RX0, "paste", "(IIIII)I"⟩
def dkwX0_paste_2 : List UInt8 := [16, 250, 172, 58, 6, 16, 248, 172, 58, 6, 16, 249, 172]
abbrev dktX0_paste_2 : List UInt8 := dkwX0_paste_2 ++ []
def dkwX0_paste_1 : List UInt8 := [180, 1, 179, 28, 42, 180, 0, 60, 29, 50, 180, 1, 179, 21, 4, 21, 5, 184, 1, 202, 3, 172, 58, 6]
abbrev dktX0_paste_1 : List UInt8 := dkwX0_paste_1 ++ dktX0_paste_2
def dkwX0_paste_0 : List UInt8 := [27, 184, 1, 139, 153, 0, 10, 29, 184, 1, 139, 154, 0, 6, 16, 254, 172, 42, 180, 0, 60, 27, 50]
abbrev dktX0_paste_0 : List UInt8 := dkwX0_paste_0 ++ dktX0_paste_1
theorem dksX0_paste_0 : cX0_paste.data.toList.drop 0 = dktX0_paste_0 := by decide +kernel
theorem dksX0_paste_1 : cX0_paste.data.toList.drop 23 = dktX0_paste_1 := dk_seg dksX0_paste_0 23 rfl rfl
theorem dksX0_paste_2 : cX0_paste.data.toList.drop 47 = dktX0_paste_2 := dk_seg dksX0_paste_1 24 rfl rfl
theorem dX0_paste_0 : decode cX0_paste 0 = .ok (.iload_n 1, 1) := dk_27 (dk_at dksX0_paste_0 0 rfl rfl)
theorem dX0_paste_1 : decode cX0_paste 1 = .ok (.invokestatic 395, 3) := dk_184 1 139 (dk_at dksX0_paste_0 1 rfl rfl)
theorem dX0_paste_4 : decode cX0_paste 4 = .ok (.ifCond .eq 10, 3) := dk_153 0 10 (dk_at dksX0_paste_0 4 rfl rfl)
theorem dX0_paste_7 : decode cX0_paste 7 = .ok (.iload_n 3, 1) := dk_29 (dk_at dksX0_paste_0 7 rfl rfl)
theorem dX0_paste_8 : decode cX0_paste 8 = .ok (.invokestatic 395, 3) := dk_184 1 139 (dk_at dksX0_paste_0 8 rfl rfl)
theorem dX0_paste_11 : decode cX0_paste 11 = .ok (.ifCond .ne 6, 3) := dk_154 0 6 (dk_at dksX0_paste_0 11 rfl rfl)
theorem dX0_paste_14 : decode cX0_paste 14 = .ok (.bipush (-2), 2) := dk_16 254 (dk_at dksX0_paste_0 14 rfl rfl)
theorem dX0_paste_16 : decode cX0_paste 16 = .ok (.ireturn, 1) := dk_172 (dk_at dksX0_paste_0 16 rfl rfl)
theorem dX0_paste_17 : decode cX0_paste 17 = .ok (.aload_n 0, 1) := dk_42 (dk_at dksX0_paste_0 17 rfl rfl)
theorem dX0_paste_18 : decode cX0_paste 18 = .ok (.getfield 60, 3) := dk_180 0 60 (dk_at dksX0_paste_0 18 rfl rfl)
theorem dX0_paste_21 : decode cX0_paste 21 = .ok (.iload_n 1, 1) := dk_27 (dk_at dksX0_paste_0 21 rfl rfl)
theorem dX0_paste_22 : decode cX0_paste 22 = .ok (.aaload, 1) := dk_50 (dk_at dksX0_paste_0 22 rfl rfl)
theorem dX0_paste_23 : decode cX0_paste 23 = .ok (.getfield 435, 3) := dk_180 1 179 (dk_at dksX0_paste_1 0 rfl rfl)
theorem dX0_paste_26 : decode cX0_paste 26 = .ok (.iload_n 2, 1) := dk_28 (dk_at dksX0_paste_1 3 rfl rfl)
theorem dX0_paste_27 : decode cX0_paste 27 = .ok (.aload_n 0, 1) := dk_42 (dk_at dksX0_paste_1 4 rfl rfl)
theorem dX0_paste_28 : decode cX0_paste 28 = .ok (.getfield 60, 3) := dk_180 0 60 (dk_at dksX0_paste_1 5 rfl rfl)
theorem dX0_paste_31 : decode cX0_paste 31 = .ok (.iload_n 3, 1) := dk_29 (dk_at dksX0_paste_1 8 rfl rfl)
theorem dX0_paste_32 : decode cX0_paste 32 = .ok (.aaload, 1) := dk_50 (dk_at dksX0_paste_1 9 rfl rfl)
theorem dX0_paste_33 : decode cX0_paste 33 = .ok (.getfield 435, 3) := dk_180 1 179 (dk_at dksX0_paste_1 10 rfl rfl)
theorem dX0_paste_36 : decode cX0_paste 36 = .ok (.iload 4, 2) := dk_21 4 (dk_at dksX0_paste_1 13 rfl rfl)
theorem dX0_paste_38 : decode cX0_paste 38 = .ok (.iload 5, 2) := dk_21 5 (dk_at dksX0_paste_1 15 rfl rfl)
theorem dX0_paste_40 : decode cX0_paste 40 = .ok (.invokestatic 458, 3) := dk_184 1 202 (dk_at dksX0_paste_1 17 rfl rfl)
theorem dX0_paste_43 : decode cX0_paste 43 = .ok (.iconst 0, 1) := dk_3 (dk_at dksX0_paste_1 20 rfl rfl)
theorem dX0_paste_44 : decode cX0_paste 44 = .ok (.ireturn, 1) := dk_172 (dk_at dksX0_paste_1 21 rfl rfl)
theorem dX0_paste_45 : decode cX0_paste 45 = .ok (.astore 6, 2) := dk_58 6 (dk_at dksX0_paste_1 22 rfl rfl)
theorem dX0_paste_47 : decode cX0_paste 47 = .ok (.bipush (-6), 2) := dk_16 250 (dk_at dksX0_paste_2 0 rfl rfl)
theorem dX0_paste_49 : decode cX0_paste 49 = .ok (.ireturn, 1) := dk_172 (dk_at dksX0_paste_2 2 rfl rfl)
theorem dX0_paste_50 : decode cX0_paste 50 = .ok (.astore 6, 2) := dk_58 6 (dk_at dksX0_paste_2 3 rfl rfl)
theorem dX0_paste_52 : decode cX0_paste 52 = .ok (.bipush (-8), 2) := dk_16 248 (dk_at dksX0_paste_2 5 rfl rfl)
theorem dX0_paste_54 : decode cX0_paste 54 = .ok (.ireturn, 1) := dk_172 (dk_at dksX0_paste_2 7 rfl rfl)
theorem dX0_paste_55 : decode cX0_paste 55 = .ok (.astore 6, 2) := dk_58 6 (dk_at dksX0_paste_2 8 rfl rfl)
theorem dX0_paste_57 : decode cX0_paste 57 = .ok (.bipush (-7), 2) := dk_16 249 (dk_at dksX0_paste_2 10 rfl rfl)
theorem dX0_paste_59 : decode cX0_paste 59 = .ok (.ireturn, 1) := dk_172 (dk_at dksX0_paste_2 12 rfl rfl)
theorem q140 : (Jvm.Cond.initialized "LockRail") ∈ lw_all := lw_g (lw_at lw_m1 1 rfl) rfl
theorem q182 : (Jvm.Cond.instantiable "LockRail" (14 : Nat)) ∈ lw_all := lw_g (lw_at lw_m1 43 rfl) rfl
theorem q184 : (Jvm.Cond.instanceMethod ({ cls := "LockRail", name := "<init>", desc := "()V" } : Jvm.MethodName)) ∈ lw_all := lw_g (lw_at lw_m1 45 rfl) rfl
theorem q185 : (Jvm.Cond.code ({ cls := "LockRail", name := "<init>", desc := "()V" } : Jvm.MethodName) prog_1_method_5_code (1 : Nat) (Option.none : Option Jvm.ClassFile.FieldType)) ∈ lw_all := lw_g (lw_at lw_m1 46 rfl) rfl
theorem q186 : (Jvm.Cond.methodLink "LockRail" (9 : Nat) ({ cls := "java/lang/Object", name := "<init>", desc := "()V" } : Jvm.MethodName)) ∈ lw_all := lw_g (lw_at lw_m1 47 rfl) rfl
theorem q189 : (Jvm.Cond.classLink "LockRail" (15 : Nat) "LockRail$Rail") ∈ lw_all := lw_g (lw_at lw_m1 50 rfl) rfl
theorem q191 : (Jvm.Cond.methodLinkNest "LockRail" (17 : Nat) ({ cls := "LockRail$Rail", name := "<init>", desc := "()V" } : Jvm.MethodName) "LockRail") ∈ lw_tbl := lw_at lw_m1 52 rfl
theorem q225 : (Jvm.Cond.fieldLinkNest "LockRail" (103 : Nat) "LockRail$Rail" "places" "I" "LockRail") ∈ lw_tbl := lw_at lw_m1 86 rfl
theorem q231 : (Jvm.Cond.fieldLinkNest "LockRail" (399 : Nat) "LockRail$Rail" "nights" "I" "LockRail") ∈ lw_tbl := lw_at lw_m1 92 rfl
theorem q241 : (Jvm.Cond.fieldLinkNest "LockRail" (92 : Nat) "LockRail$Rail" "lines" "I" "LockRail") ∈ lw_tbl := lw_at lw_m1 102 rfl
theorem q249 : (Jvm.Cond.fieldLinkNest "LockRail" (295 : Nat) "LockRail$Rail" "hasWatch" "Z" "LockRail") ∈ lw_tbl := lw_at lw_m1 110 rfl
theorem q251 : (Jvm.Cond.fieldLinkNest "LockRail" (199 : Nat) "LockRail$Rail" "isWatched" "Z" "LockRail") ∈ lw_tbl := lw_at lw_m1 112 rfl
theorem q254 : (Jvm.Cond.fieldLinkNest "LockRail" (429 : Nat) "LockRail$Rail" "lamps" "Ljava/util/ArrayList;" "LockRail") ∈ lw_tbl := lw_at lw_m1 115 rfl
theorem q257 : (Jvm.Cond.fieldLinkNest "LockRail" (374 : Nat) "LockRail$Rail" "locks" "Ljava/util/ArrayList;" "LockRail") ∈ lw_tbl := lw_at lw_m1 118 rfl
theorem q263 : (Jvm.Cond.fieldLinkNest "LockRail" (130 : Nat) "LockRail$Rail" "bikes" "Ljava/util/ArrayList;" "LockRail") ∈ lw_tbl := lw_at lw_m1 124 rfl
theorem q268 : (Jvm.Cond.fieldLinkNest "LockRail" (110 : Nat) "LockRail$Rail" "thieves" "Ljava/util/ArrayList;" "LockRail") ∈ lw_tbl := lw_at lw_m1 129 rfl
theorem q271 : (Jvm.Cond.fieldLinkNest "LockRail" (321 : Nat) "LockRail$Rail" "bait" "LLockRail$Bike;" "LockRail") ∈ lw_tbl := lw_at lw_m1 132 rfl
theorem q273 : (Jvm.Cond.fieldLinkNest "LockRail" (284 : Nat) "LockRail$Rail" "triedAt" "I" "LockRail") ∈ lw_tbl := lw_at lw_m1 134 rfl
theorem q275 : (Jvm.Cond.fieldLinkNest "LockRail" (287 : Nat) "LockRail$Rail" "triedBright" "I" "LockRail") ∈ lw_tbl := lw_at lw_m1 136 rfl
theorem q313 : (Jvm.Cond.classLink "LockRail" (22 : Nat) "LockRail$Night") ∈ lw_all := lw_g (lw_at lw_m1 174 rfl) rfl
theorem q315 : (Jvm.Cond.methodLinkNest "LockRail" (24 : Nat) ({ cls := "LockRail$Night", name := "<init>", desc := "(LLockRail;)V" } : Jvm.MethodName) "LockRail") ∈ lw_tbl := lw_at lw_m1 176 rfl
theorem q320 : (Jvm.Cond.fieldLinkNest "LockRail" (179 : Nat) "LockRail$Night" "parts" "[J" "LockRail") ∈ lw_tbl := lw_at lw_m1 181 rfl
theorem q327 : (Jvm.Cond.fieldLinkNest "LockRail" (196 : Nat) "LockRail$Night" "byThief" "[J" "LockRail") ∈ lw_tbl := lw_at lw_m1 188 rfl
theorem q348 : (Jvm.Cond.classLink "LockRail" (47 : Nat) "LockRail$Year") ∈ lw_all := lw_g (lw_at lw_m1 209 rfl) rfl
theorem q350 : (Jvm.Cond.methodLinkNest "LockRail" (49 : Nat) ({ cls := "LockRail$Year", name := "<init>", desc := "(LLockRail;)V" } : Jvm.MethodName) "LockRail") ∈ lw_tbl := lw_at lw_m1 211 rfl
theorem q355 : (Jvm.Cond.fieldLinkNest "LockRail" (416 : Nat) "LockRail$Year" "taken" "[I" "LockRail") ∈ lw_tbl := lw_at lw_m1 216 rfl
theorem q357 : (Jvm.Cond.fieldLinkNest "LockRail" (419 : Nat) "LockRail$Year" "took" "[I" "LockRail") ∈ lw_tbl := lw_at lw_m1 218 rfl
theorem q359 : (Jvm.Cond.fieldLinkNest "LockRail" (88 : Nat) "LockRail$Year" "isThere" "Z" "LockRail") ∈ lw_tbl := lw_at lw_m1 220 rfl
theorem q361 : (Jvm.Cond.fieldLinkNest "LockRail" (408 : Nat) "LockRail$Year" "gone" "I" "LockRail") ∈ lw_tbl := lw_at lw_m1 222 rfl
theorem q375 : (Jvm.Cond.classLink "LockRail" (57 : Nat) "LockRail$Slot") ∈ lw_all := lw_g (lw_at lw_m1 236 rfl) rfl
theorem q378 : (Jvm.Cond.methodLinkNest "LockRail" (59 : Nat) ({ cls := "LockRail$Slot", name := "<init>", desc := "()V" } : Jvm.MethodName) "LockRail") ∈ lw_tbl := lw_at lw_m1 239 rfl
theorem q383 : (Jvm.Cond.fieldLinkNest "LockRail" (435 : Nat) "LockRail$Slot" "row" "Ljava/lang/Object;" "LockRail") ∈ lw_tbl := lw_at lw_m2 4 rfl
theorem q387 : (Jvm.Cond.classLink "LockRail" (64 : Nat) "LockRail$Image") ∈ lw_all := lw_g (lw_at lw_m2 8 rfl) rfl
theorem q390 : (Jvm.Cond.methodLinkNest "LockRail" (66 : Nat) ({ cls := "LockRail$Image", name := "<init>", desc := "(LLockRail;)V" } : Jvm.MethodName) "LockRail") ∈ lw_tbl := lw_at lw_m2 11 rfl
theorem q396 : (Jvm.Cond.fieldLinkNest "LockRail" (380 : Nat) "LockRail$Image" "rail" "LLockRail$Rail;" "LockRail") ∈ lw_tbl := lw_at lw_m2 17 rfl
theorem q398 : (Jvm.Cond.fieldLinkNest "LockRail" (442 : Nat) "LockRail$Image" "year" "LLockRail$Year;" "LockRail") ∈ lw_tbl := lw_at lw_m2 19 rfl
theorem q410 : (Jvm.Cond.fieldLink "LockRail" (18 : Nat) "LockRail" "rail" "LLockRail$Rail;") ∈ lw_all := lw_g (lw_at lw_m2 31 rfl) rfl
theorem q411 : (Jvm.Cond.fieldLink "LockRail" (27 : Nat) "LockRail" "night" "LLockRail$Night;") ∈ lw_all := lw_g (lw_at lw_m2 32 rfl) rfl
theorem q413 : (Jvm.Cond.fieldLink "LockRail" (31 : Nat) "LockRail" "tape" "[B") ∈ lw_all := lw_g (lw_at lw_m2 34 rfl) rfl
theorem q415 : (Jvm.Cond.fieldLink "LockRail" (71 : Nat) "LockRail" "taped" "I") ∈ lw_all := lw_g (lw_at lw_m2 36 rfl) rfl
theorem q416 : (Jvm.Cond.fieldLink "LockRail" (85 : Nat) "LockRail" "faultKind" "I") ∈ lw_all := lw_g (lw_at lw_m2 37 rfl) rfl
theorem q417 : (Jvm.Cond.fieldLink "LockRail" (35 : Nat) "LockRail" "faultPlace" "I") ∈ lw_all := lw_g (lw_at lw_m2 38 rfl) rfl
theorem q418 : (Jvm.Cond.fieldLink "LockRail" (244 : Nat) "LockRail" "isSettled" "Z") ∈ lw_all := lw_g (lw_at lw_m2 39 rfl) rfl
theorem q419 : (Jvm.Cond.fieldLink "LockRail" (39 : Nat) "LockRail" "were" "[I") ∈ lw_all := lw_g (lw_at lw_m2 40 rfl) rfl
theorem q420 : (Jvm.Cond.fieldLink "LockRail" (43 : Nat) "LockRail" "more" "[J") ∈ lw_all := lw_g (lw_at lw_m2 41 rfl) rfl
theorem q421 : (Jvm.Cond.fieldLink "LockRail" (311 : Nat) "LockRail" "baited" "LLockRail$Baited;") ∈ lw_all := lw_g (lw_at lw_m2 42 rfl) rfl
theorem q422 : (Jvm.Cond.fieldLink "LockRail" (50 : Nat) "LockRail" "year" "LLockRail$Year;") ∈ lw_all := lw_g (lw_at lw_m2 43 rfl) rfl
theorem q423 : (Jvm.Cond.fieldLink "LockRail" (54 : Nat) "LockRail" "trial" "LLockRail$Year;") ∈ lw_all := lw_g (lw_at lw_m2 44 rfl) rfl
theorem q424 : (Jvm.Cond.fieldLink "LockRail" (60 : Nat) "LockRail" "slots" "[LLockRail$Slot;") ∈ lw_all := lw_g (lw_at lw_m2 45 rfl) rfl
theorem q425 : (Jvm.Cond.fieldLink "LockRail" (67 : Nat) "LockRail" "images" "[LLockRail$Image;") ∈ lw_all := lw_g (lw_at lw_m2 46 rfl) rfl
theorem q426 : (Jvm.Cond.lays "LockRail" "LockRail" "rail" "LLockRail$Rail;") ∈ lw_all := lw_g (lw_at lw_m2 47 rfl) rfl
theorem q427 : (Jvm.Cond.soleField "LockRail" "rail") ∈ lw_all := lw_g (lw_at lw_m2 48 rfl) rfl
theorem q428 : (Jvm.Cond.laysFinal "LockRail" "LockRail" "night" "LLockRail$Night;") ∈ lw_all := lw_g (lw_at lw_m2 49 rfl) rfl
theorem q429 : (Jvm.Cond.soleField "LockRail" "night") ∈ lw_all := lw_g (lw_at lw_m2 50 rfl) rfl
theorem q430 : (Jvm.Cond.laysFinal "LockRail" "LockRail" "tape" "[B") ∈ lw_all := lw_g (lw_at lw_m2 51 rfl) rfl
theorem q431 : (Jvm.Cond.soleField "LockRail" "tape") ∈ lw_all := lw_g (lw_at lw_m2 52 rfl) rfl
theorem q432 : (Jvm.Cond.lays "LockRail" "LockRail" "taped" "I") ∈ lw_all := lw_g (lw_at lw_m2 53 rfl) rfl
theorem q433 : (Jvm.Cond.soleField "LockRail" "taped") ∈ lw_all := lw_g (lw_at lw_m2 54 rfl) rfl
theorem q434 : (Jvm.Cond.lays "LockRail" "LockRail" "faultKind" "I") ∈ lw_all := lw_g (lw_at lw_m2 55 rfl) rfl
theorem q435 : (Jvm.Cond.soleField "LockRail" "faultKind") ∈ lw_all := lw_g (lw_at lw_m2 56 rfl) rfl
theorem q436 : (Jvm.Cond.lays "LockRail" "LockRail" "faultPlace" "I") ∈ lw_all := lw_g (lw_at lw_m2 57 rfl) rfl
theorem q437 : (Jvm.Cond.soleField "LockRail" "faultPlace") ∈ lw_all := lw_g (lw_at lw_m2 58 rfl) rfl
theorem q438 : (Jvm.Cond.lays "LockRail" "LockRail" "isSettled" "Z") ∈ lw_all := lw_g (lw_at lw_m2 59 rfl) rfl
theorem q439 : (Jvm.Cond.soleField "LockRail" "isSettled") ∈ lw_all := lw_g (lw_at lw_m2 60 rfl) rfl
theorem q440 : (Jvm.Cond.laysFinal "LockRail" "LockRail" "were" "[I") ∈ lw_all := lw_g (lw_at lw_m2 61 rfl) rfl
theorem q441 : (Jvm.Cond.soleField "LockRail" "were") ∈ lw_all := lw_g (lw_at lw_m2 62 rfl) rfl
theorem q442 : (Jvm.Cond.laysFinal "LockRail" "LockRail" "more" "[J") ∈ lw_all := lw_g (lw_at lw_m2 63 rfl) rfl
theorem q443 : (Jvm.Cond.soleField "LockRail" "more") ∈ lw_all := lw_g (lw_at lw_m2 64 rfl) rfl
theorem q444 : (Jvm.Cond.lays "LockRail" "LockRail" "baited" "LLockRail$Baited;") ∈ lw_all := lw_g (lw_at lw_m2 65 rfl) rfl
theorem q445 : (Jvm.Cond.soleField "LockRail" "baited") ∈ lw_all := lw_g (lw_at lw_m2 66 rfl) rfl
theorem q446 : (Jvm.Cond.laysFinal "LockRail" "LockRail" "year" "LLockRail$Year;") ∈ lw_all := lw_g (lw_at lw_m2 67 rfl) rfl
theorem q447 : (Jvm.Cond.soleField "LockRail" "year") ∈ lw_all := lw_g (lw_at lw_m2 68 rfl) rfl
theorem q448 : (Jvm.Cond.laysFinal "LockRail" "LockRail" "trial" "LLockRail$Year;") ∈ lw_all := lw_g (lw_at lw_m2 69 rfl) rfl
theorem q449 : (Jvm.Cond.soleField "LockRail" "trial") ∈ lw_all := lw_g (lw_at lw_m2 70 rfl) rfl
theorem q450 : (Jvm.Cond.laysFinal "LockRail" "LockRail" "slots" "[LLockRail$Slot;") ∈ lw_all := lw_g (lw_at lw_m2 71 rfl) rfl
theorem q451 : (Jvm.Cond.soleField "LockRail" "slots") ∈ lw_all := lw_g (lw_at lw_m2 72 rfl) rfl
theorem q452 : (Jvm.Cond.laysFinal "LockRail" "LockRail" "images" "[LLockRail$Image;") ∈ lw_all := lw_g (lw_at lw_m2 73 rfl) rfl
theorem q453 : (Jvm.Cond.soleField "LockRail" "images") ∈ lw_all := lw_g (lw_at lw_m2 74 rfl) rfl
theorem q454 : (Jvm.Cond.superclass "LockRail" "java/lang/Object") ∈ lw_all := lw_g (lw_at lw_m2 75 rfl) rfl
theorem q456 : (Jvm.Cond.instanceMethod ({ cls := "LockRail", name := "feed", desc := "(IIIII)I" } : Jvm.MethodName)) ∈ lw_all := lw_g (lw_at lw_m2 77 rfl) rfl
theorem q457 : (Jvm.Cond.selects "LockRail" ({ cls := "LockRail", name := "feed", desc := "(IIIII)I" } : Jvm.MethodName) ({ cls := "LockRail", name := "feed", desc := "(IIIII)I" } : Jvm.MethodName)) ∈ lw_all := lw_g (lw_at lw_m2 78 rfl) rfl
theorem q458 : (Jvm.Cond.code ({ cls := "LockRail", name := "feed", desc := "(IIIII)I" } : Jvm.MethodName) prog_1_method_7_code (6 : Nat) (Option.some Jvm.ClassFile.FieldType.int)) ∈ lw_all := lw_g (lw_at lw_m2 79 rfl) rfl
theorem q459 : (Jvm.Cond.methodLink "LockRail" (74 : Nat) ({ cls := "LockRail", name := "puts", desc := "(I)V" } : Jvm.MethodName)) ∈ lw_all := lw_g (lw_at lw_m2 80 rfl) rfl
theorem q460 : (Jvm.Cond.privateMethod ({ cls := "LockRail", name := "puts", desc := "(I)V" } : Jvm.MethodName)) ∈ lw_tbl := lw_at lw_m2 81 rfl
theorem q461 : (Jvm.Cond.instanceMethod ({ cls := "LockRail", name := "puts", desc := "(I)V" } : Jvm.MethodName)) ∈ lw_all := lw_g (lw_at lw_m2 82 rfl) rfl
theorem q462 : (Jvm.Cond.code ({ cls := "LockRail", name := "puts", desc := "(I)V" } : Jvm.MethodName) prog_1_method_6_code (3 : Nat) (Option.none : Option Jvm.ClassFile.FieldType)) ∈ lw_all := lw_g (lw_at lw_m2 83 rfl) rfl
theorem q464 : (Jvm.Cond.instanceMethod ({ cls := "LockRail", name := "end", desc := "(I)I" } : Jvm.MethodName)) ∈ lw_all := lw_g (lw_at lw_m2 85 rfl) rfl
theorem q465 : (Jvm.Cond.selects "LockRail" ({ cls := "LockRail", name := "end", desc := "(I)I" } : Jvm.MethodName) ({ cls := "LockRail", name := "end", desc := "(I)I" } : Jvm.MethodName)) ∈ lw_all := lw_g (lw_at lw_m2 86 rfl) rfl
theorem q466 : (Jvm.Cond.code ({ cls := "LockRail", name := "end", desc := "(I)I" } : Jvm.MethodName) prog_1_method_8_code (2 : Nat) (Option.some Jvm.ClassFile.FieldType.int)) ∈ lw_all := lw_g (lw_at lw_m2 87 rfl) rfl
theorem q467 : (Jvm.Cond.methodLink "LockRail" (5 : Nat) ({ cls := "LockRail", name := "isIn", desc := "(JJJ)Z" } : Jvm.MethodName)) ∈ lw_all := lw_g (lw_at lw_m2 88 rfl) rfl
theorem q468 : (Jvm.Cond.static ({ cls := "LockRail", name := "isIn", desc := "(JJJ)Z" } : Jvm.MethodName)) ∈ lw_all := lw_g (lw_at lw_m2 89 rfl) rfl
theorem q469 : (Jvm.Cond.code ({ cls := "LockRail", name := "isIn", desc := "(JJJ)Z" } : Jvm.MethodName) prog_1_method_1_code (6 : Nat) (Option.some Jvm.ClassFile.FieldType.boolean)) ∈ lw_all := lw_g (lw_at lw_m2 90 rfl) rfl
theorem q471 : (Jvm.Cond.instanceMethod ({ cls := "LockRail", name := "rail", desc := "()I" } : Jvm.MethodName)) ∈ lw_all := lw_g (lw_at lw_m2 92 rfl) rfl
theorem q472 : (Jvm.Cond.selects "LockRail" ({ cls := "LockRail", name := "rail", desc := "()I" } : Jvm.MethodName) ({ cls := "LockRail", name := "rail", desc := "()I" } : Jvm.MethodName)) ∈ lw_all := lw_g (lw_at lw_m2 93 rfl) rfl
theorem q473 : (Jvm.Cond.codeWith ({ cls := "LockRail", name := "rail", desc := "()I" } : Jvm.MethodName) prog_1_method_9_code (4 : Nat) (Option.some Jvm.ClassFile.FieldType.int) [((0 : Nat), (41 : Nat), (48 : Nat), (95 : Nat)), ((0 : Nat), (41 : Nat), (75 : Nat), (0 : Nat)), ((48 : Nat), (68 : Nat), (75 : Nat), (0 : Nat))]) ∈ lw_all := lw_g (lw_at lw_m2 94 rfl) rfl
theorem q474 : (Jvm.Cond.classLink "LockRail" (95 : Nat) "LockRail$Fault") ∈ lw_all := lw_g (lw_at lw_m2 95 rfl) rfl
theorem q475 : (Jvm.Cond.classLink "LockRail" (78 : Nat) "LockRail$Reader") ∈ lw_all := lw_g (lw_at lw_m2 96 rfl) rfl
theorem q477 : (Jvm.Cond.methodLink "LockRail" (80 : Nat) ({ cls := "LockRail$Reader", name := "<init>", desc := "(LLockRail;)V" } : Jvm.MethodName)) ∈ lw_all := lw_g (lw_at lw_m2 98 rfl) rfl
theorem q528 : (Jvm.Cond.methodLink "LockRail" (81 : Nat) ({ cls := "LockRail$Reader", name := "read", desc := "()LLockRail$Rail;" } : Jvm.MethodName)) ∈ lw_all := lw_g (lw_at lw_m2 149 rfl) rfl
theorem q665 : (Jvm.Cond.fieldLinkNest "LockRail" (97 : Nat) "LockRail$Fault" "kind" "I" "LockRail") ∈ lw_tbl := lw_at lw_m3 46 rfl
theorem q667 : (Jvm.Cond.fieldLinkNest "LockRail" (100 : Nat) "LockRail$Fault" "place" "I" "LockRail") ∈ lw_tbl := lw_at lw_m3 48 rfl
theorem q765 : (Jvm.Cond.selects "LockRail" ({ cls := "java/lang/Object", name := "getClass", desc := "()Ljava/lang/Class;" } : Jvm.MethodName) ({ cls := "java/lang/Object", name := "getClass", desc := "()Ljava/lang/Class;" } : Jvm.MethodName)) ∈ lw_all := lw_g (lw_at lw_m3 146 rfl) rfl
theorem q856 : (Jvm.Cond.fieldLinkNest "LockRail" (139 : Nat) "LockRail$Bike" "worth" "I" "LockRail") ∈ lw_tbl := lw_at lw_m3 237 rfl
theorem q859 : (Jvm.Cond.fieldLinkNest "LockRail" (142 : Nat) "LockRail$Bike" "seems" "I" "LockRail") ∈ lw_tbl := lw_at lw_m4 0 rfl
theorem q862 : (Jvm.Cond.fieldLinkNest "LockRail" (145 : Nat) "LockRail$Bike" "place" "I" "LockRail") ∈ lw_tbl := lw_at lw_m4 3 rfl
theorem q866 : (Jvm.Cond.fieldLinkNest "LockRail" (146 : Nat) "LockRail$Bike" "lock" "I" "LockRail") ∈ lw_tbl := lw_at lw_m4 7 rfl
theorem q870 : (Jvm.Cond.fieldLinkNest "LockRail" (149 : Nat) "LockRail$Bike" "isMarked" "Z" "LockRail") ∈ lw_tbl := lw_at lw_m4 11 rfl
theorem q964 : (Jvm.Cond.instanceMethod ({ cls := "LockRail", name := "fault", desc := "(I)I" } : Jvm.MethodName)) ∈ lw_all := lw_g (lw_at lw_m4 105 rfl) rfl
theorem q965 : (Jvm.Cond.selects "LockRail" ({ cls := "LockRail", name := "fault", desc := "(I)I" } : Jvm.MethodName) ({ cls := "LockRail", name := "fault", desc := "(I)I" } : Jvm.MethodName)) ∈ lw_all := lw_g (lw_at lw_m4 106 rfl) rfl
theorem q966 : (Jvm.Cond.code ({ cls := "LockRail", name := "fault", desc := "(I)I" } : Jvm.MethodName) prog_1_method_10_code (2 : Nat) (Option.some Jvm.ClassFile.FieldType.int)) ∈ lw_all := lw_g (lw_at lw_m4 107 rfl) rfl
theorem q968 : (Jvm.Cond.instanceMethod ({ cls := "LockRail", name := "light", desc := "(I)I" } : Jvm.MethodName)) ∈ lw_all := lw_g (lw_at lw_m4 109 rfl) rfl
theorem q969 : (Jvm.Cond.selects "LockRail" ({ cls := "LockRail", name := "light", desc := "(I)I" } : Jvm.MethodName) ({ cls := "LockRail", name := "light", desc := "(I)I" } : Jvm.MethodName)) ∈ lw_all := lw_g (lw_at lw_m4 110 rfl) rfl
theorem q970 : (Jvm.Cond.code ({ cls := "LockRail", name := "light", desc := "(I)I" } : Jvm.MethodName) prog_1_method_16_code (2 : Nat) (Option.some Jvm.ClassFile.FieldType.int)) ∈ lw_all := lw_g (lw_at lw_m4 111 rfl) rfl
theorem q971 : (Jvm.Cond.methodLink "LockRail" (119 : Nat) ({ cls := "LockRail", name := "isPlace", desc := "(I)Z" } : Jvm.MethodName)) ∈ lw_all := lw_g (lw_at lw_m4 112 rfl) rfl
theorem q972 : (Jvm.Cond.privateMethod ({ cls := "LockRail", name := "isPlace", desc := "(I)Z" } : Jvm.MethodName)) ∈ lw_tbl := lw_at lw_m4 113 rfl
theorem q973 : (Jvm.Cond.instanceMethod ({ cls := "LockRail", name := "isPlace", desc := "(I)Z" } : Jvm.MethodName)) ∈ lw_all := lw_g (lw_at lw_m4 114 rfl) rfl
theorem q974 : (Jvm.Cond.code ({ cls := "LockRail", name := "isPlace", desc := "(I)Z" } : Jvm.MethodName) prog_1_method_12_code (2 : Nat) (Option.some Jvm.ClassFile.FieldType.boolean)) ∈ lw_all := lw_g (lw_at lw_m4 115 rfl) rfl
theorem q975 : (Jvm.Cond.methodLink "LockRail" (123 : Nat) ({ cls := "LockRail$Rail", name := "light", desc := "(I)I" } : Jvm.MethodName)) ∈ lw_all := lw_g (lw_at lw_m4 116 rfl) rfl
theorem q991 : (Jvm.Cond.instanceMethod ({ cls := "LockRail", name := "bike", desc := "(II)I" } : Jvm.MethodName)) ∈ lw_all := lw_g (lw_at lw_m4 132 rfl) rfl
theorem q992 : (Jvm.Cond.selects "LockRail" ({ cls := "LockRail", name := "bike", desc := "(II)I" } : Jvm.MethodName) ({ cls := "LockRail", name := "bike", desc := "(II)I" } : Jvm.MethodName)) ∈ lw_all := lw_g (lw_at lw_m4 133 rfl) rfl
theorem q993 : (Jvm.Cond.code ({ cls := "LockRail", name := "bike", desc := "(II)I" } : Jvm.MethodName) prog_1_method_17_code (4 : Nat) (Option.some Jvm.ClassFile.FieldType.int)) ∈ lw_all := lw_g (lw_at lw_m4 134 rfl) rfl
theorem q994 : (Jvm.Cond.methodLink "LockRail" (127 : Nat) ({ cls := "LockRail", name := "isBike", desc := "(I)Z" } : Jvm.MethodName)) ∈ lw_all := lw_g (lw_at lw_m4 135 rfl) rfl
theorem q995 : (Jvm.Cond.privateMethod ({ cls := "LockRail", name := "isBike", desc := "(I)Z" } : Jvm.MethodName)) ∈ lw_tbl := lw_at lw_m4 136 rfl
theorem q996 : (Jvm.Cond.instanceMethod ({ cls := "LockRail", name := "isBike", desc := "(I)Z" } : Jvm.MethodName)) ∈ lw_all := lw_g (lw_at lw_m4 137 rfl) rfl
theorem q997 : (Jvm.Cond.code ({ cls := "LockRail", name := "isBike", desc := "(I)Z" } : Jvm.MethodName) prog_1_method_13_code (2 : Nat) (Option.some Jvm.ClassFile.FieldType.boolean)) ∈ lw_all := lw_g (lw_at lw_m4 138 rfl) rfl
theorem q998 : (Jvm.Cond.methodLink "LockRail" (106 : Nat) ({ cls := "LockRail$Rail", name := "many", desc := "()I" } : Jvm.MethodName)) ∈ lw_all := lw_g (lw_at lw_m4 139 rfl) rfl
theorem q999 : (Jvm.Cond.methodLink "LockRail" (133 : Nat) ({ cls := "java/util/ArrayList", name := "get", desc := "(I)Ljava/lang/Object;" } : Jvm.MethodName)) ∈ lw_all := lw_g (lw_at lw_m4 140 rfl) rfl
theorem q1000 : (Jvm.Cond.classLink "LockRail" (137 : Nat) "LockRail$Bike") ∈ lw_all := lw_g (lw_at lw_m4 141 rfl) rfl
theorem q1002 : (Jvm.Cond.instanceMethod ({ cls := "LockRail", name := "trouble", desc := "(II)I" } : Jvm.MethodName)) ∈ lw_all := lw_g (lw_at lw_m4 143 rfl) rfl
theorem q1003 : (Jvm.Cond.selects "LockRail" ({ cls := "LockRail", name := "trouble", desc := "(II)I" } : Jvm.MethodName) ({ cls := "LockRail", name := "trouble", desc := "(II)I" } : Jvm.MethodName)) ∈ lw_all := lw_g (lw_at lw_m4 144 rfl) rfl
theorem q1004 : (Jvm.Cond.code ({ cls := "LockRail", name := "trouble", desc := "(II)I" } : Jvm.MethodName) prog_1_method_18_code (3 : Nat) (Option.some Jvm.ClassFile.FieldType.int)) ∈ lw_all := lw_g (lw_at lw_m4 145 rfl) rfl
theorem q1005 : (Jvm.Cond.methodLink "LockRail" (152 : Nat) ({ cls := "LockRail", name := "isThief", desc := "(I)Z" } : Jvm.MethodName)) ∈ lw_all := lw_g (lw_at lw_m4 146 rfl) rfl
theorem q1006 : (Jvm.Cond.privateMethod ({ cls := "LockRail", name := "isThief", desc := "(I)Z" } : Jvm.MethodName)) ∈ lw_tbl := lw_at lw_m4 147 rfl
theorem q1007 : (Jvm.Cond.instanceMethod ({ cls := "LockRail", name := "isThief", desc := "(I)Z" } : Jvm.MethodName)) ∈ lw_all := lw_g (lw_at lw_m4 148 rfl) rfl
theorem q1008 : (Jvm.Cond.code ({ cls := "LockRail", name := "isThief", desc := "(I)Z" } : Jvm.MethodName) prog_1_method_14_code (2 : Nat) (Option.some Jvm.ClassFile.FieldType.boolean)) ∈ lw_all := lw_g (lw_at lw_m4 149 rfl) rfl
theorem q1009 : (Jvm.Cond.methodLink "LockRail" (114 : Nat) ({ cls := "java/util/ArrayList", name := "size", desc := "()I" } : Jvm.MethodName)) ∈ lw_all := lw_g (lw_at lw_m4 150 rfl) rfl
theorem q1010 : (Jvm.Cond.classLink "LockRail" (155 : Nat) "LockRail$Thief") ∈ lw_all := lw_g (lw_at lw_m4 151 rfl) rfl
theorem q1011 : (Jvm.Cond.methodLink "LockRail" (157 : Nat) ({ cls := "LockRail$Rail", name := "trouble", desc := "(LLockRail$Thief;I)I" } : Jvm.MethodName)) ∈ lw_all := lw_g (lw_at lw_m4 152 rfl) rfl
theorem q1022 : (Jvm.Cond.instanceMethod ({ cls := "LockRail", name := "gain", desc := "(I)I" } : Jvm.MethodName)) ∈ lw_all := lw_g (lw_at lw_m4 163 rfl) rfl
theorem q1023 : (Jvm.Cond.selects "LockRail" ({ cls := "LockRail", name := "gain", desc := "(I)I" } : Jvm.MethodName) ({ cls := "LockRail", name := "gain", desc := "(I)I" } : Jvm.MethodName)) ∈ lw_all := lw_g (lw_at lw_m4 164 rfl) rfl
theorem q1024 : (Jvm.Cond.code ({ cls := "LockRail", name := "gain", desc := "(I)I" } : Jvm.MethodName) prog_1_method_19_code (2 : Nat) (Option.some Jvm.ClassFile.FieldType.int)) ∈ lw_all := lw_g (lw_at lw_m4 165 rfl) rfl
theorem q1025 : (Jvm.Cond.methodLink "LockRail" (161 : Nat) ({ cls := "LockRail$Rail", name := "gain", desc := "(I)I" } : Jvm.MethodName)) ∈ lw_all := lw_g (lw_at lw_m4 166 rfl) rfl
theorem q1035 : (Jvm.Cond.instanceMethod ({ cls := "LockRail", name := "takes", desc := "(II)I" } : Jvm.MethodName)) ∈ lw_all := lw_g (lw_at lw_m4 176 rfl) rfl
theorem q1036 : (Jvm.Cond.selects "LockRail" ({ cls := "LockRail", name := "takes", desc := "(II)I" } : Jvm.MethodName) ({ cls := "LockRail", name := "takes", desc := "(II)I" } : Jvm.MethodName)) ∈ lw_all := lw_g (lw_at lw_m4 177 rfl) rfl
theorem q1037 : (Jvm.Cond.code ({ cls := "LockRail", name := "takes", desc := "(II)I" } : Jvm.MethodName) prog_1_method_20_code (3 : Nat) (Option.some Jvm.ClassFile.FieldType.int)) ∈ lw_all := lw_g (lw_at lw_m4 178 rfl) rfl
theorem q1038 : (Jvm.Cond.methodLink "LockRail" (164 : Nat) ({ cls := "LockRail", name := "sets", desc := "()I" } : Jvm.MethodName)) ∈ lw_all := lw_g (lw_at lw_m4 179 rfl) rfl
theorem q1039 : (Jvm.Cond.privateMethod ({ cls := "LockRail", name := "sets", desc := "()I" } : Jvm.MethodName)) ∈ lw_tbl := lw_at lw_m4 180 rfl
theorem q1040 : (Jvm.Cond.instanceMethod ({ cls := "LockRail", name := "sets", desc := "()I" } : Jvm.MethodName)) ∈ lw_all := lw_g (lw_at lw_m4 181 rfl) rfl
theorem q1041 : (Jvm.Cond.code ({ cls := "LockRail", name := "sets", desc := "()I" } : Jvm.MethodName) prog_1_method_15_code (1 : Nat) (Option.some Jvm.ClassFile.FieldType.int)) ∈ lw_all := lw_g (lw_at lw_m4 182 rfl) rfl
theorem q1042 : (Jvm.Cond.methodLink "LockRail" (167 : Nat) ({ cls := "LockRail$Thief", name := "takes", desc := "(LLockRail$Rail;I)I" } : Jvm.MethodName)) ∈ lw_all := lw_g (lw_at lw_m4 183 rfl) rfl
theorem q1054 : (Jvm.Cond.static ({ cls := "LockRail", name := "holds", desc := "(II)Z" } : Jvm.MethodName)) ∈ lw_all := lw_g (lw_at lw_m4 195 rfl) rfl
theorem q1055 : (Jvm.Cond.code ({ cls := "LockRail", name := "holds", desc := "(II)Z" } : Jvm.MethodName) prog_1_method_2_code (2 : Nat) (Option.some Jvm.ClassFile.FieldType.boolean)) ∈ lw_all := lw_g (lw_at lw_m4 196 rfl) rfl
theorem q1078 : (Jvm.Cond.instanceMethod ({ cls := "LockRail", name := "wants", desc := "(I)I" } : Jvm.MethodName)) ∈ lw_all := lw_g (lw_at lw_m4 219 rfl) rfl
theorem q1079 : (Jvm.Cond.selects "LockRail" ({ cls := "LockRail", name := "wants", desc := "(I)I" } : Jvm.MethodName) ({ cls := "LockRail", name := "wants", desc := "(I)I" } : Jvm.MethodName)) ∈ lw_all := lw_g (lw_at lw_m4 220 rfl) rfl
theorem q1080 : (Jvm.Cond.code ({ cls := "LockRail", name := "wants", desc := "(I)I" } : Jvm.MethodName) prog_1_method_21_code (5 : Nat) (Option.some Jvm.ClassFile.FieldType.int)) ∈ lw_all := lw_g (lw_at lw_m4 221 rfl) rfl
theorem q1082 : (Jvm.Cond.instanceMethod ({ cls := "LockRail", name := "part", desc := "(I)J" } : Jvm.MethodName)) ∈ lw_all := lw_g (lw_at lw_m4 223 rfl) rfl
theorem q1083 : (Jvm.Cond.selects "LockRail" ({ cls := "LockRail", name := "part", desc := "(I)J" } : Jvm.MethodName) ({ cls := "LockRail", name := "part", desc := "(I)J" } : Jvm.MethodName)) ∈ lw_all := lw_g (lw_at lw_m4 224 rfl) rfl
theorem q1084 : (Jvm.Cond.code ({ cls := "LockRail", name := "part", desc := "(I)J" } : Jvm.MethodName) prog_1_method_22_code (2 : Nat) (Option.some Jvm.ClassFile.FieldType.long)) ∈ lw_all := lw_g (lw_at lw_m4 225 rfl) rfl
theorem q1085 : (Jvm.Cond.methodLink "LockRail" (171 : Nat) ({ cls := "LockRail", name := "isRail", desc := "()Z" } : Jvm.MethodName)) ∈ lw_all := lw_g (lw_at lw_m4 226 rfl) rfl
theorem q1086 : (Jvm.Cond.privateMethod ({ cls := "LockRail", name := "isRail", desc := "()Z" } : Jvm.MethodName)) ∈ lw_tbl := lw_at lw_m4 227 rfl
theorem q1087 : (Jvm.Cond.instanceMethod ({ cls := "LockRail", name := "isRail", desc := "()Z" } : Jvm.MethodName)) ∈ lw_all := lw_g (lw_at lw_m4 228 rfl) rfl
theorem q1088 : (Jvm.Cond.code ({ cls := "LockRail", name := "isRail", desc := "()Z" } : Jvm.MethodName) prog_1_method_11_code (1 : Nat) (Option.some Jvm.ClassFile.FieldType.boolean)) ∈ lw_all := lw_g (lw_at lw_m4 229 rfl) rfl
theorem q1089 : (Jvm.Cond.methodLink "LockRail" (175 : Nat) ({ cls := "LockRail$Night", name := "lay", desc := "()LLockRail$Night;" } : Jvm.MethodName)) ∈ lw_all := lw_g (lw_at lw_m4 230 rfl) rfl
theorem q1110 : (Jvm.Cond.static ({ cls := "LockRail", name := "hundredth", desc := "(JI)J" } : Jvm.MethodName)) ∈ lw_all := lw_g (lw_at lw_m5 11 rfl) rfl
theorem q1111 : (Jvm.Cond.code ({ cls := "LockRail", name := "hundredth", desc := "(JI)J" } : Jvm.MethodName) prog_1_method_4_code (3 : Nat) (Option.some Jvm.ClassFile.FieldType.long)) ∈ lw_all := lw_g (lw_at lw_m5 12 rfl) rfl
theorem q1112 : (Jvm.Cond.constantLong "LockRail" (3 : Nat) (100 : Int64)) ∈ lw_all := lw_g (lw_at lw_m5 13 rfl) rfl
theorem q1118 : (Jvm.Cond.constantLong "LockRail" (182 : Nat) (-2 : Int64)) ∈ lw_all := lw_g (lw_at lw_m5 19 rfl) rfl
theorem q1120 : (Jvm.Cond.instanceMethod ({ cls := "LockRail", name := "many", desc := "(I)J" } : Jvm.MethodName)) ∈ lw_all := lw_g (lw_at lw_m5 21 rfl) rfl
theorem q1121 : (Jvm.Cond.selects "LockRail" ({ cls := "LockRail", name := "many", desc := "(I)J" } : Jvm.MethodName) ({ cls := "LockRail", name := "many", desc := "(I)J" } : Jvm.MethodName)) ∈ lw_all := lw_g (lw_at lw_m5 22 rfl) rfl
theorem q1122 : (Jvm.Cond.code ({ cls := "LockRail", name := "many", desc := "(I)J" } : Jvm.MethodName) prog_1_method_23_code (5 : Nat) (Option.some Jvm.ClassFile.FieldType.long)) ∈ lw_all := lw_g (lw_at lw_m5 23 rfl) rfl
theorem q1123 : (Jvm.Cond.methodLink "LockRail" (184 : Nat) ({ cls := "java/lang/Integer", name := "bitCount", desc := "(I)I" } : Jvm.MethodName)) ∈ lw_all := lw_g (lw_at lw_m5 24 rfl) rfl
theorem q1130 : (Jvm.Cond.instanceMethod ({ cls := "LockRail", name := "risk", desc := "(I)J" } : Jvm.MethodName)) ∈ lw_all := lw_g (lw_at lw_m5 31 rfl) rfl
theorem q1131 : (Jvm.Cond.selects "LockRail" ({ cls := "LockRail", name := "risk", desc := "(I)J" } : Jvm.MethodName) ({ cls := "LockRail", name := "risk", desc := "(I)J" } : Jvm.MethodName)) ∈ lw_all := lw_g (lw_at lw_m5 32 rfl) rfl
theorem q1132 : (Jvm.Cond.code ({ cls := "LockRail", name := "risk", desc := "(I)J" } : Jvm.MethodName) prog_1_method_24_code (2 : Nat) (Option.some Jvm.ClassFile.FieldType.long)) ∈ lw_all := lw_g (lw_at lw_m5 33 rfl) rfl
theorem q1133 : (Jvm.Cond.methodLink "LockRail" (189 : Nat) ({ cls := "LockRail$Night", name := "risk", desc := "(I)J" } : Jvm.MethodName)) ∈ lw_all := lw_g (lw_at lw_m5 34 rfl) rfl
theorem q1139 : (Jvm.Cond.instanceMethod ({ cls := "LockRail", name := "has", desc := "(II)J" } : Jvm.MethodName)) ∈ lw_all := lw_g (lw_at lw_m5 40 rfl) rfl
theorem q1140 : (Jvm.Cond.selects "LockRail" ({ cls := "LockRail", name := "has", desc := "(II)J" } : Jvm.MethodName) ({ cls := "LockRail", name := "has", desc := "(II)J" } : Jvm.MethodName)) ∈ lw_all := lw_g (lw_at lw_m5 41 rfl) rfl
theorem q1141 : (Jvm.Cond.code ({ cls := "LockRail", name := "has", desc := "(II)J" } : Jvm.MethodName) prog_1_method_25_code (3 : Nat) (Option.some Jvm.ClassFile.FieldType.long)) ∈ lw_all := lw_g (lw_at lw_m5 42 rfl) rfl
theorem q1142 : (Jvm.Cond.methodLink "LockRail" (193 : Nat) ({ cls := "LockRail$Night", name := "lay", desc := "(I)LLockRail$Night;" } : Jvm.MethodName)) ∈ lw_all := lw_g (lw_at lw_m5 43 rfl) rfl
theorem q1144 : (Jvm.Cond.instanceMethod ({ cls := "LockRail", name := "cost", desc := "(II)J" } : Jvm.MethodName)) ∈ lw_all := lw_g (lw_at lw_m5 45 rfl) rfl
theorem q1145 : (Jvm.Cond.selects "LockRail" ({ cls := "LockRail", name := "cost", desc := "(II)J" } : Jvm.MethodName) ({ cls := "LockRail", name := "cost", desc := "(II)J" } : Jvm.MethodName)) ∈ lw_all := lw_g (lw_at lw_m5 46 rfl) rfl
theorem q1146 : (Jvm.Cond.code ({ cls := "LockRail", name := "cost", desc := "(II)J" } : Jvm.MethodName) prog_1_method_29_code (3 : Nat) (Option.some Jvm.ClassFile.FieldType.long)) ∈ lw_all := lw_g (lw_at lw_m5 47 rfl) rfl
theorem q1147 : (Jvm.Cond.constantLong "LockRail" (215 : Nat) (2 : Int64)) ∈ lw_all := lw_g (lw_at lw_m5 48 rfl) rfl
theorem q1148 : (Jvm.Cond.methodLink "LockRail" (206 : Nat) ({ cls := "LockRail$Rail", name := "paid", desc := "(I)J" } : Jvm.MethodName)) ∈ lw_all := lw_g (lw_at lw_m5 49 rfl) rfl
theorem q1153 : (Jvm.Cond.methodLink "LockRail" (209 : Nat) ({ cls := "LockRail$Night", name := "loss", desc := "(I)J" } : Jvm.MethodName)) ∈ lw_all := lw_g (lw_at lw_m5 54 rfl) rfl
theorem q1160 : (Jvm.Cond.methodLink "LockRail" (217 : Nat) ({ cls := "LockRail", name := "costOf", desc := "(I)J" } : Jvm.MethodName)) ∈ lw_all := lw_g (lw_at lw_m5 61 rfl) rfl
theorem q1161 : (Jvm.Cond.privateMethod ({ cls := "LockRail", name := "costOf", desc := "(I)J" } : Jvm.MethodName)) ∈ lw_tbl := lw_at lw_m5 62 rfl
theorem q1162 : (Jvm.Cond.instanceMethod ({ cls := "LockRail", name := "costOf", desc := "(I)J" } : Jvm.MethodName)) ∈ lw_all := lw_g (lw_at lw_m5 63 rfl) rfl
theorem q1163 : (Jvm.Cond.code ({ cls := "LockRail", name := "costOf", desc := "(I)J" } : Jvm.MethodName) prog_1_method_27_code (2 : Nat) (Option.some Jvm.ClassFile.FieldType.long)) ∈ lw_all := lw_g (lw_at lw_m5 64 rfl) rfl
theorem q1164 : (Jvm.Cond.methodLink "LockRail" (212 : Nat) ({ cls := "LockRail", name := "wageOf", desc := "()J" } : Jvm.MethodName)) ∈ lw_all := lw_g (lw_at lw_m5 65 rfl) rfl
theorem q1165 : (Jvm.Cond.privateMethod ({ cls := "LockRail", name := "wageOf", desc := "()J" } : Jvm.MethodName)) ∈ lw_tbl := lw_at lw_m5 66 rfl
theorem q1166 : (Jvm.Cond.instanceMethod ({ cls := "LockRail", name := "wageOf", desc := "()J" } : Jvm.MethodName)) ∈ lw_all := lw_g (lw_at lw_m5 67 rfl) rfl
theorem q1167 : (Jvm.Cond.code ({ cls := "LockRail", name := "wageOf", desc := "()J" } : Jvm.MethodName) prog_1_method_26_code (1 : Nat) (Option.some Jvm.ClassFile.FieldType.long)) ∈ lw_all := lw_g (lw_at lw_m5 68 rfl) rfl
theorem q1168 : (Jvm.Cond.methodLink "LockRail" (202 : Nat) ({ cls := "LockRail$Rail", name := "wages", desc := "()J" } : Jvm.MethodName)) ∈ lw_all := lw_g (lw_at lw_m5 69 rfl) rfl
theorem q1173 : (Jvm.Cond.instanceMethod ({ cls := "LockRail", name := "all", desc := "(I)J" } : Jvm.MethodName)) ∈ lw_all := lw_g (lw_at lw_m5 74 rfl) rfl
theorem q1174 : (Jvm.Cond.selects "LockRail" ({ cls := "LockRail", name := "all", desc := "(I)J" } : Jvm.MethodName) ({ cls := "LockRail", name := "all", desc := "(I)J" } : Jvm.MethodName)) ∈ lw_all := lw_g (lw_at lw_m5 75 rfl) rfl
theorem q1175 : (Jvm.Cond.code ({ cls := "LockRail", name := "all", desc := "(I)J" } : Jvm.MethodName) prog_1_method_30_code (2 : Nat) (Option.some Jvm.ClassFile.FieldType.long)) ∈ lw_all := lw_g (lw_at lw_m5 76 rfl) rfl
theorem q1176 : (Jvm.Cond.methodLink "LockRail" (220 : Nat) ({ cls := "LockRail", name := "costs", desc := "(I)J" } : Jvm.MethodName)) ∈ lw_all := lw_g (lw_at lw_m5 77 rfl) rfl
theorem q1177 : (Jvm.Cond.privateMethod ({ cls := "LockRail", name := "costs", desc := "(I)J" } : Jvm.MethodName)) ∈ lw_tbl := lw_at lw_m5 78 rfl
theorem q1178 : (Jvm.Cond.instanceMethod ({ cls := "LockRail", name := "costs", desc := "(I)J" } : Jvm.MethodName)) ∈ lw_all := lw_g (lw_at lw_m5 79 rfl) rfl
theorem q1179 : (Jvm.Cond.code ({ cls := "LockRail", name := "costs", desc := "(I)J" } : Jvm.MethodName) prog_1_method_28_code (5 : Nat) (Option.some Jvm.ClassFile.FieldType.long)) ∈ lw_all := lw_g (lw_at lw_m5 80 rfl) rfl
theorem q1181 : (Jvm.Cond.instanceMethod ({ cls := "LockRail", name := "option", desc := "(II)I" } : Jvm.MethodName)) ∈ lw_all := lw_g (lw_at lw_m5 82 rfl) rfl
theorem q1182 : (Jvm.Cond.selects "LockRail" ({ cls := "LockRail", name := "option", desc := "(II)I" } : Jvm.MethodName) ({ cls := "LockRail", name := "option", desc := "(II)I" } : Jvm.MethodName)) ∈ lw_all := lw_g (lw_at lw_m5 83 rfl) rfl
theorem q1183 : (Jvm.Cond.code ({ cls := "LockRail", name := "option", desc := "(II)I" } : Jvm.MethodName) prog_1_method_32_code (4 : Nat) (Option.some Jvm.ClassFile.FieldType.int)) ∈ lw_all := lw_g (lw_at lw_m5 84 rfl) rfl
theorem q1184 : (Jvm.Cond.methodLink "LockRail" (226 : Nat) ({ cls := "LockRail", name := "isOption", desc := "(I)Z" } : Jvm.MethodName)) ∈ lw_all := lw_g (lw_at lw_m5 85 rfl) rfl
theorem q1185 : (Jvm.Cond.privateMethod ({ cls := "LockRail", name := "isOption", desc := "(I)Z" } : Jvm.MethodName)) ∈ lw_tbl := lw_at lw_m5 86 rfl
theorem q1186 : (Jvm.Cond.instanceMethod ({ cls := "LockRail", name := "isOption", desc := "(I)Z" } : Jvm.MethodName)) ∈ lw_all := lw_g (lw_at lw_m5 87 rfl) rfl
theorem q1187 : (Jvm.Cond.code ({ cls := "LockRail", name := "isOption", desc := "(I)Z" } : Jvm.MethodName) prog_1_method_31_code (2 : Nat) (Option.some Jvm.ClassFile.FieldType.boolean)) ∈ lw_all := lw_g (lw_at lw_m5 88 rfl) rfl
theorem q1188 : (Jvm.Cond.methodLink "LockRail" (223 : Nat) ({ cls := "LockRail$Rail", name := "options", desc := "()I" } : Jvm.MethodName)) ∈ lw_all := lw_g (lw_at lw_m5 89 rfl) rfl
theorem q1192 : (Jvm.Cond.methodLink "LockRail" (229 : Nat) ({ cls := "LockRail$Bike", name := "option", desc := "()I" } : Jvm.MethodName)) ∈ lw_all := lw_g (lw_at lw_m5 93 rfl) rfl
theorem q1196 : (Jvm.Cond.methodLink "LockRail" (232 : Nat) ({ cls := "LockRail$Bike", name := "options", desc := "(I)V" } : Jvm.MethodName)) ∈ lw_all := lw_g (lw_at lw_m5 97 rfl) rfl
theorem q1201 : (Jvm.Cond.instanceMethod ({ cls := "LockRail", name := "would", desc := "(II)J" } : Jvm.MethodName)) ∈ lw_all := lw_g (lw_at lw_m5 102 rfl) rfl
theorem q1202 : (Jvm.Cond.selects "LockRail" ({ cls := "LockRail", name := "would", desc := "(II)J" } : Jvm.MethodName) ({ cls := "LockRail", name := "would", desc := "(II)J" } : Jvm.MethodName)) ∈ lw_all := lw_g (lw_at lw_m5 103 rfl) rfl
theorem q1203 : (Jvm.Cond.code ({ cls := "LockRail", name := "would", desc := "(II)J" } : Jvm.MethodName) prog_1_method_34_code (3 : Nat) (Option.some Jvm.ClassFile.FieldType.long)) ∈ lw_all := lw_g (lw_at lw_m5 104 rfl) rfl
theorem q1204 : (Jvm.Cond.methodLink "LockRail" (234 : Nat) ({ cls := "LockRail", name := "wouldOf", desc := "(II)J" } : Jvm.MethodName)) ∈ lw_all := lw_g (lw_at lw_m5 105 rfl) rfl
theorem q1205 : (Jvm.Cond.privateMethod ({ cls := "LockRail", name := "wouldOf", desc := "(II)J" } : Jvm.MethodName)) ∈ lw_tbl := lw_at lw_m5 106 rfl
theorem q1206 : (Jvm.Cond.instanceMethod ({ cls := "LockRail", name := "wouldOf", desc := "(II)J" } : Jvm.MethodName)) ∈ lw_all := lw_g (lw_at lw_m5 107 rfl) rfl
theorem q1207 : (Jvm.Cond.code ({ cls := "LockRail", name := "wouldOf", desc := "(II)J" } : Jvm.MethodName) prog_1_method_33_code (7 : Nat) (Option.some Jvm.ClassFile.FieldType.long)) ∈ lw_all := lw_g (lw_at lw_m5 108 rfl) rfl
theorem q1209 : (Jvm.Cond.instanceMethod ({ cls := "LockRail", name := "best", desc := "(I)I" } : Jvm.MethodName)) ∈ lw_all := lw_g (lw_at lw_m5 110 rfl) rfl
theorem q1210 : (Jvm.Cond.selects "LockRail" ({ cls := "LockRail", name := "best", desc := "(I)I" } : Jvm.MethodName) ({ cls := "LockRail", name := "best", desc := "(I)I" } : Jvm.MethodName)) ∈ lw_all := lw_g (lw_at lw_m5 111 rfl) rfl
theorem q1211 : (Jvm.Cond.code ({ cls := "LockRail", name := "best", desc := "(I)I" } : Jvm.MethodName) prog_1_method_36_code (2 : Nat) (Option.some Jvm.ClassFile.FieldType.int)) ∈ lw_all := lw_g (lw_at lw_m5 112 rfl) rfl
theorem q1212 : (Jvm.Cond.methodLink "LockRail" (238 : Nat) ({ cls := "LockRail", name := "bestOf", desc := "(I)I" } : Jvm.MethodName)) ∈ lw_all := lw_g (lw_at lw_m5 113 rfl) rfl
theorem q1213 : (Jvm.Cond.privateMethod ({ cls := "LockRail", name := "bestOf", desc := "(I)I" } : Jvm.MethodName)) ∈ lw_tbl := lw_at lw_m5 114 rfl
theorem q1214 : (Jvm.Cond.instanceMethod ({ cls := "LockRail", name := "bestOf", desc := "(I)I" } : Jvm.MethodName)) ∈ lw_all := lw_g (lw_at lw_m5 115 rfl) rfl
theorem q1215 : (Jvm.Cond.code ({ cls := "LockRail", name := "bestOf", desc := "(I)I" } : Jvm.MethodName) prog_1_method_35_code (8 : Nat) (Option.some Jvm.ClassFile.FieldType.int)) ∈ lw_all := lw_g (lw_at lw_m5 116 rfl) rfl
theorem q1217 : (Jvm.Cond.instanceMethod ({ cls := "LockRail", name := "restless", desc := "()I" } : Jvm.MethodName)) ∈ lw_all := lw_g (lw_at lw_m5 118 rfl) rfl
theorem q1218 : (Jvm.Cond.selects "LockRail" ({ cls := "LockRail", name := "restless", desc := "()I" } : Jvm.MethodName) ({ cls := "LockRail", name := "restless", desc := "()I" } : Jvm.MethodName)) ∈ lw_all := lw_g (lw_at lw_m5 119 rfl) rfl
theorem q1219 : (Jvm.Cond.code ({ cls := "LockRail", name := "restless", desc := "()I" } : Jvm.MethodName) prog_1_method_38_code (3 : Nat) (Option.some Jvm.ClassFile.FieldType.int)) ∈ lw_all := lw_g (lw_at lw_m5 120 rfl) rfl
theorem q1220 : (Jvm.Cond.methodLink "LockRail" (241 : Nat) ({ cls := "LockRail", name := "change", desc := "(I)I" } : Jvm.MethodName)) ∈ lw_all := lw_g (lw_at lw_m5 121 rfl) rfl
theorem q1221 : (Jvm.Cond.privateMethod ({ cls := "LockRail", name := "change", desc := "(I)I" } : Jvm.MethodName)) ∈ lw_tbl := lw_at lw_m5 122 rfl
theorem q1222 : (Jvm.Cond.instanceMethod ({ cls := "LockRail", name := "change", desc := "(I)I" } : Jvm.MethodName)) ∈ lw_all := lw_g (lw_at lw_m5 123 rfl) rfl
theorem q1223 : (Jvm.Cond.code ({ cls := "LockRail", name := "change", desc := "(I)I" } : Jvm.MethodName) prog_1_method_37_code (3 : Nat) (Option.some Jvm.ClassFile.FieldType.int)) ∈ lw_all := lw_g (lw_at lw_m5 124 rfl) rfl
theorem q1225 : (Jvm.Cond.instanceMethod ({ cls := "LockRail", name := "settle", desc := "(I)I" } : Jvm.MethodName)) ∈ lw_all := lw_g (lw_at lw_m5 126 rfl) rfl
theorem q1226 : (Jvm.Cond.selects "LockRail" ({ cls := "LockRail", name := "settle", desc := "(I)I" } : Jvm.MethodName) ({ cls := "LockRail", name := "settle", desc := "(I)I" } : Jvm.MethodName)) ∈ lw_all := lw_g (lw_at lw_m5 127 rfl) rfl
theorem q1227 : (Jvm.Cond.code ({ cls := "LockRail", name := "settle", desc := "(I)I" } : Jvm.MethodName) prog_1_method_41_code (2 : Nat) (Option.some Jvm.ClassFile.FieldType.int)) ∈ lw_all := lw_g (lw_at lw_m5 128 rfl) rfl
theorem q1228 : (Jvm.Cond.constantLong "LockRail" (250 : Nat) (30 : Int64)) ∈ lw_all := lw_g (lw_at lw_m5 129 rfl) rfl
theorem q1229 : (Jvm.Cond.methodLink "LockRail" (252 : Nat) ({ cls := "LockRail", name := "settleBy", desc := "(I)I" } : Jvm.MethodName)) ∈ lw_all := lw_g (lw_at lw_m5 130 rfl) rfl
theorem q1230 : (Jvm.Cond.privateMethod ({ cls := "LockRail", name := "settleBy", desc := "(I)I" } : Jvm.MethodName)) ∈ lw_tbl := lw_at lw_m5 131 rfl
theorem q1231 : (Jvm.Cond.instanceMethod ({ cls := "LockRail", name := "settleBy", desc := "(I)I" } : Jvm.MethodName)) ∈ lw_all := lw_g (lw_at lw_m5 132 rfl) rfl
theorem q1232 : (Jvm.Cond.code ({ cls := "LockRail", name := "settleBy", desc := "(I)I" } : Jvm.MethodName) prog_1_method_40_code (3 : Nat) (Option.some Jvm.ClassFile.FieldType.int)) ∈ lw_all := lw_g (lw_at lw_m5 133 rfl) rfl
theorem q1233 : (Jvm.Cond.methodLink "LockRail" (247 : Nat) ({ cls := "LockRail", name := "round", desc := "()Z" } : Jvm.MethodName)) ∈ lw_all := lw_g (lw_at lw_m5 134 rfl) rfl
theorem q1234 : (Jvm.Cond.privateMethod ({ cls := "LockRail", name := "round", desc := "()Z" } : Jvm.MethodName)) ∈ lw_tbl := lw_at lw_m5 135 rfl
theorem q1235 : (Jvm.Cond.instanceMethod ({ cls := "LockRail", name := "round", desc := "()Z" } : Jvm.MethodName)) ∈ lw_all := lw_g (lw_at lw_m5 136 rfl) rfl
theorem q1236 : (Jvm.Cond.code ({ cls := "LockRail", name := "round", desc := "()Z" } : Jvm.MethodName) prog_1_method_39_code (4 : Nat) (Option.some Jvm.ClassFile.FieldType.boolean)) ∈ lw_all := lw_g (lw_at lw_m5 137 rfl) rfl
theorem q1238 : (Jvm.Cond.instanceMethod ({ cls := "LockRail", name := "settles", desc := "()I" } : Jvm.MethodName)) ∈ lw_all := lw_g (lw_at lw_m5 139 rfl) rfl
theorem q1239 : (Jvm.Cond.selects "LockRail" ({ cls := "LockRail", name := "settles", desc := "()I" } : Jvm.MethodName) ({ cls := "LockRail", name := "settles", desc := "()I" } : Jvm.MethodName)) ∈ lw_all := lw_g (lw_at lw_m5 140 rfl) rfl
theorem q1240 : (Jvm.Cond.code ({ cls := "LockRail", name := "settles", desc := "()I" } : Jvm.MethodName) prog_1_method_44_code (2 : Nat) (Option.some Jvm.ClassFile.FieldType.int)) ∈ lw_all := lw_g (lw_at lw_m5 141 rfl) rfl
theorem q1241 : (Jvm.Cond.methodLink "LockRail" (255 : Nat) ({ cls := "LockRail", name := "keepsOptions", desc := "()V" } : Jvm.MethodName)) ∈ lw_all := lw_g (lw_at lw_m5 142 rfl) rfl
theorem q1242 : (Jvm.Cond.privateMethod ({ cls := "LockRail", name := "keepsOptions", desc := "()V" } : Jvm.MethodName)) ∈ lw_tbl := lw_at lw_m5 143 rfl
theorem q1243 : (Jvm.Cond.instanceMethod ({ cls := "LockRail", name := "keepsOptions", desc := "()V" } : Jvm.MethodName)) ∈ lw_all := lw_g (lw_at lw_m5 144 rfl) rfl
theorem q1244 : (Jvm.Cond.code ({ cls := "LockRail", name := "keepsOptions", desc := "()V" } : Jvm.MethodName) prog_1_method_42_code (2 : Nat) (Option.none : Option Jvm.ClassFile.FieldType)) ∈ lw_all := lw_g (lw_at lw_m5 145 rfl) rfl
theorem q1245 : (Jvm.Cond.methodLink "LockRail" (258 : Nat) ({ cls := "LockRail", name := "givesBack", desc := "()V" } : Jvm.MethodName)) ∈ lw_all := lw_g (lw_at lw_m5 146 rfl) rfl
theorem q1246 : (Jvm.Cond.privateMethod ({ cls := "LockRail", name := "givesBack", desc := "()V" } : Jvm.MethodName)) ∈ lw_tbl := lw_at lw_m5 147 rfl
theorem q1247 : (Jvm.Cond.instanceMethod ({ cls := "LockRail", name := "givesBack", desc := "()V" } : Jvm.MethodName)) ∈ lw_all := lw_g (lw_at lw_m5 148 rfl) rfl
theorem q1248 : (Jvm.Cond.code ({ cls := "LockRail", name := "givesBack", desc := "()V" } : Jvm.MethodName) prog_1_method_43_code (2 : Nat) (Option.none : Option Jvm.ClassFile.FieldType)) ∈ lw_all := lw_g (lw_at lw_m5 149 rfl) rfl
theorem q1250 : (Jvm.Cond.instanceMethod ({ cls := "LockRail", name := "settled", desc := "()J" } : Jvm.MethodName)) ∈ lw_all := lw_g (lw_at lw_m5 151 rfl) rfl
theorem q1251 : (Jvm.Cond.selects "LockRail" ({ cls := "LockRail", name := "settled", desc := "()J" } : Jvm.MethodName) ({ cls := "LockRail", name := "settled", desc := "()J" } : Jvm.MethodName)) ∈ lw_all := lw_g (lw_at lw_m5 152 rfl) rfl
theorem q1252 : (Jvm.Cond.code ({ cls := "LockRail", name := "settled", desc := "()J" } : Jvm.MethodName) prog_1_method_45_code (4 : Nat) (Option.some Jvm.ClassFile.FieldType.long)) ∈ lw_all := lw_g (lw_at lw_m5 153 rfl) rfl
theorem q1253 : (Jvm.Cond.constantLong "LockRail" (261 : Nat) (-1 : Int64)) ∈ lw_all := lw_g (lw_at lw_m5 154 rfl) rfl
theorem q1255 : (Jvm.Cond.instanceMethod ({ cls := "LockRail", name := "better", desc := "(I)I" } : Jvm.MethodName)) ∈ lw_all := lw_g (lw_at lw_m5 156 rfl) rfl
theorem q1256 : (Jvm.Cond.selects "LockRail" ({ cls := "LockRail", name := "better", desc := "(I)I" } : Jvm.MethodName) ({ cls := "LockRail", name := "better", desc := "(I)I" } : Jvm.MethodName)) ∈ lw_all := lw_g (lw_at lw_m5 157 rfl) rfl
theorem q1257 : (Jvm.Cond.code ({ cls := "LockRail", name := "better", desc := "(I)I" } : Jvm.MethodName) prog_1_method_48_code (2 : Nat) (Option.some Jvm.ClassFile.FieldType.int)) ∈ lw_all := lw_g (lw_at lw_m5 158 rfl) rfl
theorem q1258 : (Jvm.Cond.constantLong "LockRail" (266 : Nat) (60 : Int64)) ∈ lw_all := lw_g (lw_at lw_m5 159 rfl) rfl
theorem q1259 : (Jvm.Cond.methodLink "LockRail" (268 : Nat) ({ cls := "LockRail", name := "betterBy", desc := "(I)I" } : Jvm.MethodName)) ∈ lw_all := lw_g (lw_at lw_m5 160 rfl) rfl
theorem q1260 : (Jvm.Cond.privateMethod ({ cls := "LockRail", name := "betterBy", desc := "(I)I" } : Jvm.MethodName)) ∈ lw_tbl := lw_at lw_m5 161 rfl
theorem q1261 : (Jvm.Cond.instanceMethod ({ cls := "LockRail", name := "betterBy", desc := "(I)I" } : Jvm.MethodName)) ∈ lw_all := lw_g (lw_at lw_m5 162 rfl) rfl
theorem q1262 : (Jvm.Cond.code ({ cls := "LockRail", name := "betterBy", desc := "(I)I" } : Jvm.MethodName) prog_1_method_47_code (3 : Nat) (Option.some Jvm.ClassFile.FieldType.int)) ∈ lw_all := lw_g (lw_at lw_m5 163 rfl) rfl
theorem q1263 : (Jvm.Cond.methodLink "LockRail" (263 : Nat) ({ cls := "LockRail", name := "betters", desc := "()Z" } : Jvm.MethodName)) ∈ lw_all := lw_g (lw_at lw_m5 164 rfl) rfl
theorem q1264 : (Jvm.Cond.privateMethod ({ cls := "LockRail", name := "betters", desc := "()Z" } : Jvm.MethodName)) ∈ lw_tbl := lw_at lw_m5 165 rfl
theorem q1265 : (Jvm.Cond.instanceMethod ({ cls := "LockRail", name := "betters", desc := "()Z" } : Jvm.MethodName)) ∈ lw_all := lw_g (lw_at lw_m5 166 rfl) rfl
theorem q1266 : (Jvm.Cond.code ({ cls := "LockRail", name := "betters", desc := "()Z" } : Jvm.MethodName) prog_1_method_46_code (11 : Nat) (Option.some Jvm.ClassFile.FieldType.boolean)) ∈ lw_all := lw_g (lw_at lw_m5 167 rfl) rfl
theorem q1268 : (Jvm.Cond.instanceMethod ({ cls := "LockRail", name := "good", desc := "()J" } : Jvm.MethodName)) ∈ lw_all := lw_g (lw_at lw_m5 169 rfl) rfl
theorem q1269 : (Jvm.Cond.selects "LockRail" ({ cls := "LockRail", name := "good", desc := "()J" } : Jvm.MethodName) ({ cls := "LockRail", name := "good", desc := "()J" } : Jvm.MethodName)) ∈ lw_all := lw_g (lw_at lw_m5 170 rfl) rfl
theorem q1270 : (Jvm.Cond.code ({ cls := "LockRail", name := "good", desc := "()J" } : Jvm.MethodName) prog_1_method_49_code (4 : Nat) (Option.some Jvm.ClassFile.FieldType.long)) ∈ lw_all := lw_g (lw_at lw_m5 171 rfl) rfl
theorem q1272 : (Jvm.Cond.instanceMethod ({ cls := "LockRail", name := "pair", desc := "(II)I" } : Jvm.MethodName)) ∈ lw_all := lw_g (lw_at lw_m5 173 rfl) rfl
theorem q1273 : (Jvm.Cond.selects "LockRail" ({ cls := "LockRail", name := "pair", desc := "(II)I" } : Jvm.MethodName) ({ cls := "LockRail", name := "pair", desc := "(II)I" } : Jvm.MethodName)) ∈ lw_all := lw_g (lw_at lw_m5 174 rfl) rfl
theorem q1274 : (Jvm.Cond.code ({ cls := "LockRail", name := "pair", desc := "(II)I" } : Jvm.MethodName) prog_1_method_51_code (10 : Nat) (Option.some Jvm.ClassFile.FieldType.int)) ∈ lw_all := lw_g (lw_at lw_m5 175 rfl) rfl
theorem q1275 : (Jvm.Cond.methodLink "LockRail" (271 : Nat) ({ cls := "LockRail", name := "areTwo", desc := "(II)Z" } : Jvm.MethodName)) ∈ lw_all := lw_g (lw_at lw_m5 176 rfl) rfl
theorem q1276 : (Jvm.Cond.privateMethod ({ cls := "LockRail", name := "areTwo", desc := "(II)Z" } : Jvm.MethodName)) ∈ lw_tbl := lw_at lw_m5 177 rfl
theorem q1277 : (Jvm.Cond.instanceMethod ({ cls := "LockRail", name := "areTwo", desc := "(II)Z" } : Jvm.MethodName)) ∈ lw_all := lw_g (lw_at lw_m5 178 rfl) rfl
theorem q1278 : (Jvm.Cond.code ({ cls := "LockRail", name := "areTwo", desc := "(II)Z" } : Jvm.MethodName) prog_1_method_50_code (3 : Nat) (Option.some Jvm.ClassFile.FieldType.boolean)) ∈ lw_all := lw_g (lw_at lw_m5 179 rfl) rfl
theorem q1280 : (Jvm.Cond.instanceMethod ({ cls := "LockRail", name := "wasted", desc := "()J" } : Jvm.MethodName)) ∈ lw_all := lw_g (lw_at lw_m5 181 rfl) rfl
theorem q1281 : (Jvm.Cond.selects "LockRail" ({ cls := "LockRail", name := "wasted", desc := "()J" } : Jvm.MethodName) ({ cls := "LockRail", name := "wasted", desc := "()J" } : Jvm.MethodName)) ∈ lw_all := lw_g (lw_at lw_m5 182 rfl) rfl
theorem q1282 : (Jvm.Cond.code ({ cls := "LockRail", name := "wasted", desc := "()J" } : Jvm.MethodName) prog_1_method_52_code (5 : Nat) (Option.some Jvm.ClassFile.FieldType.long)) ∈ lw_all := lw_g (lw_at lw_m5 183 rfl) rfl
theorem q1283 : (Jvm.Cond.constantLong "LockRail" (275 : Nat) (-1000000000000 : Int64)) ∈ lw_all := lw_g (lw_at lw_m5 184 rfl) rfl
theorem q1285 : (Jvm.Cond.instanceMethod ({ cls := "LockRail", name := "beside", desc := "(III)J" } : Jvm.MethodName)) ∈ lw_all := lw_g (lw_at lw_m5 186 rfl) rfl
theorem q1286 : (Jvm.Cond.selects "LockRail" ({ cls := "LockRail", name := "beside", desc := "(III)J" } : Jvm.MethodName) ({ cls := "LockRail", name := "beside", desc := "(III)J" } : Jvm.MethodName)) ∈ lw_all := lw_g (lw_at lw_m5 187 rfl) rfl
theorem q1287 : (Jvm.Cond.code ({ cls := "LockRail", name := "beside", desc := "(III)J" } : Jvm.MethodName) prog_1_method_54_code (4 : Nat) (Option.some Jvm.ClassFile.FieldType.long)) ∈ lw_all := lw_g (lw_at lw_m5 188 rfl) rfl
theorem q1288 : (Jvm.Cond.methodLink "LockRail" (277 : Nat) ({ cls := "LockRail", name := "compares", desc := "(II)V" } : Jvm.MethodName)) ∈ lw_all := lw_g (lw_at lw_m5 189 rfl) rfl
theorem q1289 : (Jvm.Cond.privateMethod ({ cls := "LockRail", name := "compares", desc := "(II)V" } : Jvm.MethodName)) ∈ lw_tbl := lw_at lw_m5 190 rfl
theorem q1290 : (Jvm.Cond.instanceMethod ({ cls := "LockRail", name := "compares", desc := "(II)V" } : Jvm.MethodName)) ∈ lw_all := lw_g (lw_at lw_m5 191 rfl) rfl
theorem q1291 : (Jvm.Cond.code ({ cls := "LockRail", name := "compares", desc := "(II)V" } : Jvm.MethodName) prog_1_method_53_code (6 : Nat) (Option.none : Option Jvm.ClassFile.FieldType)) ∈ lw_all := lw_g (lw_at lw_m5 192 rfl) rfl
theorem q1293 : (Jvm.Cond.instanceMethod ({ cls := "LockRail", name := "worse", desc := "(II)I" } : Jvm.MethodName)) ∈ lw_all := lw_g (lw_at lw_m5 194 rfl) rfl
theorem q1294 : (Jvm.Cond.selects "LockRail" ({ cls := "LockRail", name := "worse", desc := "(II)I" } : Jvm.MethodName) ({ cls := "LockRail", name := "worse", desc := "(II)I" } : Jvm.MethodName)) ∈ lw_all := lw_g (lw_at lw_m5 195 rfl) rfl
theorem q1295 : (Jvm.Cond.code ({ cls := "LockRail", name := "worse", desc := "(II)I" } : Jvm.MethodName) prog_1_method_55_code (5 : Nat) (Option.some Jvm.ClassFile.FieldType.int)) ∈ lw_all := lw_g (lw_at lw_m5 196 rfl) rfl
theorem q1297 : (Jvm.Cond.instanceMethod ({ cls := "LockRail", name := "next", desc := "(II)I" } : Jvm.MethodName)) ∈ lw_all := lw_g (lw_at lw_m5 198 rfl) rfl
theorem q1298 : (Jvm.Cond.selects "LockRail" ({ cls := "LockRail", name := "next", desc := "(II)I" } : Jvm.MethodName) ({ cls := "LockRail", name := "next", desc := "(II)I" } : Jvm.MethodName)) ∈ lw_all := lw_g (lw_at lw_m5 199 rfl) rfl
theorem q1299 : (Jvm.Cond.code ({ cls := "LockRail", name := "next", desc := "(II)I" } : Jvm.MethodName) prog_1_method_56_code (5 : Nat) (Option.some Jvm.ClassFile.FieldType.int)) ∈ lw_all := lw_g (lw_at lw_m5 200 rfl) rfl
theorem q1301 : (Jvm.Cond.instanceMethod ({ cls := "LockRail", name := "move", desc := "(II)I" } : Jvm.MethodName)) ∈ lw_all := lw_g (lw_at lw_m5 202 rfl) rfl
theorem q1302 : (Jvm.Cond.selects "LockRail" ({ cls := "LockRail", name := "move", desc := "(II)I" } : Jvm.MethodName) ({ cls := "LockRail", name := "move", desc := "(II)I" } : Jvm.MethodName)) ∈ lw_all := lw_g (lw_at lw_m5 203 rfl) rfl
theorem q1303 : (Jvm.Cond.code ({ cls := "LockRail", name := "move", desc := "(II)I" } : Jvm.MethodName) prog_1_method_57_code (5 : Nat) (Option.some Jvm.ClassFile.FieldType.int)) ∈ lw_all := lw_g (lw_at lw_m5 204 rfl) rfl
theorem q1304 : (Jvm.Cond.methodLink "LockRail" (281 : Nat) ({ cls := "LockRail$Rail", name := "standsOn", desc := "(I)I" } : Jvm.MethodName)) ∈ lw_all := lw_g (lw_at lw_m5 205 rfl) rfl
theorem q1306 : (Jvm.Cond.instanceMethod ({ cls := "LockRail", name := "swap", desc := "(II)I" } : Jvm.MethodName)) ∈ lw_all := lw_g (lw_at lw_m5 207 rfl) rfl
theorem q1307 : (Jvm.Cond.selects "LockRail" ({ cls := "LockRail", name := "swap", desc := "(II)I" } : Jvm.MethodName) ({ cls := "LockRail", name := "swap", desc := "(II)I" } : Jvm.MethodName)) ∈ lw_all := lw_g (lw_at lw_m5 208 rfl) rfl
theorem q1308 : (Jvm.Cond.code ({ cls := "LockRail", name := "swap", desc := "(II)I" } : Jvm.MethodName) prog_1_method_58_code (6 : Nat) (Option.some Jvm.ClassFile.FieldType.int)) ∈ lw_all := lw_g (lw_at lw_m5 209 rfl) rfl
theorem q1310 : (Jvm.Cond.instanceMethod ({ cls := "LockRail", name := "where", desc := "(I)I" } : Jvm.MethodName)) ∈ lw_all := lw_g (lw_at lw_m5 211 rfl) rfl
theorem q1311 : (Jvm.Cond.selects "LockRail" ({ cls := "LockRail", name := "where", desc := "(I)I" } : Jvm.MethodName) ({ cls := "LockRail", name := "where", desc := "(I)I" } : Jvm.MethodName)) ∈ lw_all := lw_g (lw_at lw_m5 212 rfl) rfl
theorem q1312 : (Jvm.Cond.code ({ cls := "LockRail", name := "where", desc := "(I)I" } : Jvm.MethodName) prog_1_method_59_code (11 : Nat) (Option.some Jvm.ClassFile.FieldType.int)) ∈ lw_all := lw_g (lw_at lw_m5 213 rfl) rfl
theorem q1314 : (Jvm.Cond.instanceMethod ({ cls := "LockRail", name := "lamp", desc := "(I)I" } : Jvm.MethodName)) ∈ lw_all := lw_g (lw_at lw_m5 215 rfl) rfl
theorem q1315 : (Jvm.Cond.selects "LockRail" ({ cls := "LockRail", name := "lamp", desc := "(I)I" } : Jvm.MethodName) ({ cls := "LockRail", name := "lamp", desc := "(I)I" } : Jvm.MethodName)) ∈ lw_all := lw_g (lw_at lw_m5 216 rfl) rfl
theorem q1316 : (Jvm.Cond.code ({ cls := "LockRail", name := "lamp", desc := "(I)I" } : Jvm.MethodName) prog_1_method_61_code (8 : Nat) (Option.some Jvm.ClassFile.FieldType.int)) ∈ lw_all := lw_g (lw_at lw_m5 217 rfl) rfl
theorem q1317 : (Jvm.Cond.constantLong "LockRail" (290 : Nat) (99 : Int64)) ∈ lw_all := lw_g (lw_at lw_m5 218 rfl) rfl
theorem q1318 : (Jvm.Cond.methodLink "LockRail" (292 : Nat) ({ cls := "LockRail", name := "litBy", desc := "(II)J" } : Jvm.MethodName)) ∈ lw_all := lw_g (lw_at lw_m5 219 rfl) rfl
theorem q1319 : (Jvm.Cond.privateMethod ({ cls := "LockRail", name := "litBy", desc := "(II)J" } : Jvm.MethodName)) ∈ lw_tbl := lw_at lw_m5 220 rfl
theorem q1320 : (Jvm.Cond.instanceMethod ({ cls := "LockRail", name := "litBy", desc := "(II)J" } : Jvm.MethodName)) ∈ lw_all := lw_g (lw_at lw_m5 221 rfl) rfl
theorem q1321 : (Jvm.Cond.code ({ cls := "LockRail", name := "litBy", desc := "(II)J" } : Jvm.MethodName) prog_1_method_60_code (5 : Nat) (Option.some Jvm.ClassFile.FieldType.long)) ∈ lw_all := lw_g (lw_at lw_m5 222 rfl) rfl
theorem q1323 : (Jvm.Cond.instanceMethod ({ cls := "LockRail", name := "lit", desc := "(II)J" } : Jvm.MethodName)) ∈ lw_all := lw_g (lw_at lw_m5 224 rfl) rfl
theorem q1324 : (Jvm.Cond.selects "LockRail" ({ cls := "LockRail", name := "lit", desc := "(II)J" } : Jvm.MethodName) ({ cls := "LockRail", name := "lit", desc := "(II)J" } : Jvm.MethodName)) ∈ lw_all := lw_g (lw_at lw_m5 225 rfl) rfl
theorem q1325 : (Jvm.Cond.code ({ cls := "LockRail", name := "lit", desc := "(II)J" } : Jvm.MethodName) prog_1_method_62_code (3 : Nat) (Option.some Jvm.ClassFile.FieldType.long)) ∈ lw_all := lw_g (lw_at lw_m5 226 rfl) rfl
theorem q1327 : (Jvm.Cond.instanceMethod ({ cls := "LockRail", name := "watch", desc := "(Z)I" } : Jvm.MethodName)) ∈ lw_all := lw_g (lw_at lw_m5 228 rfl) rfl
theorem q1328 : (Jvm.Cond.selects "LockRail" ({ cls := "LockRail", name := "watch", desc := "(Z)I" } : Jvm.MethodName) ({ cls := "LockRail", name := "watch", desc := "(Z)I" } : Jvm.MethodName)) ∈ lw_all := lw_g (lw_at lw_m5 229 rfl) rfl
theorem q1329 : (Jvm.Cond.code ({ cls := "LockRail", name := "watch", desc := "(Z)I" } : Jvm.MethodName) prog_1_method_63_code (3 : Nat) (Option.some Jvm.ClassFile.FieldType.int)) ∈ lw_all := lw_g (lw_at lw_m5 230 rfl) rfl
theorem q1331 : (Jvm.Cond.instanceMethod ({ cls := "LockRail", name := "penny", desc := "()J" } : Jvm.MethodName)) ∈ lw_all := lw_g (lw_at lw_m5 232 rfl) rfl
theorem q1332 : (Jvm.Cond.selects "LockRail" ({ cls := "LockRail", name := "penny", desc := "()J" } : Jvm.MethodName) ({ cls := "LockRail", name := "penny", desc := "()J" } : Jvm.MethodName)) ∈ lw_all := lw_g (lw_at lw_m5 233 rfl) rfl
theorem q1333 : (Jvm.Cond.code ({ cls := "LockRail", name := "penny", desc := "()J" } : Jvm.MethodName) prog_1_method_65_code (5 : Nat) (Option.some Jvm.ClassFile.FieldType.long)) ∈ lw_all := lw_g (lw_at lw_m5 234 rfl) rfl
theorem q1334 : (Jvm.Cond.methodLink "LockRail" (298 : Nat) ({ cls := "LockRail", name := "savings", desc := "()[J" } : Jvm.MethodName)) ∈ lw_all := lw_g (lw_at lw_m5 235 rfl) rfl
theorem q1335 : (Jvm.Cond.privateMethod ({ cls := "LockRail", name := "savings", desc := "()[J" } : Jvm.MethodName)) ∈ lw_tbl := lw_at lw_m5 236 rfl
theorem q1336 : (Jvm.Cond.instanceMethod ({ cls := "LockRail", name := "savings", desc := "()[J" } : Jvm.MethodName)) ∈ lw_all := lw_g (lw_at lw_m5 237 rfl) rfl
theorem q1337 : (Jvm.Cond.code ({ cls := "LockRail", name := "savings", desc := "()[J" } : Jvm.MethodName) prog_1_method_64_code (4 : Nat) (Option.some (Jvm.ClassFile.FieldType.array Jvm.ClassFile.FieldType.long))) ∈ lw_all := lw_g (lw_at lw_m5 238 rfl) rfl
theorem q1339 : (Jvm.Cond.instanceMethod ({ cls := "LockRail", name := "enough", desc := "()I" } : Jvm.MethodName)) ∈ lw_all := lw_g (lw_at lw_m6 0 rfl) rfl
theorem q1340 : (Jvm.Cond.selects "LockRail" ({ cls := "LockRail", name := "enough", desc := "()I" } : Jvm.MethodName) ({ cls := "LockRail", name := "enough", desc := "()I" } : Jvm.MethodName)) ∈ lw_all := lw_g (lw_at lw_m6 1 rfl) rfl
theorem q1341 : (Jvm.Cond.code ({ cls := "LockRail", name := "enough", desc := "()I" } : Jvm.MethodName) prog_1_method_66_code (8 : Nat) (Option.some Jvm.ClassFile.FieldType.int)) ∈ lw_all := lw_g (lw_at lw_m6 2 rfl) rfl
theorem q1342 : (Jvm.Cond.methodLink "LockRail" (302 : Nat) ({ cls := "LockRail", name := "holds", desc := "(II)Z" } : Jvm.MethodName)) ∈ lw_all := lw_g (lw_at lw_m6 3 rfl) rfl
theorem q1344 : (Jvm.Cond.instanceMethod ({ cls := "LockRail", name := "marks", desc := "()I" } : Jvm.MethodName)) ∈ lw_all := lw_g (lw_at lw_m6 5 rfl) rfl
theorem q1345 : (Jvm.Cond.selects "LockRail" ({ cls := "LockRail", name := "marks", desc := "()I" } : Jvm.MethodName) ({ cls := "LockRail", name := "marks", desc := "()I" } : Jvm.MethodName)) ∈ lw_all := lw_g (lw_at lw_m6 6 rfl) rfl
theorem q1346 : (Jvm.Cond.code ({ cls := "LockRail", name := "marks", desc := "()I" } : Jvm.MethodName) prog_1_method_69_code (3 : Nat) (Option.some Jvm.ClassFile.FieldType.int)) ∈ lw_all := lw_g (lw_at lw_m6 7 rfl) rfl
theorem q1347 : (Jvm.Cond.methodLink "LockRail" (305 : Nat) ({ cls := "LockRail", name := "marksFirst", desc := "(I)V" } : Jvm.MethodName)) ∈ lw_all := lw_g (lw_at lw_m6 8 rfl) rfl
theorem q1348 : (Jvm.Cond.privateMethod ({ cls := "LockRail", name := "marksFirst", desc := "(I)V" } : Jvm.MethodName)) ∈ lw_tbl := lw_at lw_m6 9 rfl
theorem q1349 : (Jvm.Cond.instanceMethod ({ cls := "LockRail", name := "marksFirst", desc := "(I)V" } : Jvm.MethodName)) ∈ lw_all := lw_g (lw_at lw_m6 10 rfl) rfl
theorem q1350 : (Jvm.Cond.code ({ cls := "LockRail", name := "marksFirst", desc := "(I)V" } : Jvm.MethodName) prog_1_method_68_code (3 : Nat) (Option.none : Option Jvm.ClassFile.FieldType)) ∈ lw_all := lw_g (lw_at lw_m6 11 rfl) rfl
theorem q1351 : (Jvm.Cond.methodLink "LockRail" (308 : Nat) ({ cls := "LockRail", name := "isWanted", desc := "()Z" } : Jvm.MethodName)) ∈ lw_all := lw_g (lw_at lw_m6 12 rfl) rfl
theorem q1352 : (Jvm.Cond.privateMethod ({ cls := "LockRail", name := "isWanted", desc := "()Z" } : Jvm.MethodName)) ∈ lw_tbl := lw_at lw_m6 13 rfl
theorem q1353 : (Jvm.Cond.instanceMethod ({ cls := "LockRail", name := "isWanted", desc := "()Z" } : Jvm.MethodName)) ∈ lw_all := lw_g (lw_at lw_m6 14 rfl) rfl
theorem q1354 : (Jvm.Cond.code ({ cls := "LockRail", name := "isWanted", desc := "()Z" } : Jvm.MethodName) prog_1_method_67_code (3 : Nat) (Option.some Jvm.ClassFile.FieldType.boolean)) ∈ lw_all := lw_g (lw_at lw_m6 15 rfl) rfl
theorem q1356 : (Jvm.Cond.instanceMethod ({ cls := "LockRail", name := "hides", desc := "(I)J" } : Jvm.MethodName)) ∈ lw_all := lw_g (lw_at lw_m6 17 rfl) rfl
theorem q1357 : (Jvm.Cond.selects "LockRail" ({ cls := "LockRail", name := "hides", desc := "(I)J" } : Jvm.MethodName) ({ cls := "LockRail", name := "hides", desc := "(I)J" } : Jvm.MethodName)) ∈ lw_all := lw_g (lw_at lw_m6 18 rfl) rfl
theorem q1358 : (Jvm.Cond.code ({ cls := "LockRail", name := "hides", desc := "(I)J" } : Jvm.MethodName) prog_1_method_70_code (6 : Nat) (Option.some Jvm.ClassFile.FieldType.long)) ∈ lw_all := lw_g (lw_at lw_m6 19 rfl) rfl
theorem q1360 : (Jvm.Cond.instanceMethod ({ cls := "LockRail", name := "bait", desc := "(III)J" } : Jvm.MethodName)) ∈ lw_all := lw_g (lw_at lw_m6 21 rfl) rfl
theorem q1361 : (Jvm.Cond.selects "LockRail" ({ cls := "LockRail", name := "bait", desc := "(III)J" } : Jvm.MethodName) ({ cls := "LockRail", name := "bait", desc := "(III)J" } : Jvm.MethodName)) ∈ lw_all := lw_g (lw_at lw_m6 22 rfl) rfl
theorem q1362 : (Jvm.Cond.code ({ cls := "LockRail", name := "bait", desc := "(III)J" } : Jvm.MethodName) prog_1_method_73_code (4 : Nat) (Option.some Jvm.ClassFile.FieldType.long)) ∈ lw_all := lw_g (lw_at lw_m6 23 rfl) rfl
theorem q1363 : (Jvm.Cond.methodLink "LockRail" (333 : Nat) ({ cls := "LockRail", name := "isBait", desc := "(II)Z" } : Jvm.MethodName)) ∈ lw_all := lw_g (lw_at lw_m6 24 rfl) rfl
theorem q1364 : (Jvm.Cond.static ({ cls := "LockRail", name := "isBait", desc := "(II)Z" } : Jvm.MethodName)) ∈ lw_all := lw_g (lw_at lw_m6 25 rfl) rfl
theorem q1365 : (Jvm.Cond.code ({ cls := "LockRail", name := "isBait", desc := "(II)Z" } : Jvm.MethodName) prog_1_method_72_code (2 : Nat) (Option.some Jvm.ClassFile.FieldType.boolean)) ∈ lw_all := lw_g (lw_at lw_m6 26 rfl) rfl
theorem q1366 : (Jvm.Cond.constantLong "LockRail" (328 : Nat) (9999 : Int64)) ∈ lw_all := lw_g (lw_at lw_m6 27 rfl) rfl
theorem q1367 : (Jvm.Cond.methodLink "LockRail" (330 : Nat) ({ cls := "LockRail", name := "isHundredth", desc := "(I)Z" } : Jvm.MethodName)) ∈ lw_all := lw_g (lw_at lw_m6 28 rfl) rfl
theorem q1368 : (Jvm.Cond.static ({ cls := "LockRail", name := "isHundredth", desc := "(I)Z" } : Jvm.MethodName)) ∈ lw_all := lw_g (lw_at lw_m6 29 rfl) rfl
theorem q1369 : (Jvm.Cond.code ({ cls := "LockRail", name := "isHundredth", desc := "(I)Z" } : Jvm.MethodName) prog_1_method_3_code (1 : Nat) (Option.some Jvm.ClassFile.FieldType.boolean)) ∈ lw_all := lw_g (lw_at lw_m6 30 rfl) rfl
theorem q1370 : (Jvm.Cond.constantLong "LockRail" (336 : Nat) (-5 : Int64)) ∈ lw_all := lw_g (lw_at lw_m6 31 rfl) rfl
theorem q1371 : (Jvm.Cond.methodLink "LockRail" (338 : Nat) ({ cls := "LockRail", name := "baits", desc := "(III)LLockRail$Baited;" } : Jvm.MethodName)) ∈ lw_all := lw_g (lw_at lw_m6 32 rfl) rfl
theorem q1372 : (Jvm.Cond.privateMethod ({ cls := "LockRail", name := "baits", desc := "(III)LLockRail$Baited;" } : Jvm.MethodName)) ∈ lw_tbl := lw_at lw_m6 33 rfl
theorem q1373 : (Jvm.Cond.instanceMethod ({ cls := "LockRail", name := "baits", desc := "(III)LLockRail$Baited;" } : Jvm.MethodName)) ∈ lw_all := lw_g (lw_at lw_m6 34 rfl) rfl
theorem q1374 : (Jvm.Cond.code ({ cls := "LockRail", name := "baits", desc := "(III)LLockRail$Baited;" } : Jvm.MethodName) prog_1_method_71_code (4 : Nat) (Option.some (Jvm.ClassFile.FieldType.object "LockRail$Baited"))) ∈ lw_all := lw_g (lw_at lw_m6 35 rfl) rfl
theorem q1375 : (Jvm.Cond.classLink "LockRail" (315 : Nat) "LockRail$Baited") ∈ lw_all := lw_g (lw_at lw_m6 36 rfl) rfl
theorem q1377 : (Jvm.Cond.methodLinkNest "LockRail" (317 : Nat) ({ cls := "LockRail$Baited", name := "<init>", desc := "(LLockRail;)V" } : Jvm.MethodName) "LockRail") ∈ lw_tbl := lw_at lw_m6 38 rfl
theorem q1389 : (Jvm.Cond.fieldLinkNest "LockRail" (342 : Nat) "LockRail$Baited" "lost" "J" "LockRail") ∈ lw_tbl := lw_at lw_m6 50 rfl
theorem q1408 : (Jvm.Cond.methodLink "LockRail" (318 : Nat) ({ cls := "LockRail$Bike", name := "<init>", desc := "(III)V" } : Jvm.MethodName)) ∈ lw_all := lw_g (lw_at lw_m6 69 rfl) rfl
theorem q1409 : (Jvm.Cond.methodLink "LockRail" (325 : Nat) ({ cls := "LockRail$Baited", name := "lay", desc := "(I)LLockRail$Baited;" } : Jvm.MethodName)) ∈ lw_all := lw_g (lw_at lw_m6 70 rfl) rfl
theorem q1438 : (Jvm.Cond.constantLong "LockRail" (346 : Nat) (1000000000 : Int64)) ∈ lw_all := lw_g (lw_at lw_m6 99 rfl) rfl
theorem q1440 : (Jvm.Cond.instanceMethod ({ cls := "LockRail", name := "caught", desc := "(IIII)J" } : Jvm.MethodName)) ∈ lw_all := lw_g (lw_at lw_m6 101 rfl) rfl
theorem q1441 : (Jvm.Cond.selects "LockRail" ({ cls := "LockRail", name := "caught", desc := "(IIII)J" } : Jvm.MethodName) ({ cls := "LockRail", name := "caught", desc := "(IIII)J" } : Jvm.MethodName)) ∈ lw_all := lw_g (lw_at lw_m6 102 rfl) rfl
theorem q1442 : (Jvm.Cond.code ({ cls := "LockRail", name := "caught", desc := "(IIII)J" } : Jvm.MethodName) prog_1_method_74_code (5 : Nat) (Option.some Jvm.ClassFile.FieldType.long)) ∈ lw_all := lw_g (lw_at lw_m6 103 rfl) rfl
theorem q1443 : (Jvm.Cond.methodLink "LockRail" (348 : Nat) ({ cls := "LockRail$Baited", name := "caught", desc := "(I)J" } : Jvm.MethodName)) ∈ lw_all := lw_g (lw_at lw_m6 104 rfl) rfl
theorem q1448 : (Jvm.Cond.instanceMethod ({ cls := "LockRail", name := "lures", desc := "(I)I" } : Jvm.MethodName)) ∈ lw_all := lw_g (lw_at lw_m6 109 rfl) rfl
theorem q1449 : (Jvm.Cond.selects "LockRail" ({ cls := "LockRail", name := "lures", desc := "(I)I" } : Jvm.MethodName) ({ cls := "LockRail", name := "lures", desc := "(I)I" } : Jvm.MethodName)) ∈ lw_all := lw_g (lw_at lw_m6 110 rfl) rfl
theorem q1450 : (Jvm.Cond.code ({ cls := "LockRail", name := "lures", desc := "(I)I" } : Jvm.MethodName) prog_1_method_76_code (5 : Nat) (Option.some Jvm.ClassFile.FieldType.int)) ∈ lw_all := lw_g (lw_at lw_m6 111 rfl) rfl
theorem q1451 : (Jvm.Cond.methodLink "LockRail" (351 : Nat) ({ cls := "LockRail", name := "isLured", desc := "(II)Z" } : Jvm.MethodName)) ∈ lw_all := lw_g (lw_at lw_m6 112 rfl) rfl
theorem q1452 : (Jvm.Cond.privateMethod ({ cls := "LockRail", name := "isLured", desc := "(II)Z" } : Jvm.MethodName)) ∈ lw_tbl := lw_at lw_m6 113 rfl
theorem q1453 : (Jvm.Cond.instanceMethod ({ cls := "LockRail", name := "isLured", desc := "(II)Z" } : Jvm.MethodName)) ∈ lw_all := lw_g (lw_at lw_m6 114 rfl) rfl
theorem q1454 : (Jvm.Cond.code ({ cls := "LockRail", name := "isLured", desc := "(II)Z" } : Jvm.MethodName) prog_1_method_75_code (5 : Nat) (Option.some Jvm.ClassFile.FieldType.boolean)) ∈ lw_all := lw_g (lw_at lw_m6 115 rfl) rfl
theorem q1456 : (Jvm.Cond.instanceMethod ({ cls := "LockRail", name := "cover", desc := "(III)J" } : Jvm.MethodName)) ∈ lw_all := lw_g (lw_at lw_m6 117 rfl) rfl
theorem q1457 : (Jvm.Cond.selects "LockRail" ({ cls := "LockRail", name := "cover", desc := "(III)J" } : Jvm.MethodName) ({ cls := "LockRail", name := "cover", desc := "(III)J" } : Jvm.MethodName)) ∈ lw_all := lw_g (lw_at lw_m6 118 rfl) rfl
theorem q1458 : (Jvm.Cond.code ({ cls := "LockRail", name := "cover", desc := "(III)J" } : Jvm.MethodName) prog_1_method_80_code (4 : Nat) (Option.some Jvm.ClassFile.FieldType.long)) ∈ lw_all := lw_g (lw_at lw_m6 119 rfl) rfl
theorem q1459 : (Jvm.Cond.methodLink "LockRail" (360 : Nat) ({ cls := "LockRail", name := "isCover", desc := "(III)Z" } : Jvm.MethodName)) ∈ lw_all := lw_g (lw_at lw_m6 120 rfl) rfl
theorem q1460 : (Jvm.Cond.privateMethod ({ cls := "LockRail", name := "isCover", desc := "(III)Z" } : Jvm.MethodName)) ∈ lw_tbl := lw_at lw_m6 121 rfl
theorem q1461 : (Jvm.Cond.instanceMethod ({ cls := "LockRail", name := "isCover", desc := "(III)Z" } : Jvm.MethodName)) ∈ lw_all := lw_g (lw_at lw_m6 122 rfl) rfl
theorem q1462 : (Jvm.Cond.code ({ cls := "LockRail", name := "isCover", desc := "(III)Z" } : Jvm.MethodName) prog_1_method_78_code (4 : Nat) (Option.some Jvm.ClassFile.FieldType.boolean)) ∈ lw_all := lw_g (lw_at lw_m6 123 rfl) rfl
theorem q1463 : (Jvm.Cond.methodLink "LockRail" (364 : Nat) ({ cls := "LockRail", name := "carelessOf", desc := "(III)I" } : Jvm.MethodName)) ∈ lw_all := lw_g (lw_at lw_m6 124 rfl) rfl
theorem q1464 : (Jvm.Cond.privateMethod ({ cls := "LockRail", name := "carelessOf", desc := "(III)I" } : Jvm.MethodName)) ∈ lw_tbl := lw_at lw_m6 125 rfl
theorem q1465 : (Jvm.Cond.instanceMethod ({ cls := "LockRail", name := "carelessOf", desc := "(III)I" } : Jvm.MethodName)) ∈ lw_all := lw_g (lw_at lw_m6 126 rfl) rfl
theorem q1466 : (Jvm.Cond.code ({ cls := "LockRail", name := "carelessOf", desc := "(III)I" } : Jvm.MethodName) prog_1_method_79_code (10 : Nat) (Option.some Jvm.ClassFile.FieldType.int)) ∈ lw_all := lw_g (lw_at lw_m6 127 rfl) rfl
theorem q1467 : (Jvm.Cond.methodLink "LockRail" (356 : Nat) ({ cls := "LockRail", name := "coveredBy", desc := "(IIII)J" } : Jvm.MethodName)) ∈ lw_all := lw_g (lw_at lw_m6 128 rfl) rfl
theorem q1468 : (Jvm.Cond.privateMethod ({ cls := "LockRail", name := "coveredBy", desc := "(IIII)J" } : Jvm.MethodName)) ∈ lw_tbl := lw_at lw_m6 129 rfl
theorem q1469 : (Jvm.Cond.instanceMethod ({ cls := "LockRail", name := "coveredBy", desc := "(IIII)J" } : Jvm.MethodName)) ∈ lw_all := lw_g (lw_at lw_m6 130 rfl) rfl
theorem q1470 : (Jvm.Cond.code ({ cls := "LockRail", name := "coveredBy", desc := "(IIII)J" } : Jvm.MethodName) prog_1_method_77_code (9 : Nat) (Option.some Jvm.ClassFile.FieldType.long)) ∈ lw_all := lw_g (lw_at lw_m6 131 rfl) rfl
theorem q1471 : (Jvm.Cond.constantLong "LockRail" (354 : Nat) (1000 : Int64)) ∈ lw_all := lw_g (lw_at lw_m6 132 rfl) rfl
theorem q1473 : (Jvm.Cond.instanceMethod ({ cls := "LockRail", name := "careless", desc := "(III)I" } : Jvm.MethodName)) ∈ lw_all := lw_g (lw_at lw_m6 134 rfl) rfl
theorem q1474 : (Jvm.Cond.selects "LockRail" ({ cls := "LockRail", name := "careless", desc := "(III)I" } : Jvm.MethodName) ({ cls := "LockRail", name := "careless", desc := "(III)I" } : Jvm.MethodName)) ∈ lw_all := lw_g (lw_at lw_m6 135 rfl) rfl
theorem q1475 : (Jvm.Cond.code ({ cls := "LockRail", name := "careless", desc := "(III)I" } : Jvm.MethodName) prog_1_method_81_code (4 : Nat) (Option.some Jvm.ClassFile.FieldType.int)) ∈ lw_all := lw_g (lw_at lw_m6 136 rfl) rfl
theorem q1477 : (Jvm.Cond.instanceMethod ({ cls := "LockRail", name := "law", desc := "(I)J" } : Jvm.MethodName)) ∈ lw_all := lw_g (lw_at lw_m6 138 rfl) rfl
theorem q1478 : (Jvm.Cond.selects "LockRail" ({ cls := "LockRail", name := "law", desc := "(I)J" } : Jvm.MethodName) ({ cls := "LockRail", name := "law", desc := "(I)J" } : Jvm.MethodName)) ∈ lw_all := lw_g (lw_at lw_m6 139 rfl) rfl
theorem q1479 : (Jvm.Cond.code ({ cls := "LockRail", name := "law", desc := "(I)J" } : Jvm.MethodName) prog_1_method_83_code (2 : Nat) (Option.some Jvm.ClassFile.FieldType.long)) ∈ lw_all := lw_g (lw_at lw_m6 140 rfl) rfl
theorem q1480 : (Jvm.Cond.methodLink "LockRail" (377 : Nat) ({ cls := "LockRail", name := "lawOf", desc := "(I)J" } : Jvm.MethodName)) ∈ lw_all := lw_g (lw_at lw_m6 141 rfl) rfl
theorem q1481 : (Jvm.Cond.privateMethod ({ cls := "LockRail", name := "lawOf", desc := "(I)J" } : Jvm.MethodName)) ∈ lw_tbl := lw_at lw_m6 142 rfl
theorem q1482 : (Jvm.Cond.instanceMethod ({ cls := "LockRail", name := "lawOf", desc := "(I)J" } : Jvm.MethodName)) ∈ lw_all := lw_g (lw_at lw_m6 143 rfl) rfl
theorem q1483 : (Jvm.Cond.code ({ cls := "LockRail", name := "lawOf", desc := "(I)J" } : Jvm.MethodName) prog_1_method_82_code (4 : Nat) (Option.some Jvm.ClassFile.FieldType.long)) ∈ lw_all := lw_g (lw_at lw_m6 144 rfl) rfl
theorem q1484 : (Jvm.Cond.methodLink "LockRail" (368 : Nat) ({ cls := "java/lang/Math", name := "max", desc := "(II)I" } : Jvm.MethodName)) ∈ lw_all := lw_g (lw_at lw_m6 145 rfl) rfl
theorem q1486 : (Jvm.Cond.instanceMethod ({ cls := "LockRail", name := "laws", desc := "()I" } : Jvm.MethodName)) ∈ lw_all := lw_g (lw_at lw_m6 147 rfl) rfl
theorem q1487 : (Jvm.Cond.selects "LockRail" ({ cls := "LockRail", name := "laws", desc := "()I" } : Jvm.MethodName) ({ cls := "LockRail", name := "laws", desc := "()I" } : Jvm.MethodName)) ∈ lw_all := lw_g (lw_at lw_m6 148 rfl) rfl
theorem q1488 : (Jvm.Cond.code ({ cls := "LockRail", name := "laws", desc := "()I" } : Jvm.MethodName) prog_1_method_84_code (7 : Nat) (Option.some Jvm.ClassFile.FieldType.int)) ∈ lw_all := lw_g (lw_at lw_m6 149 rfl) rfl
theorem q1490 : (Jvm.Cond.instanceMethod ({ cls := "LockRail", name := "rather", desc := "(II)I" } : Jvm.MethodName)) ∈ lw_all := lw_g (lw_at lw_m6 151 rfl) rfl
theorem q1491 : (Jvm.Cond.selects "LockRail" ({ cls := "LockRail", name := "rather", desc := "(II)I" } : Jvm.MethodName) ({ cls := "LockRail", name := "rather", desc := "(II)I" } : Jvm.MethodName)) ∈ lw_all := lw_g (lw_at lw_m6 152 rfl) rfl
theorem q1492 : (Jvm.Cond.code ({ cls := "LockRail", name := "rather", desc := "(II)I" } : Jvm.MethodName) prog_1_method_86_code (7 : Nat) (Option.some Jvm.ClassFile.FieldType.int)) ∈ lw_all := lw_g (lw_at lw_m6 153 rfl) rfl
theorem q1493 : (Jvm.Cond.methodLink "LockRail" (381 : Nat) ({ cls := "LockRail", name := "netAt", desc := "(LLockRail$Thief;LLockRail$Rail;)I" } : Jvm.MethodName)) ∈ lw_all := lw_g (lw_at lw_m6 154 rfl) rfl
theorem q1494 : (Jvm.Cond.static ({ cls := "LockRail", name := "netAt", desc := "(LLockRail$Thief;LLockRail$Rail;)I" } : Jvm.MethodName)) ∈ lw_all := lw_g (lw_at lw_m6 155 rfl) rfl
theorem q1495 : (Jvm.Cond.code ({ cls := "LockRail", name := "netAt", desc := "(LLockRail$Thief;LLockRail$Rail;)I" } : Jvm.MethodName) prog_1_method_85_code (3 : Nat) (Option.some Jvm.ClassFile.FieldType.int)) ∈ lw_all := lw_g (lw_at lw_m6 156 rfl) rfl
theorem q1497 : (Jvm.Cond.instanceMethod ({ cls := "LockRail", name := "run", desc := "(I)I" } : Jvm.MethodName)) ∈ lw_all := lw_g (lw_at lw_m6 158 rfl) rfl
theorem q1498 : (Jvm.Cond.selects "LockRail" ({ cls := "LockRail", name := "run", desc := "(I)I" } : Jvm.MethodName) ({ cls := "LockRail", name := "run", desc := "(I)I" } : Jvm.MethodName)) ∈ lw_all := lw_g (lw_at lw_m6 159 rfl) rfl
theorem q1499 : (Jvm.Cond.code ({ cls := "LockRail", name := "run", desc := "(I)I" } : Jvm.MethodName) prog_1_method_88_code (2 : Nat) (Option.some Jvm.ClassFile.FieldType.int)) ∈ lw_all := lw_g (lw_at lw_m6 160 rfl) rfl
theorem q1500 : (Jvm.Cond.methodLink "LockRail" (387 : Nat) ({ cls := "LockRail", name := "isSeed", desc := "(I)Z" } : Jvm.MethodName)) ∈ lw_all := lw_g (lw_at lw_m6 161 rfl) rfl
theorem q1501 : (Jvm.Cond.static ({ cls := "LockRail", name := "isSeed", desc := "(I)Z" } : Jvm.MethodName)) ∈ lw_all := lw_g (lw_at lw_m6 162 rfl) rfl
theorem q1502 : (Jvm.Cond.code ({ cls := "LockRail", name := "isSeed", desc := "(I)Z" } : Jvm.MethodName) prog_1_method_87_code (1 : Nat) (Option.some Jvm.ClassFile.FieldType.boolean)) ∈ lw_all := lw_g (lw_at lw_m6 163 rfl) rfl
theorem q1503 : (Jvm.Cond.constantLong "LockRail" (385 : Nat) (2000000000 : Int64)) ∈ lw_all := lw_g (lw_at lw_m6 164 rfl) rfl
theorem q1504 : (Jvm.Cond.methodLink "LockRail" (390 : Nat) ({ cls := "LockRail$Year", name := "drawn", desc := "(J)V" } : Jvm.MethodName)) ∈ lw_all := lw_g (lw_at lw_m6 165 rfl) rfl
theorem q1539 : (Jvm.Cond.methodLink "LockRail" (394 : Nat) ({ cls := "LockRail$Year", name := "many", desc := "()I" } : Jvm.MethodName)) ∈ lw_all := lw_g (lw_at lw_m6 200 rfl) rfl
theorem q1544 : (Jvm.Cond.instanceMethod ({ cls := "LockRail", name := "told", desc := "(I)I" } : Jvm.MethodName)) ∈ lw_all := lw_g (lw_at lw_m6 205 rfl) rfl
theorem q1545 : (Jvm.Cond.selects "LockRail" ({ cls := "LockRail", name := "told", desc := "(I)I" } : Jvm.MethodName) ({ cls := "LockRail", name := "told", desc := "(I)I" } : Jvm.MethodName)) ∈ lw_all := lw_g (lw_at lw_m6 206 rfl) rfl
theorem q1546 : (Jvm.Cond.codeWith ({ cls := "LockRail", name := "told", desc := "(I)I" } : Jvm.MethodName) prog_1_method_89_code (6 : Nat) (Option.some Jvm.ClassFile.FieldType.int) [((17 : Nat), (100 : Nat), (192 : Nat), (414 : Nat)), ((101 : Nat), (191 : Nat), (192 : Nat), (414 : Nat))]) ∈ lw_all := lw_g (lw_at lw_m6 207 rfl) rfl
theorem q1547 : (Jvm.Cond.classLink "LockRail" (414 : Nat) "java/lang/NullPointerException") ∈ lw_all := lw_g (lw_at lw_m6 208 rfl) rfl
theorem q1574 : (Jvm.Cond.methodLink "LockRail" (395 : Nat) ({ cls := "LockRail", name := "isSlot", desc := "(I)Z" } : Jvm.MethodName)) ∈ lw_all := lw_g (lw_at lw_m6 235 rfl) rfl
theorem q1575 : (Jvm.Cond.static ({ cls := "LockRail", name := "isSlot", desc := "(I)Z" } : Jvm.MethodName)) ∈ lw_all := lw_g (lw_at lw_m6 236 rfl) rfl
theorem q1576 : (Jvm.Cond.code ({ cls := "LockRail", name := "isSlot", desc := "(I)Z" } : Jvm.MethodName) prog_1_method_93_code (1 : Nat) (Option.some Jvm.ClassFile.FieldType.boolean)) ∈ lw_all := lw_g (lw_at lw_m6 237 rfl) rfl
theorem q1577 : (Jvm.Cond.constantLong "LockRail" (427 : Nat) (3 : Int64)) ∈ lw_all := lw_g (lw_at lw_m6 238 rfl) rfl
theorem q1578 : (Jvm.Cond.methodLink "LockRail" (398 : Nat) ({ cls := "LockRail$Slot", name := "size", desc := "()I" } : Jvm.MethodName)) ∈ lw_all := lw_g (lw_at lw_m6 239 rfl) rfl
theorem q1586 : (Jvm.Cond.methodLink "LockRail" (402 : Nat) ({ cls := "LockRail$Slot", name := "at", desc := "(I)J" } : Jvm.MethodName)) ∈ lw_all := lw_g (lw_at lw_m7 7 rfl) rfl
theorem q1590 : (Jvm.Cond.methodLink "LockRail" (405 : Nat) ({ cls := "LockRail$Year", name := "begin", desc := "()V" } : Jvm.MethodName)) ∈ lw_all := lw_g (lw_at lw_m7 11 rfl) rfl
theorem q1591 : (Jvm.Cond.methodLink "LockRail" (411 : Nat) ({ cls := "LockRail$Year", name := "comes", desc := "(I)V" } : Jvm.MethodName)) ∈ lw_all := lw_g (lw_at lw_m7 12 rfl) rfl
theorem q1593 : (Jvm.Cond.instanceMethod ({ cls := "LockRail", name := "taken", desc := "(I)I" } : Jvm.MethodName)) ∈ lw_all := lw_g (lw_at lw_m7 14 rfl) rfl
theorem q1594 : (Jvm.Cond.selects "LockRail" ({ cls := "LockRail", name := "taken", desc := "(I)I" } : Jvm.MethodName) ({ cls := "LockRail", name := "taken", desc := "(I)I" } : Jvm.MethodName)) ∈ lw_all := lw_g (lw_at lw_m7 15 rfl) rfl
theorem q1595 : (Jvm.Cond.code ({ cls := "LockRail", name := "taken", desc := "(I)I" } : Jvm.MethodName) prog_1_method_90_code (2 : Nat) (Option.some Jvm.ClassFile.FieldType.int)) ∈ lw_all := lw_g (lw_at lw_m7 16 rfl) rfl
theorem q1597 : (Jvm.Cond.instanceMethod ({ cls := "LockRail", name := "took", desc := "(I)I" } : Jvm.MethodName)) ∈ lw_all := lw_g (lw_at lw_m7 18 rfl) rfl
theorem q1598 : (Jvm.Cond.selects "LockRail" ({ cls := "LockRail", name := "took", desc := "(I)I" } : Jvm.MethodName) ({ cls := "LockRail", name := "took", desc := "(I)I" } : Jvm.MethodName)) ∈ lw_all := lw_g (lw_at lw_m7 19 rfl) rfl
theorem q1599 : (Jvm.Cond.code ({ cls := "LockRail", name := "took", desc := "(I)I" } : Jvm.MethodName) prog_1_method_91_code (2 : Nat) (Option.some Jvm.ClassFile.FieldType.int)) ∈ lw_all := lw_g (lw_at lw_m7 20 rfl) rfl
theorem q1601 : (Jvm.Cond.instanceMethod ({ cls := "LockRail", name := "years", desc := "(III)J" } : Jvm.MethodName)) ∈ lw_all := lw_g (lw_at lw_m7 22 rfl) rfl
theorem q1602 : (Jvm.Cond.selects "LockRail" ({ cls := "LockRail", name := "years", desc := "(III)J" } : Jvm.MethodName) ({ cls := "LockRail", name := "years", desc := "(III)J" } : Jvm.MethodName)) ∈ lw_all := lw_g (lw_at lw_m7 23 rfl) rfl
theorem q1603 : (Jvm.Cond.code ({ cls := "LockRail", name := "years", desc := "(III)J" } : Jvm.MethodName) prog_1_method_92_code (9 : Nat) (Option.some Jvm.ClassFile.FieldType.long)) ∈ lw_all := lw_g (lw_at lw_m7 24 rfl) rfl
theorem q1604 : (Jvm.Cond.methodLink "LockRail" (422 : Nat) ({ cls := "java/lang/Math", name := "max", desc := "(JJ)J" } : Jvm.MethodName)) ∈ lw_all := lw_g (lw_at lw_m7 25 rfl) rfl
theorem q1607 : (Jvm.Cond.methodLink "LockRail" (425 : Nat) ({ cls := "LockRail$Year", name := "worth", desc := "()J" } : Jvm.MethodName)) ∈ lw_all := lw_g (lw_at lw_m7 28 rfl) rfl
theorem q1614 : (Jvm.Cond.instanceMethod ({ cls := "LockRail", name := "count", desc := "(I)I" } : Jvm.MethodName)) ∈ lw_all := lw_g (lw_at lw_m7 35 rfl) rfl
theorem q1615 : (Jvm.Cond.selects "LockRail" ({ cls := "LockRail", name := "count", desc := "(I)I" } : Jvm.MethodName) ({ cls := "LockRail", name := "count", desc := "(I)I" } : Jvm.MethodName)) ∈ lw_all := lw_g (lw_at lw_m7 36 rfl) rfl
theorem q1616 : (Jvm.Cond.code ({ cls := "LockRail", name := "count", desc := "(I)I" } : Jvm.MethodName) prog_1_method_94_code (4 : Nat) (Option.some Jvm.ClassFile.FieldType.int)) ∈ lw_all := lw_g (lw_at lw_m7 37 rfl) rfl
theorem q1617 : (Jvm.Cond.methodLink "LockRail" (432 : Nat) ({ cls := "LockRail$Rail", name := "marked", desc := "()I" } : Jvm.MethodName)) ∈ lw_all := lw_g (lw_at lw_m7 38 rfl) rfl
theorem q1619 : (Jvm.Cond.instanceMethod ({ cls := "LockRail", name := "keep", desc := "(I)I" } : Jvm.MethodName)) ∈ lw_all := lw_g (lw_at lw_m7 40 rfl) rfl
theorem q1620 : (Jvm.Cond.selects "LockRail" ({ cls := "LockRail", name := "keep", desc := "(I)I" } : Jvm.MethodName) ({ cls := "LockRail", name := "keep", desc := "(I)I" } : Jvm.MethodName)) ∈ lw_all := lw_g (lw_at lw_m7 41 rfl) rfl
theorem q1621 : (Jvm.Cond.code ({ cls := "LockRail", name := "keep", desc := "(I)I" } : Jvm.MethodName) prog_1_method_95_code (2 : Nat) (Option.some Jvm.ClassFile.FieldType.int)) ∈ lw_all := lw_g (lw_at lw_m7 42 rfl) rfl
theorem q1622 : (Jvm.Cond.methodLink "LockRail" (439 : Nat) ({ cls := "LockRail$Rail", name := "copy", desc := "()LLockRail$Rail;" } : Jvm.MethodName)) ∈ lw_all := lw_g (lw_at lw_m7 43 rfl) rfl
theorem q1650 : (Jvm.Cond.methodLink "LockRail" (443 : Nat) ({ cls := "LockRail$Year", name := "be", desc := "(LLockRail$Year;)V" } : Jvm.MethodName)) ∈ lw_all := lw_g (lw_at lw_m7 71 rfl) rfl
theorem q1656 : (Jvm.Cond.instanceMethod ({ cls := "LockRail", name := "back", desc := "(I)I" } : Jvm.MethodName)) ∈ lw_all := lw_g (lw_at lw_m7 77 rfl) rfl
theorem q1657 : (Jvm.Cond.selects "LockRail" ({ cls := "LockRail", name := "back", desc := "(I)I" } : Jvm.MethodName) ({ cls := "LockRail", name := "back", desc := "(I)I" } : Jvm.MethodName)) ∈ lw_all := lw_g (lw_at lw_m7 78 rfl) rfl
theorem q1658 : (Jvm.Cond.code ({ cls := "LockRail", name := "back", desc := "(I)I" } : Jvm.MethodName) prog_1_method_96_code (2 : Nat) (Option.some Jvm.ClassFile.FieldType.int)) ∈ lw_all := lw_g (lw_at lw_m7 79 rfl) rfl
theorem q1660 : (Jvm.Cond.instanceMethod ({ cls := "LockRail", name := "row", desc := "(III)I" } : Jvm.MethodName)) ∈ lw_all := lw_g (lw_at lw_m7 81 rfl) rfl
theorem q1661 : (Jvm.Cond.selects "LockRail" ({ cls := "LockRail", name := "row", desc := "(III)I" } : Jvm.MethodName) ({ cls := "LockRail", name := "row", desc := "(III)I" } : Jvm.MethodName)) ∈ lw_all := lw_g (lw_at lw_m7 82 rfl) rfl
theorem q1662 : (Jvm.Cond.codeWith ({ cls := "LockRail", name := "row", desc := "(III)I" } : Jvm.MethodName) prog_1_method_97_code (5 : Nat) (Option.some Jvm.ClassFile.FieldType.int) [((28 : Nat), (40 : Nat), (41 : Nat), (450 : Nat))]) ∈ lw_all := lw_g (lw_at lw_m7 83 rfl) rfl
theorem q1663 : (Jvm.Cond.classLink "LockRail" (450 : Nat) "java/lang/NegativeArraySizeException") ∈ lw_all := lw_g (lw_at lw_m7 84 rfl) rfl
theorem q1690 : (Jvm.Cond.methodLink "LockRail" (447 : Nat) ({ cls := "LockRail$Slot", name := "make", desc := "(II)V" } : Jvm.MethodName)) ∈ lw_all := lw_g (lw_at lw_m7 111 rfl) rfl
theorem q1696 : (Jvm.Cond.instanceMethod ({ cls := "LockRail", name := "write", desc := "(IIJ)I" } : Jvm.MethodName)) ∈ lw_all := lw_g (lw_at lw_m7 117 rfl) rfl
theorem q1697 : (Jvm.Cond.selects "LockRail" ({ cls := "LockRail", name := "write", desc := "(IIJ)I" } : Jvm.MethodName) ({ cls := "LockRail", name := "write", desc := "(IIJ)I" } : Jvm.MethodName)) ∈ lw_all := lw_g (lw_at lw_m7 118 rfl) rfl
theorem q1698 : (Jvm.Cond.codeWith ({ cls := "LockRail", name := "write", desc := "(IIJ)I" } : Jvm.MethodName) prog_1_method_98_code (6 : Nat) (Option.some Jvm.ClassFile.FieldType.int) [((10 : Nat), (22 : Nat), (23 : Nat), (414 : Nat)), ((10 : Nat), (22 : Nat), (28 : Nat), (456 : Nat))]) ∈ lw_all := lw_g (lw_at lw_m7 119 rfl) rfl
theorem q1699 : (Jvm.Cond.classLink "LockRail" (456 : Nat) "java/lang/ArrayIndexOutOfBoundsException") ∈ lw_all := lw_g (lw_at lw_m7 120 rfl) rfl
theorem q1718 : (Jvm.Cond.methodLink "LockRail" (452 : Nat) ({ cls := "LockRail$Slot", name := "put", desc := "(IJ)V" } : Jvm.MethodName)) ∈ lw_all := lw_g (lw_at lw_m7 139 rfl) rfl
theorem q1723 : (Jvm.Cond.instanceMethod ({ cls := "LockRail", name := "paste", desc := "(IIIII)I" } : Jvm.MethodName)) ∈ lw_all := lw_g (lw_at lw_m7 144 rfl) rfl
theorem q1724 : (Jvm.Cond.selects "LockRail" ({ cls := "LockRail", name := "paste", desc := "(IIIII)I" } : Jvm.MethodName) ({ cls := "LockRail", name := "paste", desc := "(IIIII)I" } : Jvm.MethodName)) ∈ lw_all := lw_g (lw_at lw_m7 145 rfl) rfl
theorem q1725 : (Jvm.Cond.codeWith ({ cls := "LockRail", name := "paste", desc := "(IIIII)I" } : Jvm.MethodName) prog_1_method_99_code (7 : Nat) (Option.some Jvm.ClassFile.FieldType.int) [((17 : Nat), (44 : Nat), (45 : Nat), (414 : Nat)), ((17 : Nat), (44 : Nat), (50 : Nat), (464 : Nat)), ((17 : Nat), (44 : Nat), (55 : Nat), (466 : Nat))]) ∈ lw_all := lw_g (lw_at lw_m7 146 rfl) rfl
theorem q1726 : (Jvm.Cond.classLink "LockRail" (464 : Nat) "java/lang/ArrayStoreException") ∈ lw_all := lw_g (lw_at lw_m7 147 rfl) rfl
theorem q1740 : (Jvm.Cond.classLink "LockRail" (466 : Nat) "java/lang/IndexOutOfBoundsException") ∈ lw_all := lw_g (lw_at lw_m7 161 rfl) rfl
theorem q1741 : (Jvm.Cond.methodLink "LockRail" (458 : Nat) ({ cls := "java/lang/System", name := "arraycopy", desc := "(Ljava/lang/Object;ILjava/lang/Object;II)V" } : Jvm.MethodName)) ∈ lw_all := lw_g (lw_at lw_m7 162 rfl) rfl
theorem q2539 : (Jvm.Cond.castable "LockRail" "java/lang/Object") ∈ lw_tbl := lw_at lw_m11 0 rfl
theorem in_X0 : ∀ w ∈ wsX00, w ∈ lw_all := lw_in wsX00 [426, 428, 430, 432, 434, 436, 438, 440, 442, 444, 446, 448, 450, 452] (by decide +kernel) (by decide +kernel)
