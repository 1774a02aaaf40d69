/-! GrantworksModel -/
set_option maxRecDepth 100000
def RX3 : String := "GrantworksModel"
def TX3 : u_T := fun k => match k with
  | 0 => ("GrantworksModel", "thrown", "I", false)
  | 1 => ("GrantworksModel", "day", "I", false)
  | 2 => ("GrantworksModel", "accounts", "I", false)
  | 3 => ("GrantworksModel", "accountPlace", "[I", true)
  | 4 => ("GrantworksModel", "budget", "[I", true)
  | 5 => ("GrantworksModel", "reserved", "[I", true)
  | 6 => ("GrantworksModel", "paid", "[I", true)
  | 7 => ("GrantworksModel", "calls", "I", false)
  | 8 => ("GrantworksModel", "field", "[I", true)
  | 9 => ("GrantworksModel", "opens", "[I", true)
  | 10 => ("GrantworksModel", "deadline", "[I", true)
  | 11 => ("GrantworksModel", "firstYear", "[I", true)
  | 12 => ("GrantworksModel", "isAwarded", "[Z", true)
  | 13 => ("GrantworksModel", "listed", "[I", true)
  | 14 => ("GrantworksModel", "list", "[I", true)
  | 15 => ("GrantworksModel", "applications", "I", false)
  | 16 => ("GrantworksModel", "callOf", "[I", true)
  | 17 => ("GrantworksModel", "person", "[I", true)
  | 18 => ("GrantworksModel", "house", "[I", true)
  | 19 => ("GrantworksModel", "asked", "[I", true)
  | 20 => ("GrantworksModel", "version", "[I", true)
  | 21 => ("GrantworksModel", "told", "[I", true)
  | 22 => ("GrantworksModel", "state", "[I", true)
  | 23 => ("GrantworksModel", "reports", "[I", true)
  | 24 => ("GrantworksModel", "spent", "[I", true)
  | 25 => ("GrantworksModel", "reviewers", "I", false)
  | 26 => ("GrantworksModel", "reviewerPerson", "[I", true)
  | 27 => ("GrantworksModel", "reviewerHouse", "[I", true)
  | 28 => ("GrantworksModel", "hasConflict", "[Z", true)
  | 29 => ("GrantworksModel", "sits", "[Z", true)
  | 30 => ("GrantworksModel", "score", "[I", true)
  | 31 => ("GrantworksModel", "entries", "I", false)
  | 32 => ("GrantworksModel", "entryKind", "[I", true)
  | 33 => ("GrantworksModel", "entryAt", "[I", true)
  | _ => ("GrantworksModel", "entryMoney", "[I", true)
def tyX3 : Nat → FieldType := fun k => match k with
  | 0 => .int
  | 1 => .int
  | 2 => .int
  | 3 => .array .int
  | 4 => .array .int
  | 5 => .array .int
  | 6 => .array .int
  | 7 => .int
  | 8 => .array .int
  | 9 => .array .int
  | 10 => .array .int
  | 11 => .array .int
  | 12 => .array .boolean
  | 13 => .array .int
  | 14 => .array .int
  | 15 => .int
  | 16 => .array .int
  | 17 => .array .int
  | 18 => .array .int
  | 19 => .array .int
  | 20 => .array .int
  | 21 => .array .int
  | 22 => .array .int
  | 23 => .array .int
  | 24 => .array .int
  | 25 => .int
  | 26 => .array .int
  | 27 => .array .int
  | 28 => .array .boolean
  | 29 => .array .boolean
  | 30 => .array .int
  | 31 => .int
  | 32 => .array .int
  | 33 => .array .int
  | _ => .array .int
abbrev wsX30 : List Cond := u_ws RX3 TX3 35
set_option maxRecDepth 100000 in
theorem nmX3 : ∀ a, a < 35 → ∀ b, b < 35 → a ≠ b → (TX3 a).2.1 ≠ (TX3 b).2.1 := by decide +kernel
set_option maxRecDepth 100000 in
theorem tyX3_ok : ∀ k, k < 35 → parseFieldDescriptor (TX3 k).2.2.1 = some (tyX3 k) := by decide +kernel
abbrev cX3_init : ByteArray := prog_19_method_1_code
def yX3_init : MethodName := ⟨RX3, "<init>", "()V"⟩
def dkwX3_init_11 : List UInt8 := [162, 0, 16, 42, 180, 0, 83, 27, 2, 79, 132, 1, 1, 167, 255, 239, 177]
abbrev dktX3_init_11 : List UInt8 := dkwX3_init_11 ++ []
def dkwX3_init_10 : List UInt8 := [16, 48, 162, 0, 16, 42, 180, 0, 7, 27, 2, 79, 132, 1, 1, 167, 255, 240, 3, 60, 27, 17, 0, 240]
abbrev dktX3_init_10 : List UInt8 := dkwX3_init_10 ++ dktX3_init_11
def dkwX3_init_9 : List UInt8 := [181, 0, 86, 42, 17, 1, 144, 188, 10, 181, 0, 89, 42, 17, 1, 144, 188, 10, 181, 0, 92, 3, 60, 27]
abbrev dktX3_init_9 : List UInt8 := dkwX3_init_9 ++ dktX3_init_10
def dkwX3_init_8 : List UInt8 := [42, 16, 60, 188, 4, 181, 0, 80, 42, 17, 0, 240, 188, 10, 181, 0, 83, 42, 17, 1, 144, 188, 10]
abbrev dktX3_init_8 : List UInt8 := dkwX3_init_8 ++ dktX3_init_9
def dkwX3_init_7 : List UInt8 := [16, 10, 188, 10, 181, 0, 71, 42, 16, 10, 188, 10, 181, 0, 74, 42, 17, 1, 44, 188, 4, 181, 0, 77]
abbrev dktX3_init_7 : List UInt8 := dkwX3_init_7 ++ dktX3_init_8
def dkwX3_init_6 : List UInt8 := [16, 24, 188, 10, 181, 0, 62, 42, 16, 24, 188, 10, 181, 0, 65, 42, 16, 24, 188, 10, 181, 0, 68, 42]
abbrev dktX3_init_6 : List UInt8 := dkwX3_init_6 ++ dktX3_init_7
def dkwX3_init_5 : List UInt8 := [16, 72, 188, 10, 181, 0, 53, 42, 16, 24, 188, 10, 181, 0, 56, 42, 16, 24, 188, 10, 181, 0, 59, 42]
abbrev dktX3_init_5 : List UInt8 := dkwX3_init_5 ++ dktX3_init_6
def dkwX3_init_4 : List UInt8 := [16, 24, 188, 10, 181, 0, 44, 42, 16, 24, 188, 10, 181, 0, 47, 42, 16, 24, 188, 10, 181, 0, 50, 42]
abbrev dktX3_init_4 : List UInt8 := dkwX3_init_4 ++ dktX3_init_5
def dkwX3_init_3 : List UInt8 := [188, 4, 181, 0, 34, 42, 16, 6, 188, 10, 181, 0, 38, 42, 17, 0, 144, 188, 10, 181, 0, 41, 42]
abbrev dktX3_init_3 : List UInt8 := dkwX3_init_3 ++ dktX3_init_4
def dkwX3_init_2 : List UInt8 := [188, 10, 181, 0, 25, 42, 16, 6, 188, 10, 181, 0, 28, 42, 16, 6, 188, 10, 181, 0, 31, 42, 16, 6]
abbrev dktX3_init_2 : List UInt8 := dkwX3_init_2 ++ dktX3_init_3
def dkwX3_init_1 : List UInt8 := [188, 10, 181, 0, 16, 42, 16, 48, 188, 10, 181, 0, 19, 42, 16, 6, 188, 10, 181, 0, 22, 42, 16, 6]
abbrev dktX3_init_1 : List UInt8 := dkwX3_init_1 ++ dktX3_init_2
def dkwX3_init_0 : List UInt8 := [42, 183, 0, 1, 42, 16, 48, 188, 10, 181, 0, 7, 42, 16, 48, 188, 10, 181, 0, 13, 42, 16, 48]
abbrev dktX3_init_0 : List UInt8 := dkwX3_init_0 ++ dktX3_init_1
theorem dksX3_init_0 : cX3_init.data.toList.drop 0 = dktX3_init_0 := by decide +kernel
theorem dksX3_init_1 : cX3_init.data.toList.drop 23 = dktX3_init_1 := dk_seg dksX3_init_0 23 rfl rfl
theorem dksX3_init_2 : cX3_init.data.toList.drop 47 = dktX3_init_2 := dk_seg dksX3_init_1 24 rfl rfl
theorem dksX3_init_3 : cX3_init.data.toList.drop 71 = dktX3_init_3 := dk_seg dksX3_init_2 24 rfl rfl
theorem dksX3_init_4 : cX3_init.data.toList.drop 94 = dktX3_init_4 := dk_seg dksX3_init_3 23 rfl rfl
theorem dksX3_init_5 : cX3_init.data.toList.drop 118 = dktX3_init_5 := dk_seg dksX3_init_4 24 rfl rfl
theorem dksX3_init_6 : cX3_init.data.toList.drop 142 = dktX3_init_6 := dk_seg dksX3_init_5 24 rfl rfl
theorem dksX3_init_7 : cX3_init.data.toList.drop 166 = dktX3_init_7 := dk_seg dksX3_init_6 24 rfl rfl
theorem dksX3_init_8 : cX3_init.data.toList.drop 190 = dktX3_init_8 := dk_seg dksX3_init_7 24 rfl rfl
theorem dksX3_init_9 : cX3_init.data.toList.drop 213 = dktX3_init_9 := dk_seg dksX3_init_8 23 rfl rfl
theorem dksX3_init_10 : cX3_init.data.toList.drop 237 = dktX3_init_10 := dk_seg dksX3_init_9 24 rfl rfl
theorem dksX3_init_11 : cX3_init.data.toList.drop 261 = dktX3_init_11 := dk_seg dksX3_init_10 24 rfl rfl
theorem dX3_init_0 : decode cX3_init 0 = .ok (.aload_n 0, 1) := dk_42 (dk_at dksX3_init_0 0 rfl rfl)
theorem dX3_init_1 : decode cX3_init 1 = .ok (.invokespecial 1, 3) := dk_183 0 1 (dk_at dksX3_init_0 1 rfl rfl)
theorem dX3_init_4 : decode cX3_init 4 = .ok (.aload_n 0, 1) := dk_42 (dk_at dksX3_init_0 4 rfl rfl)
theorem dX3_init_5 : decode cX3_init 5 = .ok (.bipush 48, 2) := dk_16 48 (dk_at dksX3_init_0 5 rfl rfl)
theorem dX3_init_7 : decode cX3_init 7 = .ok (.newarray .int, 2) := dk_188_10 (dk_at dksX3_init_0 7 rfl rfl)
theorem dX3_init_9 : decode cX3_init 9 = .ok (.putfield 7, 3) := dk_181 0 7 (dk_at dksX3_init_0 9 rfl rfl)
theorem dX3_init_12 : decode cX3_init 12 = .ok (.aload_n 0, 1) := dk_42 (dk_at dksX3_init_0 12 rfl rfl)
theorem dX3_init_13 : decode cX3_init 13 = .ok (.bipush 48, 2) := dk_16 48 (dk_at dksX3_init_0 13 rfl rfl)
theorem dX3_init_15 : decode cX3_init 15 = .ok (.newarray .int, 2) := dk_188_10 (dk_at dksX3_init_0 15 rfl rfl)
theorem dX3_init_17 : decode cX3_init 17 = .ok (.putfield 13, 3) := dk_181 0 13 (dk_at dksX3_init_0 17 rfl rfl)
theorem dX3_init_20 : decode cX3_init 20 = .ok (.aload_n 0, 1) := dk_42 (dk_at dksX3_init_0 20 rfl rfl)
theorem dX3_init_21 : decode cX3_init 21 = .ok (.bipush 48, 2) := dk_16 48 (dk_at dksX3_init_0 21 rfl rfl)
theorem dX3_init_23 : decode cX3_init 23 = .ok (.newarray .int, 2) := dk_188_10 (dk_at dksX3_init_1 0 rfl rfl)
theorem dX3_init_25 : decode cX3_init 25 = .ok (.putfield 16, 3) := dk_181 0 16 (dk_at dksX3_init_1 2 rfl rfl)
theorem dX3_init_28 : decode cX3_init 28 = .ok (.aload_n 0, 1) := dk_42 (dk_at dksX3_init_1 5 rfl rfl)
theorem dX3_init_29 : decode cX3_init 29 = .ok (.bipush 48, 2) := dk_16 48 (dk_at dksX3_init_1 6 rfl rfl)
theorem dX3_init_31 : decode cX3_init 31 = .ok (.newarray .int, 2) := dk_188_10 (dk_at dksX3_init_1 8 rfl rfl)
theorem dX3_init_33 : decode cX3_init 33 = .ok (.putfield 19, 3) := dk_181 0 19 (dk_at dksX3_init_1 10 rfl rfl)
theorem dX3_init_36 : decode cX3_init 36 = .ok (.aload_n 0, 1) := dk_42 (dk_at dksX3_init_1 13 rfl rfl)
theorem dX3_init_37 : decode cX3_init 37 = .ok (.bipush 6, 2) := dk_16 6 (dk_at dksX3_init_1 14 rfl rfl)
theorem dX3_init_39 : decode cX3_init 39 = .ok (.newarray .int, 2) := dk_188_10 (dk_at dksX3_init_1 16 rfl rfl)
theorem dX3_init_41 : decode cX3_init 41 = .ok (.putfield 22, 3) := dk_181 0 22 (dk_at dksX3_init_1 18 rfl rfl)
theorem dX3_init_44 : decode cX3_init 44 = .ok (.aload_n 0, 1) := dk_42 (dk_at dksX3_init_1 21 rfl rfl)
theorem dX3_init_45 : decode cX3_init 45 = .ok (.bipush 6, 2) := dk_16 6 (dk_at dksX3_init_1 22 rfl rfl)
theorem dX3_init_47 : decode cX3_init 47 = .ok (.newarray .int, 2) := dk_188_10 (dk_at dksX3_init_2 0 rfl rfl)
theorem dX3_init_49 : decode cX3_init 49 = .ok (.putfield 25, 3) := dk_181 0 25 (dk_at dksX3_init_2 2 rfl rfl)
theorem dX3_init_52 : decode cX3_init 52 = .ok (.aload_n 0, 1) := dk_42 (dk_at dksX3_init_2 5 rfl rfl)
theorem dX3_init_53 : decode cX3_init 53 = .ok (.bipush 6, 2) := dk_16 6 (dk_at dksX3_init_2 6 rfl rfl)
theorem dX3_init_55 : decode cX3_init 55 = .ok (.newarray .int, 2) := dk_188_10 (dk_at dksX3_init_2 8 rfl rfl)
theorem dX3_init_57 : decode cX3_init 57 = .ok (.putfield 28, 3) := dk_181 0 28 (dk_at dksX3_init_2 10 rfl rfl)
theorem dX3_init_60 : decode cX3_init 60 = .ok (.aload_n 0, 1) := dk_42 (dk_at dksX3_init_2 13 rfl rfl)
theorem dX3_init_61 : decode cX3_init 61 = .ok (.bipush 6, 2) := dk_16 6 (dk_at dksX3_init_2 14 rfl rfl)
theorem dX3_init_63 : decode cX3_init 63 = .ok (.newarray .int, 2) := dk_188_10 (dk_at dksX3_init_2 16 rfl rfl)
theorem dX3_init_65 : decode cX3_init 65 = .ok (.putfield 31, 3) := dk_181 0 31 (dk_at dksX3_init_2 18 rfl rfl)
theorem dX3_init_68 : decode cX3_init 68 = .ok (.aload_n 0, 1) := dk_42 (dk_at dksX3_init_2 21 rfl rfl)
theorem dX3_init_69 : decode cX3_init 69 = .ok (.bipush 6, 2) := dk_16 6 (dk_at dksX3_init_2 22 rfl rfl)
theorem dX3_init_71 : decode cX3_init 71 = .ok (.newarray .boolean, 2) := dk_188_4 (dk_at dksX3_init_3 0 rfl rfl)
theorem dX3_init_73 : decode cX3_init 73 = .ok (.putfield 34, 3) := dk_181 0 34 (dk_at dksX3_init_3 2 rfl rfl)
theorem dX3_init_76 : decode cX3_init 76 = .ok (.aload_n 0, 1) := dk_42 (dk_at dksX3_init_3 5 rfl rfl)
theorem dX3_init_77 : decode cX3_init 77 = .ok (.bipush 6, 2) := dk_16 6 (dk_at dksX3_init_3 6 rfl rfl)
theorem dX3_init_79 : decode cX3_init 79 = .ok (.newarray .int, 2) := dk_188_10 (dk_at dksX3_init_3 8 rfl rfl)
theorem dX3_init_81 : decode cX3_init 81 = .ok (.putfield 38, 3) := dk_181 0 38 (dk_at dksX3_init_3 10 rfl rfl)
theorem dX3_init_84 : decode cX3_init 84 = .ok (.aload_n 0, 1) := dk_42 (dk_at dksX3_init_3 13 rfl rfl)
theorem dX3_init_85 : decode cX3_init 85 = .ok (.sipush 144, 3) := dk_17 0 144 (dk_at dksX3_init_3 14 rfl rfl)
theorem dX3_init_88 : decode cX3_init 88 = .ok (.newarray .int, 2) := dk_188_10 (dk_at dksX3_init_3 17 rfl rfl)
theorem dX3_init_90 : decode cX3_init 90 = .ok (.putfield 41, 3) := dk_181 0 41 (dk_at dksX3_init_3 19 rfl rfl)
theorem dX3_init_93 : decode cX3_init 93 = .ok (.aload_n 0, 1) := dk_42 (dk_at dksX3_init_3 22 rfl rfl)
theorem dX3_init_94 : decode cX3_init 94 = .ok (.bipush 24, 2) := dk_16 24 (dk_at dksX3_init_4 0 rfl rfl)
theorem dX3_init_96 : decode cX3_init 96 = .ok (.newarray .int, 2) := dk_188_10 (dk_at dksX3_init_4 2 rfl rfl)
theorem dX3_init_98 : decode cX3_init 98 = .ok (.putfield 44, 3) := dk_181 0 44 (dk_at dksX3_init_4 4 rfl rfl)
theorem dX3_init_101 : decode cX3_init 101 = .ok (.aload_n 0, 1) := dk_42 (dk_at dksX3_init_4 7 rfl rfl)
theorem dX3_init_102 : decode cX3_init 102 = .ok (.bipush 24, 2) := dk_16 24 (dk_at dksX3_init_4 8 rfl rfl)
theorem dX3_init_104 : decode cX3_init 104 = .ok (.newarray .int, 2) := dk_188_10 (dk_at dksX3_init_4 10 rfl rfl)
theorem dX3_init_106 : decode cX3_init 106 = .ok (.putfield 47, 3) := dk_181 0 47 (dk_at dksX3_init_4 12 rfl rfl)
theorem dX3_init_109 : decode cX3_init 109 = .ok (.aload_n 0, 1) := dk_42 (dk_at dksX3_init_4 15 rfl rfl)
theorem dX3_init_110 : decode cX3_init 110 = .ok (.bipush 24, 2) := dk_16 24 (dk_at dksX3_init_4 16 rfl rfl)
theorem dX3_init_112 : decode cX3_init 112 = .ok (.newarray .int, 2) := dk_188_10 (dk_at dksX3_init_4 18 rfl rfl)
theorem dX3_init_114 : decode cX3_init 114 = .ok (.putfield 50, 3) := dk_181 0 50 (dk_at dksX3_init_4 20 rfl rfl)
theorem dX3_init_117 : decode cX3_init 117 = .ok (.aload_n 0, 1) := dk_42 (dk_at dksX3_init_4 23 rfl rfl)
theorem dX3_init_118 : decode cX3_init 118 = .ok (.bipush 72, 2) := dk_16 72 (dk_at dksX3_init_5 0 rfl rfl)
theorem dX3_init_120 : decode cX3_init 120 = .ok (.newarray .int, 2) := dk_188_10 (dk_at dksX3_init_5 2 rfl rfl)
theorem dX3_init_122 : decode cX3_init 122 = .ok (.putfield 53, 3) := dk_181 0 53 (dk_at dksX3_init_5 4 rfl rfl)
theorem dX3_init_125 : decode cX3_init 125 = .ok (.aload_n 0, 1) := dk_42 (dk_at dksX3_init_5 7 rfl rfl)
theorem dX3_init_126 : decode cX3_init 126 = .ok (.bipush 24, 2) := dk_16 24 (dk_at dksX3_init_5 8 rfl rfl)
theorem dX3_init_128 : decode cX3_init 128 = .ok (.newarray .int, 2) := dk_188_10 (dk_at dksX3_init_5 10 rfl rfl)
theorem dX3_init_130 : decode cX3_init 130 = .ok (.putfield 56, 3) := dk_181 0 56 (dk_at dksX3_init_5 12 rfl rfl)
theorem dX3_init_133 : decode cX3_init 133 = .ok (.aload_n 0, 1) := dk_42 (dk_at dksX3_init_5 15 rfl rfl)
theorem dX3_init_134 : decode cX3_init 134 = .ok (.bipush 24, 2) := dk_16 24 (dk_at dksX3_init_5 16 rfl rfl)
theorem dX3_init_136 : decode cX3_init 136 = .ok (.newarray .int, 2) := dk_188_10 (dk_at dksX3_init_5 18 rfl rfl)
theorem dX3_init_138 : decode cX3_init 138 = .ok (.putfield 59, 3) := dk_181 0 59 (dk_at dksX3_init_5 20 rfl rfl)
theorem dX3_init_141 : decode cX3_init 141 = .ok (.aload_n 0, 1) := dk_42 (dk_at dksX3_init_5 23 rfl rfl)
theorem dX3_init_142 : decode cX3_init 142 = .ok (.bipush 24, 2) := dk_16 24 (dk_at dksX3_init_6 0 rfl rfl)
theorem dX3_init_144 : decode cX3_init 144 = .ok (.newarray .int, 2) := dk_188_10 (dk_at dksX3_init_6 2 rfl rfl)
theorem dX3_init_146 : decode cX3_init 146 = .ok (.putfield 62, 3) := dk_181 0 62 (dk_at dksX3_init_6 4 rfl rfl)
theorem dX3_init_149 : decode cX3_init 149 = .ok (.aload_n 0, 1) := dk_42 (dk_at dksX3_init_6 7 rfl rfl)
theorem dX3_init_150 : decode cX3_init 150 = .ok (.bipush 24, 2) := dk_16 24 (dk_at dksX3_init_6 8 rfl rfl)
theorem dX3_init_152 : decode cX3_init 152 = .ok (.newarray .int, 2) := dk_188_10 (dk_at dksX3_init_6 10 rfl rfl)
theorem dX3_init_154 : decode cX3_init 154 = .ok (.putfield 65, 3) := dk_181 0 65 (dk_at dksX3_init_6 12 rfl rfl)
theorem dX3_init_157 : decode cX3_init 157 = .ok (.aload_n 0, 1) := dk_42 (dk_at dksX3_init_6 15 rfl rfl)
theorem dX3_init_158 : decode cX3_init 158 = .ok (.bipush 24, 2) := dk_16 24 (dk_at dksX3_init_6 16 rfl rfl)
theorem dX3_init_160 : decode cX3_init 160 = .ok (.newarray .int, 2) := dk_188_10 (dk_at dksX3_init_6 18 rfl rfl)
theorem dX3_init_162 : decode cX3_init 162 = .ok (.putfield 68, 3) := dk_181 0 68 (dk_at dksX3_init_6 20 rfl rfl)
theorem dX3_init_165 : decode cX3_init 165 = .ok (.aload_n 0, 1) := dk_42 (dk_at dksX3_init_6 23 rfl rfl)
theorem dX3_init_166 : decode cX3_init 166 = .ok (.bipush 10, 2) := dk_16 10 (dk_at dksX3_init_7 0 rfl rfl)
theorem dX3_init_168 : decode cX3_init 168 = .ok (.newarray .int, 2) := dk_188_10 (dk_at dksX3_init_7 2 rfl rfl)
theorem dX3_init_170 : decode cX3_init 170 = .ok (.putfield 71, 3) := dk_181 0 71 (dk_at dksX3_init_7 4 rfl rfl)
theorem dX3_init_173 : decode cX3_init 173 = .ok (.aload_n 0, 1) := dk_42 (dk_at dksX3_init_7 7 rfl rfl)
theorem dX3_init_174 : decode cX3_init 174 = .ok (.bipush 10, 2) := dk_16 10 (dk_at dksX3_init_7 8 rfl rfl)
theorem dX3_init_176 : decode cX3_init 176 = .ok (.newarray .int, 2) := dk_188_10 (dk_at dksX3_init_7 10 rfl rfl)
theorem dX3_init_178 : decode cX3_init 178 = .ok (.putfield 74, 3) := dk_181 0 74 (dk_at dksX3_init_7 12 rfl rfl)
theorem dX3_init_181 : decode cX3_init 181 = .ok (.aload_n 0, 1) := dk_42 (dk_at dksX3_init_7 15 rfl rfl)
theorem dX3_init_182 : decode cX3_init 182 = .ok (.sipush 300, 3) := dk_17 1 44 (dk_at dksX3_init_7 16 rfl rfl)
theorem dX3_init_185 : decode cX3_init 185 = .ok (.newarray .boolean, 2) := dk_188_4 (dk_at dksX3_init_7 19 rfl rfl)
theorem dX3_init_187 : decode cX3_init 187 = .ok (.putfield 77, 3) := dk_181 0 77 (dk_at dksX3_init_7 21 rfl rfl)
theorem dX3_init_190 : decode cX3_init 190 = .ok (.aload_n 0, 1) := dk_42 (dk_at dksX3_init_8 0 rfl rfl)
theorem dX3_init_191 : decode cX3_init 191 = .ok (.bipush 60, 2) := dk_16 60 (dk_at dksX3_init_8 1 rfl rfl)
theorem dX3_init_193 : decode cX3_init 193 = .ok (.newarray .boolean, 2) := dk_188_4 (dk_at dksX3_init_8 3 rfl rfl)
theorem dX3_init_195 : decode cX3_init 195 = .ok (.putfield 80, 3) := dk_181 0 80 (dk_at dksX3_init_8 5 rfl rfl)
theorem dX3_init_198 : decode cX3_init 198 = .ok (.aload_n 0, 1) := dk_42 (dk_at dksX3_init_8 8 rfl rfl)
theorem dX3_init_199 : decode cX3_init 199 = .ok (.sipush 240, 3) := dk_17 0 240 (dk_at dksX3_init_8 9 rfl rfl)
theorem dX3_init_202 : decode cX3_init 202 = .ok (.newarray .int, 2) := dk_188_10 (dk_at dksX3_init_8 12 rfl rfl)
theorem dX3_init_204 : decode cX3_init 204 = .ok (.putfield 83, 3) := dk_181 0 83 (dk_at dksX3_init_8 14 rfl rfl)
theorem dX3_init_207 : decode cX3_init 207 = .ok (.aload_n 0, 1) := dk_42 (dk_at dksX3_init_8 17 rfl rfl)
theorem dX3_init_208 : decode cX3_init 208 = .ok (.sipush 400, 3) := dk_17 1 144 (dk_at dksX3_init_8 18 rfl rfl)
theorem dX3_init_211 : decode cX3_init 211 = .ok (.newarray .int, 2) := dk_188_10 (dk_at dksX3_init_8 21 rfl rfl)
theorem dX3_init_213 : decode cX3_init 213 = .ok (.putfield 86, 3) := dk_181 0 86 (dk_at dksX3_init_9 0 rfl rfl)
theorem dX3_init_216 : decode cX3_init 216 = .ok (.aload_n 0, 1) := dk_42 (dk_at dksX3_init_9 3 rfl rfl)
theorem dX3_init_217 : decode cX3_init 217 = .ok (.sipush 400, 3) := dk_17 1 144 (dk_at dksX3_init_9 4 rfl rfl)
theorem dX3_init_220 : decode cX3_init 220 = .ok (.newarray .int, 2) := dk_188_10 (dk_at dksX3_init_9 7 rfl rfl)
theorem dX3_init_222 : decode cX3_init 222 = .ok (.putfield 89, 3) := dk_181 0 89 (dk_at dksX3_init_9 9 rfl rfl)
theorem dX3_init_225 : decode cX3_init 225 = .ok (.aload_n 0, 1) := dk_42 (dk_at dksX3_init_9 12 rfl rfl)
theorem dX3_init_226 : decode cX3_init 226 = .ok (.sipush 400, 3) := dk_17 1 144 (dk_at dksX3_init_9 13 rfl rfl)
theorem dX3_init_229 : decode cX3_init 229 = .ok (.newarray .int, 2) := dk_188_10 (dk_at dksX3_init_9 16 rfl rfl)
theorem dX3_init_231 : decode cX3_init 231 = .ok (.putfield 92, 3) := dk_181 0 92 (dk_at dksX3_init_9 18 rfl rfl)
theorem dX3_init_234 : decode cX3_init 234 = .ok (.iconst 0, 1) := dk_3 (dk_at dksX3_init_9 21 rfl rfl)
theorem dX3_init_235 : decode cX3_init 235 = .ok (.istore_n 1, 1) := dk_60 (dk_at dksX3_init_9 22 rfl rfl)
theorem dX3_init_236 : decode cX3_init 236 = .ok (.iload_n 1, 1) := dk_27 (dk_at dksX3_init_9 23 rfl rfl)
theorem dX3_init_237 : decode cX3_init 237 = .ok (.bipush 48, 2) := dk_16 48 (dk_at dksX3_init_10 0 rfl rfl)
theorem dX3_init_239 : decode cX3_init 239 = .ok (.if_icmp .ge 16, 3) := dk_162 0 16 (dk_at dksX3_init_10 2 rfl rfl)
theorem dX3_init_242 : decode cX3_init 242 = .ok (.aload_n 0, 1) := dk_42 (dk_at dksX3_init_10 5 rfl rfl)
theorem dX3_init_243 : decode cX3_init 243 = .ok (.getfield 7, 3) := dk_180 0 7 (dk_at dksX3_init_10 6 rfl rfl)
theorem dX3_init_246 : decode cX3_init 246 = .ok (.iload_n 1, 1) := dk_27 (dk_at dksX3_init_10 9 rfl rfl)
theorem dX3_init_247 : decode cX3_init 247 = .ok (.iconst (-1), 1) := dk_2 (dk_at dksX3_init_10 10 rfl rfl)
theorem dX3_init_248 : decode cX3_init 248 = .ok (.iastore, 1) := dk_79 (dk_at dksX3_init_10 11 rfl rfl)
theorem dX3_init_249 : decode cX3_init 249 = .ok (.iinc 1 1, 3) := dk_132 1 1 (dk_at dksX3_init_10 12 rfl rfl)
theorem dX3_init_252 : decode cX3_init 252 = .ok (.goto (-16), 3) := dk_167 255 240 (dk_at dksX3_init_10 15 rfl rfl)
theorem dX3_init_255 : decode cX3_init 255 = .ok (.iconst 0, 1) := dk_3 (dk_at dksX3_init_10 18 rfl rfl)
theorem dX3_init_256 : decode cX3_init 256 = .ok (.istore_n 1, 1) := dk_60 (dk_at dksX3_init_10 19 rfl rfl)
theorem dX3_init_257 : decode cX3_init 257 = .ok (.iload_n 1, 1) := dk_27 (dk_at dksX3_init_10 20 rfl rfl)
theorem dX3_init_258 : decode cX3_init 258 = .ok (.sipush 240, 3) := dk_17 0 240 (dk_at dksX3_init_10 21 rfl rfl)
theorem dX3_init_261 : decode cX3_init 261 = .ok (.if_icmp .ge 16, 3) := dk_162 0 16 (dk_at dksX3_init_11 0 rfl rfl)
theorem dX3_init_264 : decode cX3_init 264 = .ok (.aload_n 0, 1) := dk_42 (dk_at dksX3_init_11 3 rfl rfl)
theorem dX3_init_265 : decode cX3_init 265 = .ok (.getfield 83, 3) := dk_180 0 83 (dk_at dksX3_init_11 4 rfl rfl)
theorem dX3_init_268 : decode cX3_init 268 = .ok (.iload_n 1, 1) := dk_27 (dk_at dksX3_init_11 7 rfl rfl)
theorem dX3_init_269 : decode cX3_init 269 = .ok (.iconst (-1), 1) := dk_2 (dk_at dksX3_init_11 8 rfl rfl)
theorem dX3_init_270 : decode cX3_init 270 = .ok (.iastore, 1) := dk_79 (dk_at dksX3_init_11 9 rfl rfl)
theorem dX3_init_271 : decode cX3_init 271 = .ok (.iinc 1 1, 3) := dk_132 1 1 (dk_at dksX3_init_11 10 rfl rfl)
theorem dX3_init_274 : decode cX3_init 274 = .ok (.goto (-17), 3) := dk_167 255 239 (dk_at dksX3_init_11 13 rfl rfl)
theorem dX3_init_277 : decode cX3_init 277 = .ok (.return_, 1) := dk_177 (dk_at dksX3_init_11 16 rfl rfl)
abbrev cX3_thrown : ByteArray := prog_19_method_2_code
def yX3_thrown : MethodName := ⟨RX3, "thrown", "()I"⟩
theorem dX3_thrown_0 : decode cX3_thrown 0 = .ok (.aload_n 0, 1) := by decide +kernel
theorem dX3_thrown_1 : decode cX3_thrown 1 = .ok (.getfield 95, 3) := by decide +kernel
theorem dX3_thrown_4 : decode cX3_thrown 4 = .ok (.ireturn, 1) := by decide +kernel
abbrev cX3_tell : ByteArray := prog_19_method_14_code
def yX3_tell : MethodName := ⟨RX3, "tell", "(III)I"⟩
def dkwX3_tell_6 : List UInt8 := [79, 42, 3, 21, 4, 29, 182, 0, 127, 42, 27, 182, 0, 143, 42, 180, 0, 13, 21, 4, 46, 172]
abbrev dktX3_tell_6 : List UInt8 := dkwX3_tell_6 ++ []
def dkwX3_tell_5 : List UInt8 := [180, 0, 140, 79, 42, 89, 180, 0, 140, 4, 96, 181, 0, 140, 42, 180, 0, 13, 21, 4, 92, 46, 29, 96]
abbrev dktX3_tell_5 : List UInt8 := dkwX3_tell_5 ++ dktX3_tell_6
def dkwX3_tell_4 : List UInt8 := [153, 0, 5, 3, 172, 42, 180, 0, 7, 21, 4, 46, 2, 160, 0, 24, 42, 180, 0, 7, 21, 4, 42]
abbrev dktX3_tell_4 : List UInt8 := dkwX3_tell_4 ++ dktX3_tell_5
def dkwX3_tell_3 : List UInt8 := [42, 180, 0, 13, 21, 4, 46, 29, 96, 18, 139, 164, 0, 7, 4, 167, 0, 4, 3, 5, 182, 0, 106]
abbrev dktX3_tell_3 : List UInt8 := dkwX3_tell_3 ++ dktX3_tell_4
def dkwX3_tell_2 : List UInt8 := [153, 0, 5, 3, 172, 16, 12, 27, 104, 28, 96, 54, 4, 42, 42, 180, 0, 116, 17, 1, 44, 163, 0, 17]
abbrev dktX3_tell_2 : List UInt8 := dkwX3_tell_2 ++ dktX3_tell_3
def dkwX3_tell_1 : List UInt8 := [153, 0, 13, 29, 4, 18, 138, 184, 0, 102, 154, 0, 7, 4, 167, 0, 4, 3, 4, 182, 0, 106]
abbrev dktX3_tell_1 : List UInt8 := dkwX3_tell_1 ++ dktX3_tell_2
def dkwX3_tell_0 : List UInt8 := [42, 3, 181, 0, 95, 42, 27, 3, 6, 184, 0, 102, 153, 0, 23, 28, 3, 16, 11, 184, 0, 102]
abbrev dktX3_tell_0 : List UInt8 := dkwX3_tell_0 ++ dktX3_tell_1
theorem dksX3_tell_0 : cX3_tell.data.toList.drop 0 = dktX3_tell_0 := by decide +kernel
theorem dksX3_tell_1 : cX3_tell.data.toList.drop 22 = dktX3_tell_1 := dk_seg dksX3_tell_0 22 rfl rfl
theorem dksX3_tell_2 : cX3_tell.data.toList.drop 44 = dktX3_tell_2 := dk_seg dksX3_tell_1 22 rfl rfl
theorem dksX3_tell_3 : cX3_tell.data.toList.drop 68 = dktX3_tell_3 := dk_seg dksX3_tell_2 24 rfl rfl
theorem dksX3_tell_4 : cX3_tell.data.toList.drop 91 = dktX3_tell_4 := dk_seg dksX3_tell_3 23 rfl rfl
theorem dksX3_tell_5 : cX3_tell.data.toList.drop 114 = dktX3_tell_5 := dk_seg dksX3_tell_4 23 rfl rfl
theorem dksX3_tell_6 : cX3_tell.data.toList.drop 138 = dktX3_tell_6 := dk_seg dksX3_tell_5 24 rfl rfl
theorem dX3_tell_0 : decode cX3_tell 0 = .ok (.aload_n 0, 1) := dk_42 (dk_at dksX3_tell_0 0 rfl rfl)
theorem dX3_tell_1 : decode cX3_tell 1 = .ok (.iconst 0, 1) := dk_3 (dk_at dksX3_tell_0 1 rfl rfl)
theorem dX3_tell_2 : decode cX3_tell 2 = .ok (.putfield 95, 3) := dk_181 0 95 (dk_at dksX3_tell_0 2 rfl rfl)
theorem dX3_tell_5 : decode cX3_tell 5 = .ok (.aload_n 0, 1) := dk_42 (dk_at dksX3_tell_0 5 rfl rfl)
theorem dX3_tell_6 : decode cX3_tell 6 = .ok (.iload_n 1, 1) := dk_27 (dk_at dksX3_tell_0 6 rfl rfl)
theorem dX3_tell_7 : decode cX3_tell 7 = .ok (.iconst 0, 1) := dk_3 (dk_at dksX3_tell_0 7 rfl rfl)
theorem dX3_tell_8 : decode cX3_tell 8 = .ok (.iconst 3, 1) := dk_6 (dk_at dksX3_tell_0 8 rfl rfl)
theorem dX3_tell_9 : decode cX3_tell 9 = .ok (.invokestatic 102, 3) := dk_184 0 102 (dk_at dksX3_tell_0 9 rfl rfl)
theorem dX3_tell_12 : decode cX3_tell 12 = .ok (.ifCond .eq 23, 3) := dk_153 0 23 (dk_at dksX3_tell_0 12 rfl rfl)
theorem dX3_tell_15 : decode cX3_tell 15 = .ok (.iload_n 2, 1) := dk_28 (dk_at dksX3_tell_0 15 rfl rfl)
theorem dX3_tell_16 : decode cX3_tell 16 = .ok (.iconst 0, 1) := dk_3 (dk_at dksX3_tell_0 16 rfl rfl)
theorem dX3_tell_17 : decode cX3_tell 17 = .ok (.bipush 11, 2) := dk_16 11 (dk_at dksX3_tell_0 17 rfl rfl)
theorem dX3_tell_19 : decode cX3_tell 19 = .ok (.invokestatic 102, 3) := dk_184 0 102 (dk_at dksX3_tell_0 19 rfl rfl)
theorem dX3_tell_22 : decode cX3_tell 22 = .ok (.ifCond .eq 13, 3) := dk_153 0 13 (dk_at dksX3_tell_1 0 rfl rfl)
theorem dX3_tell_25 : decode cX3_tell 25 = .ok (.iload_n 3, 1) := dk_29 (dk_at dksX3_tell_1 3 rfl rfl)
theorem dX3_tell_26 : decode cX3_tell 26 = .ok (.iconst 1, 1) := dk_4 (dk_at dksX3_tell_1 4 rfl rfl)
theorem dX3_tell_27 : decode cX3_tell 27 = .ok (.ldc 138, 2) := dk_18 138 (dk_at dksX3_tell_1 5 rfl rfl)
theorem dX3_tell_29 : decode cX3_tell 29 = .ok (.invokestatic 102, 3) := dk_184 0 102 (dk_at dksX3_tell_1 7 rfl rfl)
theorem dX3_tell_32 : decode cX3_tell 32 = .ok (.ifCond .ne 7, 3) := dk_154 0 7 (dk_at dksX3_tell_1 10 rfl rfl)
theorem dX3_tell_35 : decode cX3_tell 35 = .ok (.iconst 1, 1) := dk_4 (dk_at dksX3_tell_1 13 rfl rfl)
theorem dX3_tell_36 : decode cX3_tell 36 = .ok (.goto 4, 3) := dk_167 0 4 (dk_at dksX3_tell_1 14 rfl rfl)
theorem dX3_tell_39 : decode cX3_tell 39 = .ok (.iconst 0, 1) := dk_3 (dk_at dksX3_tell_1 17 rfl rfl)
theorem dX3_tell_40 : decode cX3_tell 40 = .ok (.iconst 1, 1) := dk_4 (dk_at dksX3_tell_1 18 rfl rfl)
theorem dX3_tell_41 : decode cX3_tell 41 = .ok (.invokevirtual 106, 3) := dk_182 0 106 (dk_at dksX3_tell_1 19 rfl rfl)
theorem dX3_tell_44 : decode cX3_tell 44 = .ok (.ifCond .eq 5, 3) := dk_153 0 5 (dk_at dksX3_tell_2 0 rfl rfl)
theorem dX3_tell_47 : decode cX3_tell 47 = .ok (.iconst 0, 1) := dk_3 (dk_at dksX3_tell_2 3 rfl rfl)
theorem dX3_tell_48 : decode cX3_tell 48 = .ok (.ireturn, 1) := dk_172 (dk_at dksX3_tell_2 4 rfl rfl)
theorem dX3_tell_49 : decode cX3_tell 49 = .ok (.bipush 12, 2) := dk_16 12 (dk_at dksX3_tell_2 5 rfl rfl)
theorem dX3_tell_51 : decode cX3_tell 51 = .ok (.iload_n 1, 1) := dk_27 (dk_at dksX3_tell_2 7 rfl rfl)
theorem dX3_tell_52 : decode cX3_tell 52 = .ok (.imul, 1) := dk_104 (dk_at dksX3_tell_2 8 rfl rfl)
theorem dX3_tell_53 : decode cX3_tell 53 = .ok (.iload_n 2, 1) := dk_28 (dk_at dksX3_tell_2 9 rfl rfl)
theorem dX3_tell_54 : decode cX3_tell 54 = .ok (.iadd, 1) := dk_96 (dk_at dksX3_tell_2 10 rfl rfl)
theorem dX3_tell_55 : decode cX3_tell 55 = .ok (.istore 4, 2) := dk_54 4 (dk_at dksX3_tell_2 11 rfl rfl)
theorem dX3_tell_57 : decode cX3_tell 57 = .ok (.aload_n 0, 1) := dk_42 (dk_at dksX3_tell_2 13 rfl rfl)
theorem dX3_tell_58 : decode cX3_tell 58 = .ok (.aload_n 0, 1) := dk_42 (dk_at dksX3_tell_2 14 rfl rfl)
theorem dX3_tell_59 : decode cX3_tell 59 = .ok (.getfield 116, 3) := dk_180 0 116 (dk_at dksX3_tell_2 15 rfl rfl)
theorem dX3_tell_62 : decode cX3_tell 62 = .ok (.sipush 300, 3) := dk_17 1 44 (dk_at dksX3_tell_2 18 rfl rfl)
theorem dX3_tell_65 : decode cX3_tell 65 = .ok (.if_icmp .gt 17, 3) := dk_163 0 17 (dk_at dksX3_tell_2 21 rfl rfl)
theorem dX3_tell_68 : decode cX3_tell 68 = .ok (.aload_n 0, 1) := dk_42 (dk_at dksX3_tell_3 0 rfl rfl)
theorem dX3_tell_69 : decode cX3_tell 69 = .ok (.getfield 13, 3) := dk_180 0 13 (dk_at dksX3_tell_3 1 rfl rfl)
theorem dX3_tell_72 : decode cX3_tell 72 = .ok (.iload 4, 2) := dk_21 4 (dk_at dksX3_tell_3 4 rfl rfl)
theorem dX3_tell_74 : decode cX3_tell 74 = .ok (.iaload, 1) := dk_46 (dk_at dksX3_tell_3 6 rfl rfl)
theorem dX3_tell_75 : decode cX3_tell 75 = .ok (.iload_n 3, 1) := dk_29 (dk_at dksX3_tell_3 7 rfl rfl)
theorem dX3_tell_76 : decode cX3_tell 76 = .ok (.iadd, 1) := dk_96 (dk_at dksX3_tell_3 8 rfl rfl)
theorem dX3_tell_77 : decode cX3_tell 77 = .ok (.ldc 139, 2) := dk_18 139 (dk_at dksX3_tell_3 9 rfl rfl)
theorem dX3_tell_79 : decode cX3_tell 79 = .ok (.if_icmp .le 7, 3) := dk_164 0 7 (dk_at dksX3_tell_3 11 rfl rfl)
theorem dX3_tell_82 : decode cX3_tell 82 = .ok (.iconst 1, 1) := dk_4 (dk_at dksX3_tell_3 14 rfl rfl)
theorem dX3_tell_83 : decode cX3_tell 83 = .ok (.goto 4, 3) := dk_167 0 4 (dk_at dksX3_tell_3 15 rfl rfl)
theorem dX3_tell_86 : decode cX3_tell 86 = .ok (.iconst 0, 1) := dk_3 (dk_at dksX3_tell_3 18 rfl rfl)
theorem dX3_tell_87 : decode cX3_tell 87 = .ok (.iconst 2, 1) := dk_5 (dk_at dksX3_tell_3 19 rfl rfl)
theorem dX3_tell_88 : decode cX3_tell 88 = .ok (.invokevirtual 106, 3) := dk_182 0 106 (dk_at dksX3_tell_3 20 rfl rfl)
theorem dX3_tell_91 : decode cX3_tell 91 = .ok (.ifCond .eq 5, 3) := dk_153 0 5 (dk_at dksX3_tell_4 0 rfl rfl)
theorem dX3_tell_94 : decode cX3_tell 94 = .ok (.iconst 0, 1) := dk_3 (dk_at dksX3_tell_4 3 rfl rfl)
theorem dX3_tell_95 : decode cX3_tell 95 = .ok (.ireturn, 1) := dk_172 (dk_at dksX3_tell_4 4 rfl rfl)
theorem dX3_tell_96 : decode cX3_tell 96 = .ok (.aload_n 0, 1) := dk_42 (dk_at dksX3_tell_4 5 rfl rfl)
theorem dX3_tell_97 : decode cX3_tell 97 = .ok (.getfield 7, 3) := dk_180 0 7 (dk_at dksX3_tell_4 6 rfl rfl)
theorem dX3_tell_100 : decode cX3_tell 100 = .ok (.iload 4, 2) := dk_21 4 (dk_at dksX3_tell_4 9 rfl rfl)
theorem dX3_tell_102 : decode cX3_tell 102 = .ok (.iaload, 1) := dk_46 (dk_at dksX3_tell_4 11 rfl rfl)
theorem dX3_tell_103 : decode cX3_tell 103 = .ok (.iconst (-1), 1) := dk_2 (dk_at dksX3_tell_4 12 rfl rfl)
theorem dX3_tell_104 : decode cX3_tell 104 = .ok (.if_icmp .ne 24, 3) := dk_160 0 24 (dk_at dksX3_tell_4 13 rfl rfl)
theorem dX3_tell_107 : decode cX3_tell 107 = .ok (.aload_n 0, 1) := dk_42 (dk_at dksX3_tell_4 16 rfl rfl)
theorem dX3_tell_108 : decode cX3_tell 108 = .ok (.getfield 7, 3) := dk_180 0 7 (dk_at dksX3_tell_4 17 rfl rfl)
theorem dX3_tell_111 : decode cX3_tell 111 = .ok (.iload 4, 2) := dk_21 4 (dk_at dksX3_tell_4 20 rfl rfl)
theorem dX3_tell_113 : decode cX3_tell 113 = .ok (.aload_n 0, 1) := dk_42 (dk_at dksX3_tell_4 22 rfl rfl)
theorem dX3_tell_114 : decode cX3_tell 114 = .ok (.getfield 140, 3) := dk_180 0 140 (dk_at dksX3_tell_5 0 rfl rfl)
theorem dX3_tell_117 : decode cX3_tell 117 = .ok (.iastore, 1) := dk_79 (dk_at dksX3_tell_5 3 rfl rfl)
theorem dX3_tell_118 : decode cX3_tell 118 = .ok (.aload_n 0, 1) := dk_42 (dk_at dksX3_tell_5 4 rfl rfl)
theorem dX3_tell_119 : decode cX3_tell 119 = .ok (.dup, 1) := dk_89 (dk_at dksX3_tell_5 5 rfl rfl)
theorem dX3_tell_120 : decode cX3_tell 120 = .ok (.getfield 140, 3) := dk_180 0 140 (dk_at dksX3_tell_5 6 rfl rfl)
theorem dX3_tell_123 : decode cX3_tell 123 = .ok (.iconst 1, 1) := dk_4 (dk_at dksX3_tell_5 9 rfl rfl)
theorem dX3_tell_124 : decode cX3_tell 124 = .ok (.iadd, 1) := dk_96 (dk_at dksX3_tell_5 10 rfl rfl)
theorem dX3_tell_125 : decode cX3_tell 125 = .ok (.putfield 140, 3) := dk_181 0 140 (dk_at dksX3_tell_5 11 rfl rfl)
theorem dX3_tell_128 : decode cX3_tell 128 = .ok (.aload_n 0, 1) := dk_42 (dk_at dksX3_tell_5 14 rfl rfl)
theorem dX3_tell_129 : decode cX3_tell 129 = .ok (.getfield 13, 3) := dk_180 0 13 (dk_at dksX3_tell_5 15 rfl rfl)
theorem dX3_tell_132 : decode cX3_tell 132 = .ok (.iload 4, 2) := dk_21 4 (dk_at dksX3_tell_5 18 rfl rfl)
theorem dX3_tell_134 : decode cX3_tell 134 = .ok (.dup2, 1) := dk_92 (dk_at dksX3_tell_5 20 rfl rfl)
theorem dX3_tell_135 : decode cX3_tell 135 = .ok (.iaload, 1) := dk_46 (dk_at dksX3_tell_5 21 rfl rfl)
theorem dX3_tell_136 : decode cX3_tell 136 = .ok (.iload_n 3, 1) := dk_29 (dk_at dksX3_tell_5 22 rfl rfl)
theorem dX3_tell_137 : decode cX3_tell 137 = .ok (.iadd, 1) := dk_96 (dk_at dksX3_tell_5 23 rfl rfl)
theorem dX3_tell_138 : decode cX3_tell 138 = .ok (.iastore, 1) := dk_79 (dk_at dksX3_tell_6 0 rfl rfl)
theorem dX3_tell_139 : decode cX3_tell 139 = .ok (.aload_n 0, 1) := dk_42 (dk_at dksX3_tell_6 1 rfl rfl)
theorem dX3_tell_140 : decode cX3_tell 140 = .ok (.iconst 0, 1) := dk_3 (dk_at dksX3_tell_6 2 rfl rfl)
theorem dX3_tell_141 : decode cX3_tell 141 = .ok (.iload 4, 2) := dk_21 4 (dk_at dksX3_tell_6 3 rfl rfl)
theorem dX3_tell_143 : decode cX3_tell 143 = .ok (.iload_n 3, 1) := dk_29 (dk_at dksX3_tell_6 5 rfl rfl)
theorem dX3_tell_144 : decode cX3_tell 144 = .ok (.invokevirtual 127, 3) := dk_182 0 127 (dk_at dksX3_tell_6 6 rfl rfl)
theorem dX3_tell_147 : decode cX3_tell 147 = .ok (.aload_n 0, 1) := dk_42 (dk_at dksX3_tell_6 9 rfl rfl)
theorem dX3_tell_148 : decode cX3_tell 148 = .ok (.iload_n 1, 1) := dk_27 (dk_at dksX3_tell_6 10 rfl rfl)
theorem dX3_tell_149 : decode cX3_tell 149 = .ok (.invokevirtual 143, 3) := dk_182 0 143 (dk_at dksX3_tell_6 11 rfl rfl)
theorem dX3_tell_152 : decode cX3_tell 152 = .ok (.aload_n 0, 1) := dk_42 (dk_at dksX3_tell_6 14 rfl rfl)
theorem dX3_tell_153 : decode cX3_tell 153 = .ok (.getfield 13, 3) := dk_180 0 13 (dk_at dksX3_tell_6 15 rfl rfl)
theorem dX3_tell_156 : decode cX3_tell 156 = .ok (.iload 4, 2) := dk_21 4 (dk_at dksX3_tell_6 18 rfl rfl)
theorem dX3_tell_158 : decode cX3_tell 158 = .ok (.iaload, 1) := dk_46 (dk_at dksX3_tell_6 20 rfl rfl)
theorem dX3_tell_159 : decode cX3_tell 159 = .ok (.ireturn, 1) := dk_172 (dk_at dksX3_tell_6 21 rfl rfl)
abbrev cX3_within : ByteArray := prog_19_method_3_code
def yX3_within : MethodName := ⟨RX3, "within", "(III)Z"⟩
def dkwX3_within_0 : List UInt8 := [26, 27, 161, 0, 12, 26, 28, 163, 0, 7, 4, 167, 0, 4, 3, 172]
abbrev dktX3_within_0 : List UInt8 := dkwX3_within_0 ++ []
theorem dksX3_within_0 : cX3_within.data.toList.drop 0 = dktX3_within_0 := by decide +kernel
theorem dX3_within_0 : decode cX3_within 0 = .ok (.iload_n 0, 1) := dk_26 (dk_at dksX3_within_0 0 rfl rfl)
theorem dX3_within_1 : decode cX3_within 1 = .ok (.iload_n 1, 1) := dk_27 (dk_at dksX3_within_0 1 rfl rfl)
theorem dX3_within_2 : decode cX3_within 2 = .ok (.if_icmp .lt 12, 3) := dk_161 0 12 (dk_at dksX3_within_0 2 rfl rfl)
theorem dX3_within_5 : decode cX3_within 5 = .ok (.iload_n 0, 1) := dk_26 (dk_at dksX3_within_0 5 rfl rfl)
theorem dX3_within_6 : decode cX3_within 6 = .ok (.iload_n 2, 1) := dk_28 (dk_at dksX3_within_0 6 rfl rfl)
theorem dX3_within_7 : decode cX3_within 7 = .ok (.if_icmp .gt 7, 3) := dk_163 0 7 (dk_at dksX3_within_0 7 rfl rfl)
theorem dX3_within_10 : decode cX3_within 10 = .ok (.iconst 1, 1) := dk_4 (dk_at dksX3_within_0 10 rfl rfl)
theorem dX3_within_11 : decode cX3_within 11 = .ok (.goto 4, 3) := dk_167 0 4 (dk_at dksX3_within_0 11 rfl rfl)
theorem dX3_within_14 : decode cX3_within 14 = .ok (.iconst 0, 1) := dk_3 (dk_at dksX3_within_0 14 rfl rfl)
theorem dX3_within_15 : decode cX3_within 15 = .ok (.ireturn, 1) := dk_172 (dk_at dksX3_within_0 15 rfl rfl)
abbrev cX3_fails : ByteArray := prog_19_method_4_code
def yX3_fails : MethodName := ⟨RX3, "fails", "(ZI)Z"⟩
def dkwX3_fails_1 : List UInt8 := [167, 0, 4, 3, 172]
abbrev dktX3_fails_1 : List UInt8 := dkwX3_fails_1 ++ []
def dkwX3_fails_0 : List UInt8 := [27, 153, 0, 15, 42, 180, 0, 95, 154, 0, 8, 42, 28, 181, 0, 95, 42, 180, 0, 95, 153, 0, 7, 4]
abbrev dktX3_fails_0 : List UInt8 := dkwX3_fails_0 ++ dktX3_fails_1
theorem dksX3_fails_0 : cX3_fails.data.toList.drop 0 = dktX3_fails_0 := by decide +kernel
theorem dksX3_fails_1 : cX3_fails.data.toList.drop 24 = dktX3_fails_1 := dk_seg dksX3_fails_0 24 rfl rfl
theorem dX3_fails_0 : decode cX3_fails 0 = .ok (.iload_n 1, 1) := dk_27 (dk_at dksX3_fails_0 0 rfl rfl)
theorem dX3_fails_1 : decode cX3_fails 1 = .ok (.ifCond .eq 15, 3) := dk_153 0 15 (dk_at dksX3_fails_0 1 rfl rfl)
theorem dX3_fails_4 : decode cX3_fails 4 = .ok (.aload_n 0, 1) := dk_42 (dk_at dksX3_fails_0 4 rfl rfl)
theorem dX3_fails_5 : decode cX3_fails 5 = .ok (.getfield 95, 3) := dk_180 0 95 (dk_at dksX3_fails_0 5 rfl rfl)
theorem dX3_fails_8 : decode cX3_fails 8 = .ok (.ifCond .ne 8, 3) := dk_154 0 8 (dk_at dksX3_fails_0 8 rfl rfl)
theorem dX3_fails_11 : decode cX3_fails 11 = .ok (.aload_n 0, 1) := dk_42 (dk_at dksX3_fails_0 11 rfl rfl)
theorem dX3_fails_12 : decode cX3_fails 12 = .ok (.iload_n 2, 1) := dk_28 (dk_at dksX3_fails_0 12 rfl rfl)
theorem dX3_fails_13 : decode cX3_fails 13 = .ok (.putfield 95, 3) := dk_181 0 95 (dk_at dksX3_fails_0 13 rfl rfl)
theorem dX3_fails_16 : decode cX3_fails 16 = .ok (.aload_n 0, 1) := dk_42 (dk_at dksX3_fails_0 16 rfl rfl)
theorem dX3_fails_17 : decode cX3_fails 17 = .ok (.getfield 95, 3) := dk_180 0 95 (dk_at dksX3_fails_0 17 rfl rfl)
theorem dX3_fails_20 : decode cX3_fails 20 = .ok (.ifCond .eq 7, 3) := dk_153 0 7 (dk_at dksX3_fails_0 20 rfl rfl)
theorem dX3_fails_23 : decode cX3_fails 23 = .ok (.iconst 1, 1) := dk_4 (dk_at dksX3_fails_0 23 rfl rfl)
theorem dX3_fails_24 : decode cX3_fails 24 = .ok (.goto 4, 3) := dk_167 0 4 (dk_at dksX3_fails_1 0 rfl rfl)
theorem dX3_fails_27 : decode cX3_fails 27 = .ok (.iconst 0, 1) := dk_3 (dk_at dksX3_fails_1 3 rfl rfl)
theorem dX3_fails_28 : decode cX3_fails 28 = .ok (.ireturn, 1) := dk_172 (dk_at dksX3_fails_1 4 rfl rfl)
abbrev cX3_enters : ByteArray := prog_19_method_8_code
def yX3_enters : MethodName := ⟨RX3, "enters", "(III)V"⟩
def dkwX3_enters_1 : List UInt8 := [42, 180, 0, 92, 42, 180, 0, 116, 29, 79, 42, 89, 180, 0, 116, 4, 96, 181, 0, 116, 177]
abbrev dktX3_enters_1 : List UInt8 := dkwX3_enters_1 ++ []
def dkwX3_enters_0 : List UInt8 := [29, 158, 0, 43, 42, 180, 0, 86, 42, 180, 0, 116, 27, 79, 42, 180, 0, 89, 42, 180, 0, 116, 28, 79]
abbrev dktX3_enters_0 : List UInt8 := dkwX3_enters_0 ++ dktX3_enters_1
theorem dksX3_enters_0 : cX3_enters.data.toList.drop 0 = dktX3_enters_0 := by decide +kernel
theorem dksX3_enters_1 : cX3_enters.data.toList.drop 24 = dktX3_enters_1 := dk_seg dksX3_enters_0 24 rfl rfl
theorem dX3_enters_0 : decode cX3_enters 0 = .ok (.iload_n 3, 1) := dk_29 (dk_at dksX3_enters_0 0 rfl rfl)
theorem dX3_enters_1 : decode cX3_enters 1 = .ok (.ifCond .le 43, 3) := dk_158 0 43 (dk_at dksX3_enters_0 1 rfl rfl)
theorem dX3_enters_4 : decode cX3_enters 4 = .ok (.aload_n 0, 1) := dk_42 (dk_at dksX3_enters_0 4 rfl rfl)
theorem dX3_enters_5 : decode cX3_enters 5 = .ok (.getfield 86, 3) := dk_180 0 86 (dk_at dksX3_enters_0 5 rfl rfl)
theorem dX3_enters_8 : decode cX3_enters 8 = .ok (.aload_n 0, 1) := dk_42 (dk_at dksX3_enters_0 8 rfl rfl)
theorem dX3_enters_9 : decode cX3_enters 9 = .ok (.getfield 116, 3) := dk_180 0 116 (dk_at dksX3_enters_0 9 rfl rfl)
theorem dX3_enters_12 : decode cX3_enters 12 = .ok (.iload_n 1, 1) := dk_27 (dk_at dksX3_enters_0 12 rfl rfl)
theorem dX3_enters_13 : decode cX3_enters 13 = .ok (.iastore, 1) := dk_79 (dk_at dksX3_enters_0 13 rfl rfl)
theorem dX3_enters_14 : decode cX3_enters 14 = .ok (.aload_n 0, 1) := dk_42 (dk_at dksX3_enters_0 14 rfl rfl)
theorem dX3_enters_15 : decode cX3_enters 15 = .ok (.getfield 89, 3) := dk_180 0 89 (dk_at dksX3_enters_0 15 rfl rfl)
theorem dX3_enters_18 : decode cX3_enters 18 = .ok (.aload_n 0, 1) := dk_42 (dk_at dksX3_enters_0 18 rfl rfl)
theorem dX3_enters_19 : decode cX3_enters 19 = .ok (.getfield 116, 3) := dk_180 0 116 (dk_at dksX3_enters_0 19 rfl rfl)
theorem dX3_enters_22 : decode cX3_enters 22 = .ok (.iload_n 2, 1) := dk_28 (dk_at dksX3_enters_0 22 rfl rfl)
theorem dX3_enters_23 : decode cX3_enters 23 = .ok (.iastore, 1) := dk_79 (dk_at dksX3_enters_0 23 rfl rfl)
theorem dX3_enters_24 : decode cX3_enters 24 = .ok (.aload_n 0, 1) := dk_42 (dk_at dksX3_enters_1 0 rfl rfl)
theorem dX3_enters_25 : decode cX3_enters 25 = .ok (.getfield 92, 3) := dk_180 0 92 (dk_at dksX3_enters_1 1 rfl rfl)
theorem dX3_enters_28 : decode cX3_enters 28 = .ok (.aload_n 0, 1) := dk_42 (dk_at dksX3_enters_1 4 rfl rfl)
theorem dX3_enters_29 : decode cX3_enters 29 = .ok (.getfield 116, 3) := dk_180 0 116 (dk_at dksX3_enters_1 5 rfl rfl)
theorem dX3_enters_32 : decode cX3_enters 32 = .ok (.iload_n 3, 1) := dk_29 (dk_at dksX3_enters_1 8 rfl rfl)
theorem dX3_enters_33 : decode cX3_enters 33 = .ok (.iastore, 1) := dk_79 (dk_at dksX3_enters_1 9 rfl rfl)
theorem dX3_enters_34 : decode cX3_enters 34 = .ok (.aload_n 0, 1) := dk_42 (dk_at dksX3_enters_1 10 rfl rfl)
theorem dX3_enters_35 : decode cX3_enters 35 = .ok (.dup, 1) := dk_89 (dk_at dksX3_enters_1 11 rfl rfl)
theorem dX3_enters_36 : decode cX3_enters 36 = .ok (.getfield 116, 3) := dk_180 0 116 (dk_at dksX3_enters_1 12 rfl rfl)
theorem dX3_enters_39 : decode cX3_enters 39 = .ok (.iconst 1, 1) := dk_4 (dk_at dksX3_enters_1 15 rfl rfl)
theorem dX3_enters_40 : decode cX3_enters 40 = .ok (.iadd, 1) := dk_96 (dk_at dksX3_enters_1 16 rfl rfl)
theorem dX3_enters_41 : decode cX3_enters 41 = .ok (.putfield 116, 3) := dk_181 0 116 (dk_at dksX3_enters_1 17 rfl rfl)
theorem dX3_enters_44 : decode cX3_enters 44 = .ok (.return_, 1) := dk_177 (dk_at dksX3_enters_1 20 rfl rfl)
abbrev cX3_goesThrough : ByteArray := prog_19_method_13_code
def yX3_goesThrough : MethodName := ⟨RX3, "goesThrough", "(I)V"⟩
def dkwX3_goesThrough_1 : List UInt8 := [46, 27, 160, 0, 9, 42, 28, 182, 0, 135, 62, 132, 2, 1, 167, 255, 220, 177]
abbrev dktX3_goesThrough_1 : List UInt8 := dkwX3_goesThrough_1 ++ []
def dkwX3_goesThrough_0 : List UInt8 := [3, 61, 28, 42, 180, 0, 99, 162, 0, 34, 42, 180, 0, 34, 28, 51, 153, 0, 19, 42, 180, 0, 22, 28]
abbrev dktX3_goesThrough_0 : List UInt8 := dkwX3_goesThrough_0 ++ dktX3_goesThrough_1
theorem dksX3_goesThrough_0 : cX3_goesThrough.data.toList.drop 0 = dktX3_goesThrough_0 := by decide +kernel
theorem dksX3_goesThrough_1 : cX3_goesThrough.data.toList.drop 24 = dktX3_goesThrough_1 := dk_seg dksX3_goesThrough_0 24 rfl rfl
theorem dX3_goesThrough_0 : decode cX3_goesThrough 0 = .ok (.iconst 0, 1) := dk_3 (dk_at dksX3_goesThrough_0 0 rfl rfl)
theorem dX3_goesThrough_1 : decode cX3_goesThrough 1 = .ok (.istore_n 2, 1) := dk_61 (dk_at dksX3_goesThrough_0 1 rfl rfl)
theorem dX3_goesThrough_2 : decode cX3_goesThrough 2 = .ok (.iload_n 2, 1) := dk_28 (dk_at dksX3_goesThrough_0 2 rfl rfl)
theorem dX3_goesThrough_3 : decode cX3_goesThrough 3 = .ok (.aload_n 0, 1) := dk_42 (dk_at dksX3_goesThrough_0 3 rfl rfl)
theorem dX3_goesThrough_4 : decode cX3_goesThrough 4 = .ok (.getfield 99, 3) := dk_180 0 99 (dk_at dksX3_goesThrough_0 4 rfl rfl)
theorem dX3_goesThrough_7 : decode cX3_goesThrough 7 = .ok (.if_icmp .ge 34, 3) := dk_162 0 34 (dk_at dksX3_goesThrough_0 7 rfl rfl)
theorem dX3_goesThrough_10 : decode cX3_goesThrough 10 = .ok (.aload_n 0, 1) := dk_42 (dk_at dksX3_goesThrough_0 10 rfl rfl)
theorem dX3_goesThrough_11 : decode cX3_goesThrough 11 = .ok (.getfield 34, 3) := dk_180 0 34 (dk_at dksX3_goesThrough_0 11 rfl rfl)
theorem dX3_goesThrough_14 : decode cX3_goesThrough 14 = .ok (.iload_n 2, 1) := dk_28 (dk_at dksX3_goesThrough_0 14 rfl rfl)
theorem dX3_goesThrough_15 : decode cX3_goesThrough 15 = .ok (.baload, 1) := dk_51 (dk_at dksX3_goesThrough_0 15 rfl rfl)
theorem dX3_goesThrough_16 : decode cX3_goesThrough 16 = .ok (.ifCond .eq 19, 3) := dk_153 0 19 (dk_at dksX3_goesThrough_0 16 rfl rfl)
theorem dX3_goesThrough_19 : decode cX3_goesThrough 19 = .ok (.aload_n 0, 1) := dk_42 (dk_at dksX3_goesThrough_0 19 rfl rfl)
theorem dX3_goesThrough_20 : decode cX3_goesThrough 20 = .ok (.getfield 22, 3) := dk_180 0 22 (dk_at dksX3_goesThrough_0 20 rfl rfl)
theorem dX3_goesThrough_23 : decode cX3_goesThrough 23 = .ok (.iload_n 2, 1) := dk_28 (dk_at dksX3_goesThrough_0 23 rfl rfl)
theorem dX3_goesThrough_24 : decode cX3_goesThrough 24 = .ok (.iaload, 1) := dk_46 (dk_at dksX3_goesThrough_1 0 rfl rfl)
theorem dX3_goesThrough_25 : decode cX3_goesThrough 25 = .ok (.iload_n 1, 1) := dk_27 (dk_at dksX3_goesThrough_1 1 rfl rfl)
theorem dX3_goesThrough_26 : decode cX3_goesThrough 26 = .ok (.if_icmp .ne 9, 3) := dk_160 0 9 (dk_at dksX3_goesThrough_1 2 rfl rfl)
theorem dX3_goesThrough_29 : decode cX3_goesThrough 29 = .ok (.aload_n 0, 1) := dk_42 (dk_at dksX3_goesThrough_1 5 rfl rfl)
theorem dX3_goesThrough_30 : decode cX3_goesThrough 30 = .ok (.iload_n 2, 1) := dk_28 (dk_at dksX3_goesThrough_1 6 rfl rfl)
theorem dX3_goesThrough_31 : decode cX3_goesThrough 31 = .ok (.invokevirtual 135, 3) := dk_182 0 135 (dk_at dksX3_goesThrough_1 7 rfl rfl)
theorem dX3_goesThrough_34 : decode cX3_goesThrough 34 = .ok (.istore_n 3, 1) := dk_62 (dk_at dksX3_goesThrough_1 10 rfl rfl)
theorem dX3_goesThrough_35 : decode cX3_goesThrough 35 = .ok (.iinc 2 1, 3) := dk_132 2 1 (dk_at dksX3_goesThrough_1 11 rfl rfl)
theorem dX3_goesThrough_38 : decode cX3_goesThrough 38 = .ok (.goto (-36), 3) := dk_167 255 220 (dk_at dksX3_goesThrough_1 14 rfl rfl)
theorem dX3_goesThrough_41 : decode cX3_goesThrough 41 = .ok (.return_, 1) := dk_177 (dk_at dksX3_goesThrough_1 17 rfl rfl)
abbrev cX3_goesOn : ByteArray := prog_19_method_12_code
def yX3_goesOn : MethodName := ⟨RX3, "goesOn", "(I)I"⟩
def dkwX3_goesOn_3 : List UInt8 := [167, 255, 194, 28, 172]
abbrev dktX3_goesOn_3 : List UInt8 := dkwX3_goesOn_3 ++ []
def dkwX3_goesOn_2 : List UInt8 := [42, 21, 5, 182, 0, 131, 62, 28, 29, 153, 0, 7, 4, 167, 0, 4, 3, 96, 61, 132, 4, 1]
abbrev dktX3_goesOn_2 : List UInt8 := dkwX3_goesOn_2 ++ dktX3_goesOn_3
def dkwX3_goesOn_1 : List UInt8 := [180, 0, 41, 16, 24, 27, 104, 21, 4, 96, 46, 54, 5, 42, 180, 0, 62, 21, 5, 46, 4, 160, 0, 22]
abbrev dktX3_goesOn_1 : List UInt8 := dkwX3_goesOn_1 ++ dktX3_goesOn_2
def dkwX3_goesOn_0 : List UInt8 := [3, 61, 4, 62, 3, 54, 4, 21, 4, 42, 180, 0, 38, 27, 46, 162, 0, 57, 29, 153, 0, 53, 42]
abbrev dktX3_goesOn_0 : List UInt8 := dkwX3_goesOn_0 ++ dktX3_goesOn_1
theorem dksX3_goesOn_0 : cX3_goesOn.data.toList.drop 0 = dktX3_goesOn_0 := by decide +kernel
theorem dksX3_goesOn_1 : cX3_goesOn.data.toList.drop 23 = dktX3_goesOn_1 := dk_seg dksX3_goesOn_0 23 rfl rfl
theorem dksX3_goesOn_2 : cX3_goesOn.data.toList.drop 47 = dktX3_goesOn_2 := dk_seg dksX3_goesOn_1 24 rfl rfl
theorem dksX3_goesOn_3 : cX3_goesOn.data.toList.drop 69 = dktX3_goesOn_3 := dk_seg dksX3_goesOn_2 22 rfl rfl
theorem dX3_goesOn_0 : decode cX3_goesOn 0 = .ok (.iconst 0, 1) := dk_3 (dk_at dksX3_goesOn_0 0 rfl rfl)
theorem dX3_goesOn_1 : decode cX3_goesOn 1 = .ok (.istore_n 2, 1) := dk_61 (dk_at dksX3_goesOn_0 1 rfl rfl)
theorem dX3_goesOn_2 : decode cX3_goesOn 2 = .ok (.iconst 1, 1) := dk_4 (dk_at dksX3_goesOn_0 2 rfl rfl)
theorem dX3_goesOn_3 : decode cX3_goesOn 3 = .ok (.istore_n 3, 1) := dk_62 (dk_at dksX3_goesOn_0 3 rfl rfl)
theorem dX3_goesOn_4 : decode cX3_goesOn 4 = .ok (.iconst 0, 1) := dk_3 (dk_at dksX3_goesOn_0 4 rfl rfl)
theorem dX3_goesOn_5 : decode cX3_goesOn 5 = .ok (.istore 4, 2) := dk_54 4 (dk_at dksX3_goesOn_0 5 rfl rfl)
theorem dX3_goesOn_7 : decode cX3_goesOn 7 = .ok (.iload 4, 2) := dk_21 4 (dk_at dksX3_goesOn_0 7 rfl rfl)
theorem dX3_goesOn_9 : decode cX3_goesOn 9 = .ok (.aload_n 0, 1) := dk_42 (dk_at dksX3_goesOn_0 9 rfl rfl)
theorem dX3_goesOn_10 : decode cX3_goesOn 10 = .ok (.getfield 38, 3) := dk_180 0 38 (dk_at dksX3_goesOn_0 10 rfl rfl)
theorem dX3_goesOn_13 : decode cX3_goesOn 13 = .ok (.iload_n 1, 1) := dk_27 (dk_at dksX3_goesOn_0 13 rfl rfl)
theorem dX3_goesOn_14 : decode cX3_goesOn 14 = .ok (.iaload, 1) := dk_46 (dk_at dksX3_goesOn_0 14 rfl rfl)
theorem dX3_goesOn_15 : decode cX3_goesOn 15 = .ok (.if_icmp .ge 57, 3) := dk_162 0 57 (dk_at dksX3_goesOn_0 15 rfl rfl)
theorem dX3_goesOn_18 : decode cX3_goesOn 18 = .ok (.iload_n 3, 1) := dk_29 (dk_at dksX3_goesOn_0 18 rfl rfl)
theorem dX3_goesOn_19 : decode cX3_goesOn 19 = .ok (.ifCond .eq 53, 3) := dk_153 0 53 (dk_at dksX3_goesOn_0 19 rfl rfl)
theorem dX3_goesOn_22 : decode cX3_goesOn 22 = .ok (.aload_n 0, 1) := dk_42 (dk_at dksX3_goesOn_0 22 rfl rfl)
theorem dX3_goesOn_23 : decode cX3_goesOn 23 = .ok (.getfield 41, 3) := dk_180 0 41 (dk_at dksX3_goesOn_1 0 rfl rfl)
theorem dX3_goesOn_26 : decode cX3_goesOn 26 = .ok (.bipush 24, 2) := dk_16 24 (dk_at dksX3_goesOn_1 3 rfl rfl)
theorem dX3_goesOn_28 : decode cX3_goesOn 28 = .ok (.iload_n 1, 1) := dk_27 (dk_at dksX3_goesOn_1 5 rfl rfl)
theorem dX3_goesOn_29 : decode cX3_goesOn 29 = .ok (.imul, 1) := dk_104 (dk_at dksX3_goesOn_1 6 rfl rfl)
theorem dX3_goesOn_30 : decode cX3_goesOn 30 = .ok (.iload 4, 2) := dk_21 4 (dk_at dksX3_goesOn_1 7 rfl rfl)
theorem dX3_goesOn_32 : decode cX3_goesOn 32 = .ok (.iadd, 1) := dk_96 (dk_at dksX3_goesOn_1 9 rfl rfl)
theorem dX3_goesOn_33 : decode cX3_goesOn 33 = .ok (.iaload, 1) := dk_46 (dk_at dksX3_goesOn_1 10 rfl rfl)
theorem dX3_goesOn_34 : decode cX3_goesOn 34 = .ok (.istore 5, 2) := dk_54 5 (dk_at dksX3_goesOn_1 11 rfl rfl)
theorem dX3_goesOn_36 : decode cX3_goesOn 36 = .ok (.aload_n 0, 1) := dk_42 (dk_at dksX3_goesOn_1 13 rfl rfl)
theorem dX3_goesOn_37 : decode cX3_goesOn 37 = .ok (.getfield 62, 3) := dk_180 0 62 (dk_at dksX3_goesOn_1 14 rfl rfl)
theorem dX3_goesOn_40 : decode cX3_goesOn 40 = .ok (.iload 5, 2) := dk_21 5 (dk_at dksX3_goesOn_1 17 rfl rfl)
theorem dX3_goesOn_42 : decode cX3_goesOn 42 = .ok (.iaload, 1) := dk_46 (dk_at dksX3_goesOn_1 19 rfl rfl)
theorem dX3_goesOn_43 : decode cX3_goesOn 43 = .ok (.iconst 1, 1) := dk_4 (dk_at dksX3_goesOn_1 20 rfl rfl)
theorem dX3_goesOn_44 : decode cX3_goesOn 44 = .ok (.if_icmp .ne 22, 3) := dk_160 0 22 (dk_at dksX3_goesOn_1 21 rfl rfl)
theorem dX3_goesOn_47 : decode cX3_goesOn 47 = .ok (.aload_n 0, 1) := dk_42 (dk_at dksX3_goesOn_2 0 rfl rfl)
theorem dX3_goesOn_48 : decode cX3_goesOn 48 = .ok (.iload 5, 2) := dk_21 5 (dk_at dksX3_goesOn_2 1 rfl rfl)
theorem dX3_goesOn_50 : decode cX3_goesOn 50 = .ok (.invokevirtual 131, 3) := dk_182 0 131 (dk_at dksX3_goesOn_2 3 rfl rfl)
theorem dX3_goesOn_53 : decode cX3_goesOn 53 = .ok (.istore_n 3, 1) := dk_62 (dk_at dksX3_goesOn_2 6 rfl rfl)
theorem dX3_goesOn_54 : decode cX3_goesOn 54 = .ok (.iload_n 2, 1) := dk_28 (dk_at dksX3_goesOn_2 7 rfl rfl)
theorem dX3_goesOn_55 : decode cX3_goesOn 55 = .ok (.iload_n 3, 1) := dk_29 (dk_at dksX3_goesOn_2 8 rfl rfl)
theorem dX3_goesOn_56 : decode cX3_goesOn 56 = .ok (.ifCond .eq 7, 3) := dk_153 0 7 (dk_at dksX3_goesOn_2 9 rfl rfl)
theorem dX3_goesOn_59 : decode cX3_goesOn 59 = .ok (.iconst 1, 1) := dk_4 (dk_at dksX3_goesOn_2 12 rfl rfl)
theorem dX3_goesOn_60 : decode cX3_goesOn 60 = .ok (.goto 4, 3) := dk_167 0 4 (dk_at dksX3_goesOn_2 13 rfl rfl)
theorem dX3_goesOn_63 : decode cX3_goesOn 63 = .ok (.iconst 0, 1) := dk_3 (dk_at dksX3_goesOn_2 16 rfl rfl)
theorem dX3_goesOn_64 : decode cX3_goesOn 64 = .ok (.iadd, 1) := dk_96 (dk_at dksX3_goesOn_2 17 rfl rfl)
theorem dX3_goesOn_65 : decode cX3_goesOn 65 = .ok (.istore_n 2, 1) := dk_61 (dk_at dksX3_goesOn_2 18 rfl rfl)
theorem dX3_goesOn_66 : decode cX3_goesOn 66 = .ok (.iinc 4 1, 3) := dk_132 4 1 (dk_at dksX3_goesOn_2 19 rfl rfl)
theorem dX3_goesOn_69 : decode cX3_goesOn 69 = .ok (.goto (-62), 3) := dk_167 255 194 (dk_at dksX3_goesOn_3 0 rfl rfl)
theorem dX3_goesOn_72 : decode cX3_goesOn 72 = .ok (.iload_n 2, 1) := dk_28 (dk_at dksX3_goesOn_3 3 rfl rfl)
theorem dX3_goesOn_73 : decode cX3_goesOn 73 = .ok (.ireturn, 1) := dk_172 (dk_at dksX3_goesOn_3 4 rfl rfl)
abbrev cX3_comesIn : ByteArray := prog_19_method_11_code
def yX3_comesIn : MethodName := ⟨RX3, "comesIn", "(I)Z"⟩
def dkwX3_comesIn_4 : List UInt8 := [180, 0, 62, 27, 5, 79, 4, 172]
abbrev dktX3_comesIn_4 : List UInt8 := dkwX3_comesIn_4 ++ []
def dkwX3_comesIn_3 : List UInt8 := [4, 29, 42, 180, 0, 53, 6, 27, 104, 28, 96, 46, 182, 0, 127, 132, 2, 1, 167, 255, 206, 42]
abbrev dktX3_comesIn_3 : List UInt8 := dkwX3_comesIn_3 ++ dktX3_comesIn_4
def dkwX3_comesIn_2 : List UInt8 := [182, 0, 119, 62, 42, 180, 0, 16, 29, 92, 46, 42, 180, 0, 53, 6, 27, 104, 28, 96, 46, 96, 79, 42]
abbrev dktX3_comesIn_2 : List UInt8 := dkwX3_comesIn_2 ++ dktX3_comesIn_3
def dkwX3_comesIn_1 : List UInt8 := [182, 0, 123, 164, 0, 5, 3, 172, 132, 2, 1, 167, 255, 223, 3, 61, 28, 6, 162, 0, 51, 42, 27, 28]
abbrev dktX3_comesIn_1 : List UInt8 := dkwX3_comesIn_1 ++ dktX3_comesIn_2
def dkwX3_comesIn_0 : List UInt8 := [3, 61, 28, 6, 162, 0, 34, 42, 180, 0, 53, 6, 27, 104, 28, 96, 46, 42, 42, 27, 28, 182, 0, 119]
abbrev dktX3_comesIn_0 : List UInt8 := dkwX3_comesIn_0 ++ dktX3_comesIn_1
theorem dksX3_comesIn_0 : cX3_comesIn.data.toList.drop 0 = dktX3_comesIn_0 := by decide +kernel
theorem dksX3_comesIn_1 : cX3_comesIn.data.toList.drop 24 = dktX3_comesIn_1 := dk_seg dksX3_comesIn_0 24 rfl rfl
theorem dksX3_comesIn_2 : cX3_comesIn.data.toList.drop 48 = dktX3_comesIn_2 := dk_seg dksX3_comesIn_1 24 rfl rfl
theorem dksX3_comesIn_3 : cX3_comesIn.data.toList.drop 72 = dktX3_comesIn_3 := dk_seg dksX3_comesIn_2 24 rfl rfl
theorem dksX3_comesIn_4 : cX3_comesIn.data.toList.drop 94 = dktX3_comesIn_4 := dk_seg dksX3_comesIn_3 22 rfl rfl
theorem dX3_comesIn_0 : decode cX3_comesIn 0 = .ok (.iconst 0, 1) := dk_3 (dk_at dksX3_comesIn_0 0 rfl rfl)
theorem dX3_comesIn_1 : decode cX3_comesIn 1 = .ok (.istore_n 2, 1) := dk_61 (dk_at dksX3_comesIn_0 1 rfl rfl)
theorem dX3_comesIn_2 : decode cX3_comesIn 2 = .ok (.iload_n 2, 1) := dk_28 (dk_at dksX3_comesIn_0 2 rfl rfl)
theorem dX3_comesIn_3 : decode cX3_comesIn 3 = .ok (.iconst 3, 1) := dk_6 (dk_at dksX3_comesIn_0 3 rfl rfl)
theorem dX3_comesIn_4 : decode cX3_comesIn 4 = .ok (.if_icmp .ge 34, 3) := dk_162 0 34 (dk_at dksX3_comesIn_0 4 rfl rfl)
theorem dX3_comesIn_7 : decode cX3_comesIn 7 = .ok (.aload_n 0, 1) := dk_42 (dk_at dksX3_comesIn_0 7 rfl rfl)
theorem dX3_comesIn_8 : decode cX3_comesIn 8 = .ok (.getfield 53, 3) := dk_180 0 53 (dk_at dksX3_comesIn_0 8 rfl rfl)
theorem dX3_comesIn_11 : decode cX3_comesIn 11 = .ok (.iconst 3, 1) := dk_6 (dk_at dksX3_comesIn_0 11 rfl rfl)
theorem dX3_comesIn_12 : decode cX3_comesIn 12 = .ok (.iload_n 1, 1) := dk_27 (dk_at dksX3_comesIn_0 12 rfl rfl)
theorem dX3_comesIn_13 : decode cX3_comesIn 13 = .ok (.imul, 1) := dk_104 (dk_at dksX3_comesIn_0 13 rfl rfl)
theorem dX3_comesIn_14 : decode cX3_comesIn 14 = .ok (.iload_n 2, 1) := dk_28 (dk_at dksX3_comesIn_0 14 rfl rfl)
theorem dX3_comesIn_15 : decode cX3_comesIn 15 = .ok (.iadd, 1) := dk_96 (dk_at dksX3_comesIn_0 15 rfl rfl)
theorem dX3_comesIn_16 : decode cX3_comesIn 16 = .ok (.iaload, 1) := dk_46 (dk_at dksX3_comesIn_0 16 rfl rfl)
theorem dX3_comesIn_17 : decode cX3_comesIn 17 = .ok (.aload_n 0, 1) := dk_42 (dk_at dksX3_comesIn_0 17 rfl rfl)
theorem dX3_comesIn_18 : decode cX3_comesIn 18 = .ok (.aload_n 0, 1) := dk_42 (dk_at dksX3_comesIn_0 18 rfl rfl)
theorem dX3_comesIn_19 : decode cX3_comesIn 19 = .ok (.iload_n 1, 1) := dk_27 (dk_at dksX3_comesIn_0 19 rfl rfl)
theorem dX3_comesIn_20 : decode cX3_comesIn 20 = .ok (.iload_n 2, 1) := dk_28 (dk_at dksX3_comesIn_0 20 rfl rfl)
theorem dX3_comesIn_21 : decode cX3_comesIn 21 = .ok (.invokevirtual 119, 3) := dk_182 0 119 (dk_at dksX3_comesIn_0 21 rfl rfl)
theorem dX3_comesIn_24 : decode cX3_comesIn 24 = .ok (.invokevirtual 123, 3) := dk_182 0 123 (dk_at dksX3_comesIn_1 0 rfl rfl)
theorem dX3_comesIn_27 : decode cX3_comesIn 27 = .ok (.if_icmp .le 5, 3) := dk_164 0 5 (dk_at dksX3_comesIn_1 3 rfl rfl)
theorem dX3_comesIn_30 : decode cX3_comesIn 30 = .ok (.iconst 0, 1) := dk_3 (dk_at dksX3_comesIn_1 6 rfl rfl)
theorem dX3_comesIn_31 : decode cX3_comesIn 31 = .ok (.ireturn, 1) := dk_172 (dk_at dksX3_comesIn_1 7 rfl rfl)
theorem dX3_comesIn_32 : decode cX3_comesIn 32 = .ok (.iinc 2 1, 3) := dk_132 2 1 (dk_at dksX3_comesIn_1 8 rfl rfl)
theorem dX3_comesIn_35 : decode cX3_comesIn 35 = .ok (.goto (-33), 3) := dk_167 255 223 (dk_at dksX3_comesIn_1 11 rfl rfl)
theorem dX3_comesIn_38 : decode cX3_comesIn 38 = .ok (.iconst 0, 1) := dk_3 (dk_at dksX3_comesIn_1 14 rfl rfl)
theorem dX3_comesIn_39 : decode cX3_comesIn 39 = .ok (.istore_n 2, 1) := dk_61 (dk_at dksX3_comesIn_1 15 rfl rfl)
theorem dX3_comesIn_40 : decode cX3_comesIn 40 = .ok (.iload_n 2, 1) := dk_28 (dk_at dksX3_comesIn_1 16 rfl rfl)
theorem dX3_comesIn_41 : decode cX3_comesIn 41 = .ok (.iconst 3, 1) := dk_6 (dk_at dksX3_comesIn_1 17 rfl rfl)
theorem dX3_comesIn_42 : decode cX3_comesIn 42 = .ok (.if_icmp .ge 51, 3) := dk_162 0 51 (dk_at dksX3_comesIn_1 18 rfl rfl)
theorem dX3_comesIn_45 : decode cX3_comesIn 45 = .ok (.aload_n 0, 1) := dk_42 (dk_at dksX3_comesIn_1 21 rfl rfl)
theorem dX3_comesIn_46 : decode cX3_comesIn 46 = .ok (.iload_n 1, 1) := dk_27 (dk_at dksX3_comesIn_1 22 rfl rfl)
theorem dX3_comesIn_47 : decode cX3_comesIn 47 = .ok (.iload_n 2, 1) := dk_28 (dk_at dksX3_comesIn_1 23 rfl rfl)
theorem dX3_comesIn_48 : decode cX3_comesIn 48 = .ok (.invokevirtual 119, 3) := dk_182 0 119 (dk_at dksX3_comesIn_2 0 rfl rfl)
theorem dX3_comesIn_51 : decode cX3_comesIn 51 = .ok (.istore_n 3, 1) := dk_62 (dk_at dksX3_comesIn_2 3 rfl rfl)
theorem dX3_comesIn_52 : decode cX3_comesIn 52 = .ok (.aload_n 0, 1) := dk_42 (dk_at dksX3_comesIn_2 4 rfl rfl)
theorem dX3_comesIn_53 : decode cX3_comesIn 53 = .ok (.getfield 16, 3) := dk_180 0 16 (dk_at dksX3_comesIn_2 5 rfl rfl)
theorem dX3_comesIn_56 : decode cX3_comesIn 56 = .ok (.iload_n 3, 1) := dk_29 (dk_at dksX3_comesIn_2 8 rfl rfl)
theorem dX3_comesIn_57 : decode cX3_comesIn 57 = .ok (.dup2, 1) := dk_92 (dk_at dksX3_comesIn_2 9 rfl rfl)
theorem dX3_comesIn_58 : decode cX3_comesIn 58 = .ok (.iaload, 1) := dk_46 (dk_at dksX3_comesIn_2 10 rfl rfl)
theorem dX3_comesIn_59 : decode cX3_comesIn 59 = .ok (.aload_n 0, 1) := dk_42 (dk_at dksX3_comesIn_2 11 rfl rfl)
theorem dX3_comesIn_60 : decode cX3_comesIn 60 = .ok (.getfield 53, 3) := dk_180 0 53 (dk_at dksX3_comesIn_2 12 rfl rfl)
theorem dX3_comesIn_63 : decode cX3_comesIn 63 = .ok (.iconst 3, 1) := dk_6 (dk_at dksX3_comesIn_2 15 rfl rfl)
theorem dX3_comesIn_64 : decode cX3_comesIn 64 = .ok (.iload_n 1, 1) := dk_27 (dk_at dksX3_comesIn_2 16 rfl rfl)
theorem dX3_comesIn_65 : decode cX3_comesIn 65 = .ok (.imul, 1) := dk_104 (dk_at dksX3_comesIn_2 17 rfl rfl)
theorem dX3_comesIn_66 : decode cX3_comesIn 66 = .ok (.iload_n 2, 1) := dk_28 (dk_at dksX3_comesIn_2 18 rfl rfl)
theorem dX3_comesIn_67 : decode cX3_comesIn 67 = .ok (.iadd, 1) := dk_96 (dk_at dksX3_comesIn_2 19 rfl rfl)
theorem dX3_comesIn_68 : decode cX3_comesIn 68 = .ok (.iaload, 1) := dk_46 (dk_at dksX3_comesIn_2 20 rfl rfl)
theorem dX3_comesIn_69 : decode cX3_comesIn 69 = .ok (.iadd, 1) := dk_96 (dk_at dksX3_comesIn_2 21 rfl rfl)
theorem dX3_comesIn_70 : decode cX3_comesIn 70 = .ok (.iastore, 1) := dk_79 (dk_at dksX3_comesIn_2 22 rfl rfl)
theorem dX3_comesIn_71 : decode cX3_comesIn 71 = .ok (.aload_n 0, 1) := dk_42 (dk_at dksX3_comesIn_2 23 rfl rfl)
theorem dX3_comesIn_72 : decode cX3_comesIn 72 = .ok (.iconst 1, 1) := dk_4 (dk_at dksX3_comesIn_3 0 rfl rfl)
theorem dX3_comesIn_73 : decode cX3_comesIn 73 = .ok (.iload_n 3, 1) := dk_29 (dk_at dksX3_comesIn_3 1 rfl rfl)
theorem dX3_comesIn_74 : decode cX3_comesIn 74 = .ok (.aload_n 0, 1) := dk_42 (dk_at dksX3_comesIn_3 2 rfl rfl)
theorem dX3_comesIn_75 : decode cX3_comesIn 75 = .ok (.getfield 53, 3) := dk_180 0 53 (dk_at dksX3_comesIn_3 3 rfl rfl)
theorem dX3_comesIn_78 : decode cX3_comesIn 78 = .ok (.iconst 3, 1) := dk_6 (dk_at dksX3_comesIn_3 6 rfl rfl)
theorem dX3_comesIn_79 : decode cX3_comesIn 79 = .ok (.iload_n 1, 1) := dk_27 (dk_at dksX3_comesIn_3 7 rfl rfl)
theorem dX3_comesIn_80 : decode cX3_comesIn 80 = .ok (.imul, 1) := dk_104 (dk_at dksX3_comesIn_3 8 rfl rfl)
theorem dX3_comesIn_81 : decode cX3_comesIn 81 = .ok (.iload_n 2, 1) := dk_28 (dk_at dksX3_comesIn_3 9 rfl rfl)
theorem dX3_comesIn_82 : decode cX3_comesIn 82 = .ok (.iadd, 1) := dk_96 (dk_at dksX3_comesIn_3 10 rfl rfl)
theorem dX3_comesIn_83 : decode cX3_comesIn 83 = .ok (.iaload, 1) := dk_46 (dk_at dksX3_comesIn_3 11 rfl rfl)
theorem dX3_comesIn_84 : decode cX3_comesIn 84 = .ok (.invokevirtual 127, 3) := dk_182 0 127 (dk_at dksX3_comesIn_3 12 rfl rfl)
theorem dX3_comesIn_87 : decode cX3_comesIn 87 = .ok (.iinc 2 1, 3) := dk_132 2 1 (dk_at dksX3_comesIn_3 15 rfl rfl)
theorem dX3_comesIn_90 : decode cX3_comesIn 90 = .ok (.goto (-50), 3) := dk_167 255 206 (dk_at dksX3_comesIn_3 18 rfl rfl)
theorem dX3_comesIn_93 : decode cX3_comesIn 93 = .ok (.aload_n 0, 1) := dk_42 (dk_at dksX3_comesIn_3 21 rfl rfl)
theorem dX3_comesIn_94 : decode cX3_comesIn 94 = .ok (.getfield 62, 3) := dk_180 0 62 (dk_at dksX3_comesIn_4 0 rfl rfl)
theorem dX3_comesIn_97 : decode cX3_comesIn 97 = .ok (.iload_n 1, 1) := dk_27 (dk_at dksX3_comesIn_4 3 rfl rfl)
theorem dX3_comesIn_98 : decode cX3_comesIn 98 = .ok (.iconst 2, 1) := dk_5 (dk_at dksX3_comesIn_4 4 rfl rfl)
theorem dX3_comesIn_99 : decode cX3_comesIn 99 = .ok (.iastore, 1) := dk_79 (dk_at dksX3_comesIn_4 5 rfl rfl)
theorem dX3_comesIn_100 : decode cX3_comesIn 100 = .ok (.iconst 1, 1) := dk_4 (dk_at dksX3_comesIn_4 6 rfl rfl)
theorem dX3_comesIn_101 : decode cX3_comesIn 101 = .ok (.ireturn, 1) := dk_172 (dk_at dksX3_comesIn_4 7 rfl rfl)
abbrev cX3_accountOf : ByteArray := prog_19_method_10_code
def yX3_accountOf : MethodName := ⟨RX3, "accountOf", "(II)I"⟩
def dkwX3_accountOf_1 : List UInt8 := [96, 172]
abbrev dktX3_accountOf_1 : List UInt8 := dkwX3_accountOf_1 ++ []
def dkwX3_accountOf_0 : List UInt8 := [42, 180, 0, 44, 27, 46, 62, 16, 12, 42, 180, 0, 22, 29, 46, 104, 42, 180, 0, 31, 29, 46, 96, 28]
abbrev dktX3_accountOf_0 : List UInt8 := dkwX3_accountOf_0 ++ dktX3_accountOf_1
theorem dksX3_accountOf_0 : cX3_accountOf.data.toList.drop 0 = dktX3_accountOf_0 := by decide +kernel
theorem dksX3_accountOf_1 : cX3_accountOf.data.toList.drop 24 = dktX3_accountOf_1 := dk_seg dksX3_accountOf_0 24 rfl rfl
theorem dX3_accountOf_0 : decode cX3_accountOf 0 = .ok (.aload_n 0, 1) := dk_42 (dk_at dksX3_accountOf_0 0 rfl rfl)
theorem dX3_accountOf_1 : decode cX3_accountOf 1 = .ok (.getfield 44, 3) := dk_180 0 44 (dk_at dksX3_accountOf_0 1 rfl rfl)
theorem dX3_accountOf_4 : decode cX3_accountOf 4 = .ok (.iload_n 1, 1) := dk_27 (dk_at dksX3_accountOf_0 4 rfl rfl)
theorem dX3_accountOf_5 : decode cX3_accountOf 5 = .ok (.iaload, 1) := dk_46 (dk_at dksX3_accountOf_0 5 rfl rfl)
theorem dX3_accountOf_6 : decode cX3_accountOf 6 = .ok (.istore_n 3, 1) := dk_62 (dk_at dksX3_accountOf_0 6 rfl rfl)
theorem dX3_accountOf_7 : decode cX3_accountOf 7 = .ok (.bipush 12, 2) := dk_16 12 (dk_at dksX3_accountOf_0 7 rfl rfl)
theorem dX3_accountOf_9 : decode cX3_accountOf 9 = .ok (.aload_n 0, 1) := dk_42 (dk_at dksX3_accountOf_0 9 rfl rfl)
theorem dX3_accountOf_10 : decode cX3_accountOf 10 = .ok (.getfield 22, 3) := dk_180 0 22 (dk_at dksX3_accountOf_0 10 rfl rfl)
theorem dX3_accountOf_13 : decode cX3_accountOf 13 = .ok (.iload_n 3, 1) := dk_29 (dk_at dksX3_accountOf_0 13 rfl rfl)
theorem dX3_accountOf_14 : decode cX3_accountOf 14 = .ok (.iaload, 1) := dk_46 (dk_at dksX3_accountOf_0 14 rfl rfl)
theorem dX3_accountOf_15 : decode cX3_accountOf 15 = .ok (.imul, 1) := dk_104 (dk_at dksX3_accountOf_0 15 rfl rfl)
theorem dX3_accountOf_16 : decode cX3_accountOf 16 = .ok (.aload_n 0, 1) := dk_42 (dk_at dksX3_accountOf_0 16 rfl rfl)
theorem dX3_accountOf_17 : decode cX3_accountOf 17 = .ok (.getfield 31, 3) := dk_180 0 31 (dk_at dksX3_accountOf_0 17 rfl rfl)
theorem dX3_accountOf_20 : decode cX3_accountOf 20 = .ok (.iload_n 3, 1) := dk_29 (dk_at dksX3_accountOf_0 20 rfl rfl)
theorem dX3_accountOf_21 : decode cX3_accountOf 21 = .ok (.iaload, 1) := dk_46 (dk_at dksX3_accountOf_0 21 rfl rfl)
theorem dX3_accountOf_22 : decode cX3_accountOf 22 = .ok (.iadd, 1) := dk_96 (dk_at dksX3_accountOf_0 22 rfl rfl)
theorem dX3_accountOf_23 : decode cX3_accountOf 23 = .ok (.iload_n 2, 1) := dk_28 (dk_at dksX3_accountOf_0 23 rfl rfl)
theorem dX3_accountOf_24 : decode cX3_accountOf 24 = .ok (.iadd, 1) := dk_96 (dk_at dksX3_accountOf_1 0 rfl rfl)
theorem dX3_accountOf_25 : decode cX3_accountOf 25 = .ok (.ireturn, 1) := dk_172 (dk_at dksX3_accountOf_1 1 rfl rfl)
abbrev cX3_free : ByteArray := prog_19_method_9_code
def yX3_free : MethodName := ⟨RX3, "free", "(I)I"⟩
def dkwX3_free_1 : List UInt8 := [27, 46, 100, 42, 180, 0, 19, 27, 46, 100, 172]
abbrev dktX3_free_1 : List UInt8 := dkwX3_free_1 ++ []
def dkwX3_free_0 : List UInt8 := [42, 180, 0, 7, 27, 46, 2, 160, 0, 7, 3, 167, 0, 23, 42, 180, 0, 13, 27, 46, 42, 180, 0, 16]
abbrev dktX3_free_0 : List UInt8 := dkwX3_free_0 ++ dktX3_free_1
theorem dksX3_free_0 : cX3_free.data.toList.drop 0 = dktX3_free_0 := by decide +kernel
theorem dksX3_free_1 : cX3_free.data.toList.drop 24 = dktX3_free_1 := dk_seg dksX3_free_0 24 rfl rfl
theorem dX3_free_0 : decode cX3_free 0 = .ok (.aload_n 0, 1) := dk_42 (dk_at dksX3_free_0 0 rfl rfl)
theorem dX3_free_1 : decode cX3_free 1 = .ok (.getfield 7, 3) := dk_180 0 7 (dk_at dksX3_free_0 1 rfl rfl)
theorem dX3_free_4 : decode cX3_free 4 = .ok (.iload_n 1, 1) := dk_27 (dk_at dksX3_free_0 4 rfl rfl)
theorem dX3_free_5 : decode cX3_free 5 = .ok (.iaload, 1) := dk_46 (dk_at dksX3_free_0 5 rfl rfl)
theorem dX3_free_6 : decode cX3_free 6 = .ok (.iconst (-1), 1) := dk_2 (dk_at dksX3_free_0 6 rfl rfl)
theorem dX3_free_7 : decode cX3_free 7 = .ok (.if_icmp .ne 7, 3) := dk_160 0 7 (dk_at dksX3_free_0 7 rfl rfl)
theorem dX3_free_10 : decode cX3_free 10 = .ok (.iconst 0, 1) := dk_3 (dk_at dksX3_free_0 10 rfl rfl)
theorem dX3_free_11 : decode cX3_free 11 = .ok (.goto 23, 3) := dk_167 0 23 (dk_at dksX3_free_0 11 rfl rfl)
theorem dX3_free_14 : decode cX3_free 14 = .ok (.aload_n 0, 1) := dk_42 (dk_at dksX3_free_0 14 rfl rfl)
theorem dX3_free_15 : decode cX3_free 15 = .ok (.getfield 13, 3) := dk_180 0 13 (dk_at dksX3_free_0 15 rfl rfl)
theorem dX3_free_18 : decode cX3_free 18 = .ok (.iload_n 1, 1) := dk_27 (dk_at dksX3_free_0 18 rfl rfl)
theorem dX3_free_19 : decode cX3_free 19 = .ok (.iaload, 1) := dk_46 (dk_at dksX3_free_0 19 rfl rfl)
theorem dX3_free_20 : decode cX3_free 20 = .ok (.aload_n 0, 1) := dk_42 (dk_at dksX3_free_0 20 rfl rfl)
theorem dX3_free_21 : decode cX3_free 21 = .ok (.getfield 16, 3) := dk_180 0 16 (dk_at dksX3_free_0 21 rfl rfl)
theorem dX3_free_24 : decode cX3_free 24 = .ok (.iload_n 1, 1) := dk_27 (dk_at dksX3_free_1 0 rfl rfl)
theorem dX3_free_25 : decode cX3_free 25 = .ok (.iaload, 1) := dk_46 (dk_at dksX3_free_1 1 rfl rfl)
theorem dX3_free_26 : decode cX3_free 26 = .ok (.isub, 1) := dk_100 (dk_at dksX3_free_1 2 rfl rfl)
theorem dX3_free_27 : decode cX3_free 27 = .ok (.aload_n 0, 1) := dk_42 (dk_at dksX3_free_1 3 rfl rfl)
theorem dX3_free_28 : decode cX3_free 28 = .ok (.getfield 19, 3) := dk_180 0 19 (dk_at dksX3_free_1 4 rfl rfl)
theorem dX3_free_31 : decode cX3_free 31 = .ok (.iload_n 1, 1) := dk_27 (dk_at dksX3_free_1 7 rfl rfl)
theorem dX3_free_32 : decode cX3_free 32 = .ok (.iaload, 1) := dk_46 (dk_at dksX3_free_1 8 rfl rfl)
theorem dX3_free_33 : decode cX3_free 33 = .ok (.isub, 1) := dk_100 (dk_at dksX3_free_1 9 rfl rfl)
theorem dX3_free_34 : decode cX3_free 34 = .ok (.ireturn, 1) := dk_172 (dk_at dksX3_free_1 10 rfl rfl)
abbrev cX3_call : ByteArray := prog_19_method_15_code
def yX3_call : MethodName := ⟨RX3, "call", "(IIII)I"⟩
def dkwX3_call_6 : List UInt8 := [180, 0, 99, 4, 100, 172]
abbrev dktX3_call_6 : List UInt8 := dkwX3_call_6 ++ []
def dkwX3_call_5 : List UInt8 := [79, 42, 180, 0, 31, 42, 180, 0, 99, 21, 4, 79, 42, 89, 180, 0, 99, 4, 96, 181, 0, 99, 42]
abbrev dktX3_call_5 : List UInt8 := dkwX3_call_5 ++ dktX3_call_6
def dkwX3_call_4 : List UInt8 := [180, 0, 99, 27, 79, 42, 180, 0, 25, 42, 180, 0, 99, 28, 79, 42, 180, 0, 28, 42, 180, 0, 99, 29]
abbrev dktX3_call_4 : List UInt8 := dkwX3_call_4 ++ dktX3_call_5
def dkwX3_call_3 : List UInt8 := [160, 0, 7, 4, 167, 0, 4, 3, 5, 182, 0, 106, 153, 0, 5, 3, 172, 42, 180, 0, 22, 42]
abbrev dktX3_call_3 : List UInt8 := dkwX3_call_3 ++ dktX3_call_4
def dkwX3_call_2 : List UInt8 := [154, 0, 7, 4, 167, 0, 4, 3, 4, 182, 0, 106, 154, 0, 25, 42, 42, 180, 0, 99, 16, 6]
abbrev dktX3_call_2 : List UInt8 := dkwX3_call_2 ++ dktX3_call_3
def dkwX3_call_1 : List UInt8 := [153, 0, 25, 29, 28, 17, 39, 16, 184, 0, 102, 153, 0, 14, 21, 4, 3, 16, 9, 184, 0, 102]
abbrev dktX3_call_1 : List UInt8 := dkwX3_call_1 ++ dktX3_call_2
def dkwX3_call_0 : List UInt8 := [42, 3, 181, 0, 95, 42, 27, 3, 6, 184, 0, 102, 153, 0, 36, 28, 3, 17, 39, 16, 184, 0, 102]
abbrev dktX3_call_0 : List UInt8 := dkwX3_call_0 ++ dktX3_call_1
theorem dksX3_call_0 : cX3_call.data.toList.drop 0 = dktX3_call_0 := by decide +kernel
theorem dksX3_call_1 : cX3_call.data.toList.drop 23 = dktX3_call_1 := dk_seg dksX3_call_0 23 rfl rfl
theorem dksX3_call_2 : cX3_call.data.toList.drop 45 = dktX3_call_2 := dk_seg dksX3_call_1 22 rfl rfl
theorem dksX3_call_3 : cX3_call.data.toList.drop 67 = dktX3_call_3 := dk_seg dksX3_call_2 22 rfl rfl
theorem dksX3_call_4 : cX3_call.data.toList.drop 89 = dktX3_call_4 := dk_seg dksX3_call_3 22 rfl rfl
theorem dksX3_call_5 : cX3_call.data.toList.drop 113 = dktX3_call_5 := dk_seg dksX3_call_4 24 rfl rfl
theorem dksX3_call_6 : cX3_call.data.toList.drop 136 = dktX3_call_6 := dk_seg dksX3_call_5 23 rfl rfl
theorem dX3_call_0 : decode cX3_call 0 = .ok (.aload_n 0, 1) := dk_42 (dk_at dksX3_call_0 0 rfl rfl)
theorem dX3_call_1 : decode cX3_call 1 = .ok (.iconst 0, 1) := dk_3 (dk_at dksX3_call_0 1 rfl rfl)
theorem dX3_call_2 : decode cX3_call 2 = .ok (.putfield 95, 3) := dk_181 0 95 (dk_at dksX3_call_0 2 rfl rfl)
theorem dX3_call_5 : decode cX3_call 5 = .ok (.aload_n 0, 1) := dk_42 (dk_at dksX3_call_0 5 rfl rfl)
theorem dX3_call_6 : decode cX3_call 6 = .ok (.iload_n 1, 1) := dk_27 (dk_at dksX3_call_0 6 rfl rfl)
theorem dX3_call_7 : decode cX3_call 7 = .ok (.iconst 0, 1) := dk_3 (dk_at dksX3_call_0 7 rfl rfl)
theorem dX3_call_8 : decode cX3_call 8 = .ok (.iconst 3, 1) := dk_6 (dk_at dksX3_call_0 8 rfl rfl)
theorem dX3_call_9 : decode cX3_call 9 = .ok (.invokestatic 102, 3) := dk_184 0 102 (dk_at dksX3_call_0 9 rfl rfl)
theorem dX3_call_12 : decode cX3_call 12 = .ok (.ifCond .eq 36, 3) := dk_153 0 36 (dk_at dksX3_call_0 12 rfl rfl)
theorem dX3_call_15 : decode cX3_call 15 = .ok (.iload_n 2, 1) := dk_28 (dk_at dksX3_call_0 15 rfl rfl)
theorem dX3_call_16 : decode cX3_call 16 = .ok (.iconst 0, 1) := dk_3 (dk_at dksX3_call_0 16 rfl rfl)
theorem dX3_call_17 : decode cX3_call 17 = .ok (.sipush 10000, 3) := dk_17 39 16 (dk_at dksX3_call_0 17 rfl rfl)
theorem dX3_call_20 : decode cX3_call 20 = .ok (.invokestatic 102, 3) := dk_184 0 102 (dk_at dksX3_call_0 20 rfl rfl)
theorem dX3_call_23 : decode cX3_call 23 = .ok (.ifCond .eq 25, 3) := dk_153 0 25 (dk_at dksX3_call_1 0 rfl rfl)
theorem dX3_call_26 : decode cX3_call 26 = .ok (.iload_n 3, 1) := dk_29 (dk_at dksX3_call_1 3 rfl rfl)
theorem dX3_call_27 : decode cX3_call 27 = .ok (.iload_n 2, 1) := dk_28 (dk_at dksX3_call_1 4 rfl rfl)
theorem dX3_call_28 : decode cX3_call 28 = .ok (.sipush 10000, 3) := dk_17 39 16 (dk_at dksX3_call_1 5 rfl rfl)
theorem dX3_call_31 : decode cX3_call 31 = .ok (.invokestatic 102, 3) := dk_184 0 102 (dk_at dksX3_call_1 8 rfl rfl)
theorem dX3_call_34 : decode cX3_call 34 = .ok (.ifCond .eq 14, 3) := dk_153 0 14 (dk_at dksX3_call_1 11 rfl rfl)
theorem dX3_call_37 : decode cX3_call 37 = .ok (.iload 4, 2) := dk_21 4 (dk_at dksX3_call_1 14 rfl rfl)
theorem dX3_call_39 : decode cX3_call 39 = .ok (.iconst 0, 1) := dk_3 (dk_at dksX3_call_1 16 rfl rfl)
theorem dX3_call_40 : decode cX3_call 40 = .ok (.bipush 9, 2) := dk_16 9 (dk_at dksX3_call_1 17 rfl rfl)
theorem dX3_call_42 : decode cX3_call 42 = .ok (.invokestatic 102, 3) := dk_184 0 102 (dk_at dksX3_call_1 19 rfl rfl)
theorem dX3_call_45 : decode cX3_call 45 = .ok (.ifCond .ne 7, 3) := dk_154 0 7 (dk_at dksX3_call_2 0 rfl rfl)
theorem dX3_call_48 : decode cX3_call 48 = .ok (.iconst 1, 1) := dk_4 (dk_at dksX3_call_2 3 rfl rfl)
theorem dX3_call_49 : decode cX3_call 49 = .ok (.goto 4, 3) := dk_167 0 4 (dk_at dksX3_call_2 4 rfl rfl)
theorem dX3_call_52 : decode cX3_call 52 = .ok (.iconst 0, 1) := dk_3 (dk_at dksX3_call_2 7 rfl rfl)
theorem dX3_call_53 : decode cX3_call 53 = .ok (.iconst 1, 1) := dk_4 (dk_at dksX3_call_2 8 rfl rfl)
theorem dX3_call_54 : decode cX3_call 54 = .ok (.invokevirtual 106, 3) := dk_182 0 106 (dk_at dksX3_call_2 9 rfl rfl)
theorem dX3_call_57 : decode cX3_call 57 = .ok (.ifCond .ne 25, 3) := dk_154 0 25 (dk_at dksX3_call_2 12 rfl rfl)
theorem dX3_call_60 : decode cX3_call 60 = .ok (.aload_n 0, 1) := dk_42 (dk_at dksX3_call_2 15 rfl rfl)
theorem dX3_call_61 : decode cX3_call 61 = .ok (.aload_n 0, 1) := dk_42 (dk_at dksX3_call_2 16 rfl rfl)
theorem dX3_call_62 : decode cX3_call 62 = .ok (.getfield 99, 3) := dk_180 0 99 (dk_at dksX3_call_2 17 rfl rfl)
theorem dX3_call_65 : decode cX3_call 65 = .ok (.bipush 6, 2) := dk_16 6 (dk_at dksX3_call_2 20 rfl rfl)
theorem dX3_call_67 : decode cX3_call 67 = .ok (.if_icmp .ne 7, 3) := dk_160 0 7 (dk_at dksX3_call_3 0 rfl rfl)
theorem dX3_call_70 : decode cX3_call 70 = .ok (.iconst 1, 1) := dk_4 (dk_at dksX3_call_3 3 rfl rfl)
theorem dX3_call_71 : decode cX3_call 71 = .ok (.goto 4, 3) := dk_167 0 4 (dk_at dksX3_call_3 4 rfl rfl)
theorem dX3_call_74 : decode cX3_call 74 = .ok (.iconst 0, 1) := dk_3 (dk_at dksX3_call_3 7 rfl rfl)
theorem dX3_call_75 : decode cX3_call 75 = .ok (.iconst 2, 1) := dk_5 (dk_at dksX3_call_3 8 rfl rfl)
theorem dX3_call_76 : decode cX3_call 76 = .ok (.invokevirtual 106, 3) := dk_182 0 106 (dk_at dksX3_call_3 9 rfl rfl)
theorem dX3_call_79 : decode cX3_call 79 = .ok (.ifCond .eq 5, 3) := dk_153 0 5 (dk_at dksX3_call_3 12 rfl rfl)
theorem dX3_call_82 : decode cX3_call 82 = .ok (.iconst 0, 1) := dk_3 (dk_at dksX3_call_3 15 rfl rfl)
theorem dX3_call_83 : decode cX3_call 83 = .ok (.ireturn, 1) := dk_172 (dk_at dksX3_call_3 16 rfl rfl)
theorem dX3_call_84 : decode cX3_call 84 = .ok (.aload_n 0, 1) := dk_42 (dk_at dksX3_call_3 17 rfl rfl)
theorem dX3_call_85 : decode cX3_call 85 = .ok (.getfield 22, 3) := dk_180 0 22 (dk_at dksX3_call_3 18 rfl rfl)
theorem dX3_call_88 : decode cX3_call 88 = .ok (.aload_n 0, 1) := dk_42 (dk_at dksX3_call_3 21 rfl rfl)
theorem dX3_call_89 : decode cX3_call 89 = .ok (.getfield 99, 3) := dk_180 0 99 (dk_at dksX3_call_4 0 rfl rfl)
theorem dX3_call_92 : decode cX3_call 92 = .ok (.iload_n 1, 1) := dk_27 (dk_at dksX3_call_4 3 rfl rfl)
theorem dX3_call_93 : decode cX3_call 93 = .ok (.iastore, 1) := dk_79 (dk_at dksX3_call_4 4 rfl rfl)
theorem dX3_call_94 : decode cX3_call 94 = .ok (.aload_n 0, 1) := dk_42 (dk_at dksX3_call_4 5 rfl rfl)
theorem dX3_call_95 : decode cX3_call 95 = .ok (.getfield 25, 3) := dk_180 0 25 (dk_at dksX3_call_4 6 rfl rfl)
theorem dX3_call_98 : decode cX3_call 98 = .ok (.aload_n 0, 1) := dk_42 (dk_at dksX3_call_4 9 rfl rfl)
theorem dX3_call_99 : decode cX3_call 99 = .ok (.getfield 99, 3) := dk_180 0 99 (dk_at dksX3_call_4 10 rfl rfl)
theorem dX3_call_102 : decode cX3_call 102 = .ok (.iload_n 2, 1) := dk_28 (dk_at dksX3_call_4 13 rfl rfl)
theorem dX3_call_103 : decode cX3_call 103 = .ok (.iastore, 1) := dk_79 (dk_at dksX3_call_4 14 rfl rfl)
theorem dX3_call_104 : decode cX3_call 104 = .ok (.aload_n 0, 1) := dk_42 (dk_at dksX3_call_4 15 rfl rfl)
theorem dX3_call_105 : decode cX3_call 105 = .ok (.getfield 28, 3) := dk_180 0 28 (dk_at dksX3_call_4 16 rfl rfl)
theorem dX3_call_108 : decode cX3_call 108 = .ok (.aload_n 0, 1) := dk_42 (dk_at dksX3_call_4 19 rfl rfl)
theorem dX3_call_109 : decode cX3_call 109 = .ok (.getfield 99, 3) := dk_180 0 99 (dk_at dksX3_call_4 20 rfl rfl)
theorem dX3_call_112 : decode cX3_call 112 = .ok (.iload_n 3, 1) := dk_29 (dk_at dksX3_call_4 23 rfl rfl)
theorem dX3_call_113 : decode cX3_call 113 = .ok (.iastore, 1) := dk_79 (dk_at dksX3_call_5 0 rfl rfl)
theorem dX3_call_114 : decode cX3_call 114 = .ok (.aload_n 0, 1) := dk_42 (dk_at dksX3_call_5 1 rfl rfl)
theorem dX3_call_115 : decode cX3_call 115 = .ok (.getfield 31, 3) := dk_180 0 31 (dk_at dksX3_call_5 2 rfl rfl)
theorem dX3_call_118 : decode cX3_call 118 = .ok (.aload_n 0, 1) := dk_42 (dk_at dksX3_call_5 5 rfl rfl)
theorem dX3_call_119 : decode cX3_call 119 = .ok (.getfield 99, 3) := dk_180 0 99 (dk_at dksX3_call_5 6 rfl rfl)
theorem dX3_call_122 : decode cX3_call 122 = .ok (.iload 4, 2) := dk_21 4 (dk_at dksX3_call_5 9 rfl rfl)
theorem dX3_call_124 : decode cX3_call 124 = .ok (.iastore, 1) := dk_79 (dk_at dksX3_call_5 11 rfl rfl)
theorem dX3_call_125 : decode cX3_call 125 = .ok (.aload_n 0, 1) := dk_42 (dk_at dksX3_call_5 12 rfl rfl)
theorem dX3_call_126 : decode cX3_call 126 = .ok (.dup, 1) := dk_89 (dk_at dksX3_call_5 13 rfl rfl)
theorem dX3_call_127 : decode cX3_call 127 = .ok (.getfield 99, 3) := dk_180 0 99 (dk_at dksX3_call_5 14 rfl rfl)
theorem dX3_call_130 : decode cX3_call 130 = .ok (.iconst 1, 1) := dk_4 (dk_at dksX3_call_5 17 rfl rfl)
theorem dX3_call_131 : decode cX3_call 131 = .ok (.iadd, 1) := dk_96 (dk_at dksX3_call_5 18 rfl rfl)
theorem dX3_call_132 : decode cX3_call 132 = .ok (.putfield 99, 3) := dk_181 0 99 (dk_at dksX3_call_5 19 rfl rfl)
theorem dX3_call_135 : decode cX3_call 135 = .ok (.aload_n 0, 1) := dk_42 (dk_at dksX3_call_5 22 rfl rfl)
theorem dX3_call_136 : decode cX3_call 136 = .ok (.getfield 99, 3) := dk_180 0 99 (dk_at dksX3_call_6 0 rfl rfl)
theorem dX3_call_139 : decode cX3_call 139 = .ok (.iconst 1, 1) := dk_4 (dk_at dksX3_call_6 3 rfl rfl)
theorem dX3_call_140 : decode cX3_call 140 = .ok (.isub, 1) := dk_100 (dk_at dksX3_call_6 4 rfl rfl)
theorem dX3_call_141 : decode cX3_call 141 = .ok (.ireturn, 1) := dk_172 (dk_at dksX3_call_6 5 rfl rfl)
abbrev cX3_apply : ByteArray := prog_19_method_19_code
def yX3_apply : MethodName := ⟨RX3, "apply", "(IIIIII)I"⟩
def dkwX3_apply_6 : List UInt8 := [181, 0, 110, 42, 180, 0, 110, 4, 100, 172]
abbrev dktX3_apply_6 : List UInt8 := dkwX3_apply_6 ++ []
def dkwX3_apply_5 : List UInt8 := [79, 42, 42, 180, 0, 110, 21, 4, 21, 5, 21, 6, 182, 0, 160, 42, 89, 180, 0, 110, 4, 96]
abbrev dktX3_apply_5 : List UInt8 := dkwX3_apply_5 ++ dktX3_apply_6
def dkwX3_apply_4 : List UInt8 := [180, 0, 110, 27, 79, 42, 180, 0, 47, 42, 180, 0, 110, 28, 79, 42, 180, 0, 50, 42, 180, 0, 110, 29]
abbrev dktX3_apply_4 : List UInt8 := dkwX3_apply_4 ++ dktX3_apply_5
def dkwX3_apply_3 : List UInt8 := [16, 24, 160, 0, 7, 4, 167, 0, 4, 3, 6, 182, 0, 106, 153, 0, 5, 3, 172, 42, 180, 0, 44, 42]
abbrev dktX3_apply_3 : List UInt8 := dkwX3_apply_3 ++ dktX3_apply_4
def dkwX3_apply_2 : List UInt8 := [167, 0, 4, 3, 5, 182, 0, 106, 154, 0, 33, 42, 42, 27, 182, 0, 157, 153, 0, 12, 42, 180, 0, 110]
abbrev dktX3_apply_2 : List UInt8 := dkwX3_apply_2 ++ dktX3_apply_3
def dkwX3_apply_1 : List UInt8 := [29, 3, 16, 9, 184, 0, 102, 153, 0, 15, 21, 4, 21, 5, 21, 6, 184, 0, 154, 154, 0, 7, 4]
abbrev dktX3_apply_1 : List UInt8 := dkwX3_apply_1 ++ dktX3_apply_2
def dkwX3_apply_0 : List UInt8 := [42, 3, 181, 0, 95, 42, 27, 182, 0, 151, 154, 0, 78, 42, 28, 3, 16, 29, 184, 0, 102, 153, 0, 25]
abbrev dktX3_apply_0 : List UInt8 := dkwX3_apply_0 ++ dktX3_apply_1
theorem dksX3_apply_0 : cX3_apply.data.toList.drop 0 = dktX3_apply_0 := by decide +kernel
theorem dksX3_apply_1 : cX3_apply.data.toList.drop 24 = dktX3_apply_1 := dk_seg dksX3_apply_0 24 rfl rfl
theorem dksX3_apply_2 : cX3_apply.data.toList.drop 47 = dktX3_apply_2 := dk_seg dksX3_apply_1 23 rfl rfl
theorem dksX3_apply_3 : cX3_apply.data.toList.drop 71 = dktX3_apply_3 := dk_seg dksX3_apply_2 24 rfl rfl
theorem dksX3_apply_4 : cX3_apply.data.toList.drop 95 = dktX3_apply_4 := dk_seg dksX3_apply_3 24 rfl rfl
theorem dksX3_apply_5 : cX3_apply.data.toList.drop 119 = dktX3_apply_5 := dk_seg dksX3_apply_4 24 rfl rfl
theorem dksX3_apply_6 : cX3_apply.data.toList.drop 141 = dktX3_apply_6 := dk_seg dksX3_apply_5 22 rfl rfl
theorem dX3_apply_0 : decode cX3_apply 0 = .ok (.aload_n 0, 1) := dk_42 (dk_at dksX3_apply_0 0 rfl rfl)
theorem dX3_apply_1 : decode cX3_apply 1 = .ok (.iconst 0, 1) := dk_3 (dk_at dksX3_apply_0 1 rfl rfl)
theorem dX3_apply_2 : decode cX3_apply 2 = .ok (.putfield 95, 3) := dk_181 0 95 (dk_at dksX3_apply_0 2 rfl rfl)
theorem dX3_apply_5 : decode cX3_apply 5 = .ok (.aload_n 0, 1) := dk_42 (dk_at dksX3_apply_0 5 rfl rfl)
theorem dX3_apply_6 : decode cX3_apply 6 = .ok (.iload_n 1, 1) := dk_27 (dk_at dksX3_apply_0 6 rfl rfl)
theorem dX3_apply_7 : decode cX3_apply 7 = .ok (.invokevirtual 151, 3) := dk_182 0 151 (dk_at dksX3_apply_0 7 rfl rfl)
theorem dX3_apply_10 : decode cX3_apply 10 = .ok (.ifCond .ne 78, 3) := dk_154 0 78 (dk_at dksX3_apply_0 10 rfl rfl)
theorem dX3_apply_13 : decode cX3_apply 13 = .ok (.aload_n 0, 1) := dk_42 (dk_at dksX3_apply_0 13 rfl rfl)
theorem dX3_apply_14 : decode cX3_apply 14 = .ok (.iload_n 2, 1) := dk_28 (dk_at dksX3_apply_0 14 rfl rfl)
theorem dX3_apply_15 : decode cX3_apply 15 = .ok (.iconst 0, 1) := dk_3 (dk_at dksX3_apply_0 15 rfl rfl)
theorem dX3_apply_16 : decode cX3_apply 16 = .ok (.bipush 29, 2) := dk_16 29 (dk_at dksX3_apply_0 16 rfl rfl)
theorem dX3_apply_18 : decode cX3_apply 18 = .ok (.invokestatic 102, 3) := dk_184 0 102 (dk_at dksX3_apply_0 18 rfl rfl)
theorem dX3_apply_21 : decode cX3_apply 21 = .ok (.ifCond .eq 25, 3) := dk_153 0 25 (dk_at dksX3_apply_0 21 rfl rfl)
theorem dX3_apply_24 : decode cX3_apply 24 = .ok (.iload_n 3, 1) := dk_29 (dk_at dksX3_apply_1 0 rfl rfl)
theorem dX3_apply_25 : decode cX3_apply 25 = .ok (.iconst 0, 1) := dk_3 (dk_at dksX3_apply_1 1 rfl rfl)
theorem dX3_apply_26 : decode cX3_apply 26 = .ok (.bipush 9, 2) := dk_16 9 (dk_at dksX3_apply_1 2 rfl rfl)
theorem dX3_apply_28 : decode cX3_apply 28 = .ok (.invokestatic 102, 3) := dk_184 0 102 (dk_at dksX3_apply_1 4 rfl rfl)
theorem dX3_apply_31 : decode cX3_apply 31 = .ok (.ifCond .eq 15, 3) := dk_153 0 15 (dk_at dksX3_apply_1 7 rfl rfl)
theorem dX3_apply_34 : decode cX3_apply 34 = .ok (.iload 4, 2) := dk_21 4 (dk_at dksX3_apply_1 10 rfl rfl)
theorem dX3_apply_36 : decode cX3_apply 36 = .ok (.iload 5, 2) := dk_21 5 (dk_at dksX3_apply_1 12 rfl rfl)
theorem dX3_apply_38 : decode cX3_apply 38 = .ok (.iload 6, 2) := dk_21 6 (dk_at dksX3_apply_1 14 rfl rfl)
theorem dX3_apply_40 : decode cX3_apply 40 = .ok (.invokestatic 154, 3) := dk_184 0 154 (dk_at dksX3_apply_1 16 rfl rfl)
theorem dX3_apply_43 : decode cX3_apply 43 = .ok (.ifCond .ne 7, 3) := dk_154 0 7 (dk_at dksX3_apply_1 19 rfl rfl)
theorem dX3_apply_46 : decode cX3_apply 46 = .ok (.iconst 1, 1) := dk_4 (dk_at dksX3_apply_1 22 rfl rfl)
theorem dX3_apply_47 : decode cX3_apply 47 = .ok (.goto 4, 3) := dk_167 0 4 (dk_at dksX3_apply_2 0 rfl rfl)
theorem dX3_apply_50 : decode cX3_apply 50 = .ok (.iconst 0, 1) := dk_3 (dk_at dksX3_apply_2 3 rfl rfl)
theorem dX3_apply_51 : decode cX3_apply 51 = .ok (.iconst 2, 1) := dk_5 (dk_at dksX3_apply_2 4 rfl rfl)
theorem dX3_apply_52 : decode cX3_apply 52 = .ok (.invokevirtual 106, 3) := dk_182 0 106 (dk_at dksX3_apply_2 5 rfl rfl)
theorem dX3_apply_55 : decode cX3_apply 55 = .ok (.ifCond .ne 33, 3) := dk_154 0 33 (dk_at dksX3_apply_2 8 rfl rfl)
theorem dX3_apply_58 : decode cX3_apply 58 = .ok (.aload_n 0, 1) := dk_42 (dk_at dksX3_apply_2 11 rfl rfl)
theorem dX3_apply_59 : decode cX3_apply 59 = .ok (.aload_n 0, 1) := dk_42 (dk_at dksX3_apply_2 12 rfl rfl)
theorem dX3_apply_60 : decode cX3_apply 60 = .ok (.iload_n 1, 1) := dk_27 (dk_at dksX3_apply_2 13 rfl rfl)
theorem dX3_apply_61 : decode cX3_apply 61 = .ok (.invokevirtual 157, 3) := dk_182 0 157 (dk_at dksX3_apply_2 14 rfl rfl)
theorem dX3_apply_64 : decode cX3_apply 64 = .ok (.ifCond .eq 12, 3) := dk_153 0 12 (dk_at dksX3_apply_2 17 rfl rfl)
theorem dX3_apply_67 : decode cX3_apply 67 = .ok (.aload_n 0, 1) := dk_42 (dk_at dksX3_apply_2 20 rfl rfl)
theorem dX3_apply_68 : decode cX3_apply 68 = .ok (.getfield 110, 3) := dk_180 0 110 (dk_at dksX3_apply_2 21 rfl rfl)
theorem dX3_apply_71 : decode cX3_apply 71 = .ok (.bipush 24, 2) := dk_16 24 (dk_at dksX3_apply_3 0 rfl rfl)
theorem dX3_apply_73 : decode cX3_apply 73 = .ok (.if_icmp .ne 7, 3) := dk_160 0 7 (dk_at dksX3_apply_3 2 rfl rfl)
theorem dX3_apply_76 : decode cX3_apply 76 = .ok (.iconst 1, 1) := dk_4 (dk_at dksX3_apply_3 5 rfl rfl)
theorem dX3_apply_77 : decode cX3_apply 77 = .ok (.goto 4, 3) := dk_167 0 4 (dk_at dksX3_apply_3 6 rfl rfl)
theorem dX3_apply_80 : decode cX3_apply 80 = .ok (.iconst 0, 1) := dk_3 (dk_at dksX3_apply_3 9 rfl rfl)
theorem dX3_apply_81 : decode cX3_apply 81 = .ok (.iconst 3, 1) := dk_6 (dk_at dksX3_apply_3 10 rfl rfl)
theorem dX3_apply_82 : decode cX3_apply 82 = .ok (.invokevirtual 106, 3) := dk_182 0 106 (dk_at dksX3_apply_3 11 rfl rfl)
theorem dX3_apply_85 : decode cX3_apply 85 = .ok (.ifCond .eq 5, 3) := dk_153 0 5 (dk_at dksX3_apply_3 14 rfl rfl)
theorem dX3_apply_88 : decode cX3_apply 88 = .ok (.iconst 0, 1) := dk_3 (dk_at dksX3_apply_3 17 rfl rfl)
theorem dX3_apply_89 : decode cX3_apply 89 = .ok (.ireturn, 1) := dk_172 (dk_at dksX3_apply_3 18 rfl rfl)
theorem dX3_apply_90 : decode cX3_apply 90 = .ok (.aload_n 0, 1) := dk_42 (dk_at dksX3_apply_3 19 rfl rfl)
theorem dX3_apply_91 : decode cX3_apply 91 = .ok (.getfield 44, 3) := dk_180 0 44 (dk_at dksX3_apply_3 20 rfl rfl)
theorem dX3_apply_94 : decode cX3_apply 94 = .ok (.aload_n 0, 1) := dk_42 (dk_at dksX3_apply_3 23 rfl rfl)
theorem dX3_apply_95 : decode cX3_apply 95 = .ok (.getfield 110, 3) := dk_180 0 110 (dk_at dksX3_apply_4 0 rfl rfl)
theorem dX3_apply_98 : decode cX3_apply 98 = .ok (.iload_n 1, 1) := dk_27 (dk_at dksX3_apply_4 3 rfl rfl)
theorem dX3_apply_99 : decode cX3_apply 99 = .ok (.iastore, 1) := dk_79 (dk_at dksX3_apply_4 4 rfl rfl)
theorem dX3_apply_100 : decode cX3_apply 100 = .ok (.aload_n 0, 1) := dk_42 (dk_at dksX3_apply_4 5 rfl rfl)
theorem dX3_apply_101 : decode cX3_apply 101 = .ok (.getfield 47, 3) := dk_180 0 47 (dk_at dksX3_apply_4 6 rfl rfl)
theorem dX3_apply_104 : decode cX3_apply 104 = .ok (.aload_n 0, 1) := dk_42 (dk_at dksX3_apply_4 9 rfl rfl)
theorem dX3_apply_105 : decode cX3_apply 105 = .ok (.getfield 110, 3) := dk_180 0 110 (dk_at dksX3_apply_4 10 rfl rfl)
theorem dX3_apply_108 : decode cX3_apply 108 = .ok (.iload_n 2, 1) := dk_28 (dk_at dksX3_apply_4 13 rfl rfl)
theorem dX3_apply_109 : decode cX3_apply 109 = .ok (.iastore, 1) := dk_79 (dk_at dksX3_apply_4 14 rfl rfl)
theorem dX3_apply_110 : decode cX3_apply 110 = .ok (.aload_n 0, 1) := dk_42 (dk_at dksX3_apply_4 15 rfl rfl)
theorem dX3_apply_111 : decode cX3_apply 111 = .ok (.getfield 50, 3) := dk_180 0 50 (dk_at dksX3_apply_4 16 rfl rfl)
theorem dX3_apply_114 : decode cX3_apply 114 = .ok (.aload_n 0, 1) := dk_42 (dk_at dksX3_apply_4 19 rfl rfl)
theorem dX3_apply_115 : decode cX3_apply 115 = .ok (.getfield 110, 3) := dk_180 0 110 (dk_at dksX3_apply_4 20 rfl rfl)
theorem dX3_apply_118 : decode cX3_apply 118 = .ok (.iload_n 3, 1) := dk_29 (dk_at dksX3_apply_4 23 rfl rfl)
theorem dX3_apply_119 : decode cX3_apply 119 = .ok (.iastore, 1) := dk_79 (dk_at dksX3_apply_5 0 rfl rfl)
theorem dX3_apply_120 : decode cX3_apply 120 = .ok (.aload_n 0, 1) := dk_42 (dk_at dksX3_apply_5 1 rfl rfl)
theorem dX3_apply_121 : decode cX3_apply 121 = .ok (.aload_n 0, 1) := dk_42 (dk_at dksX3_apply_5 2 rfl rfl)
theorem dX3_apply_122 : decode cX3_apply 122 = .ok (.getfield 110, 3) := dk_180 0 110 (dk_at dksX3_apply_5 3 rfl rfl)
theorem dX3_apply_125 : decode cX3_apply 125 = .ok (.iload 4, 2) := dk_21 4 (dk_at dksX3_apply_5 6 rfl rfl)
theorem dX3_apply_127 : decode cX3_apply 127 = .ok (.iload 5, 2) := dk_21 5 (dk_at dksX3_apply_5 8 rfl rfl)
theorem dX3_apply_129 : decode cX3_apply 129 = .ok (.iload 6, 2) := dk_21 6 (dk_at dksX3_apply_5 10 rfl rfl)
theorem dX3_apply_131 : decode cX3_apply 131 = .ok (.invokevirtual 160, 3) := dk_182 0 160 (dk_at dksX3_apply_5 12 rfl rfl)
theorem dX3_apply_134 : decode cX3_apply 134 = .ok (.aload_n 0, 1) := dk_42 (dk_at dksX3_apply_5 15 rfl rfl)
theorem dX3_apply_135 : decode cX3_apply 135 = .ok (.dup, 1) := dk_89 (dk_at dksX3_apply_5 16 rfl rfl)
theorem dX3_apply_136 : decode cX3_apply 136 = .ok (.getfield 110, 3) := dk_180 0 110 (dk_at dksX3_apply_5 17 rfl rfl)
theorem dX3_apply_139 : decode cX3_apply 139 = .ok (.iconst 1, 1) := dk_4 (dk_at dksX3_apply_5 20 rfl rfl)
theorem dX3_apply_140 : decode cX3_apply 140 = .ok (.iadd, 1) := dk_96 (dk_at dksX3_apply_5 21 rfl rfl)
theorem dX3_apply_141 : decode cX3_apply 141 = .ok (.putfield 110, 3) := dk_181 0 110 (dk_at dksX3_apply_6 0 rfl rfl)
theorem dX3_apply_144 : decode cX3_apply 144 = .ok (.aload_n 0, 1) := dk_42 (dk_at dksX3_apply_6 3 rfl rfl)
theorem dX3_apply_145 : decode cX3_apply 145 = .ok (.getfield 110, 3) := dk_180 0 110 (dk_at dksX3_apply_6 4 rfl rfl)
theorem dX3_apply_148 : decode cX3_apply 148 = .ok (.iconst 1, 1) := dk_4 (dk_at dksX3_apply_6 7 rfl rfl)
theorem dX3_apply_149 : decode cX3_apply 149 = .ok (.isub, 1) := dk_100 (dk_at dksX3_apply_6 8 rfl rfl)
theorem dX3_apply_150 : decode cX3_apply 150 = .ok (.ireturn, 1) := dk_172 (dk_at dksX3_apply_6 9 rfl rfl)
abbrev cX3_noCall : ByteArray := prog_19_method_5_code
def yX3_noCall : MethodName := ⟨RX3, "noCall", "(I)Z"⟩
def dkwX3_noCall_1 : List UInt8 := [172]
abbrev dktX3_noCall_1 : List UInt8 := dkwX3_noCall_1 ++ []
def dkwX3_noCall_0 : List UInt8 := [42, 27, 3, 42, 180, 0, 99, 4, 100, 184, 0, 102, 154, 0, 7, 4, 167, 0, 4, 3, 4, 182, 0, 106]
abbrev dktX3_noCall_0 : List UInt8 := dkwX3_noCall_0 ++ dktX3_noCall_1
theorem dksX3_noCall_0 : cX3_noCall.data.toList.drop 0 = dktX3_noCall_0 := by decide +kernel
theorem dksX3_noCall_1 : cX3_noCall.data.toList.drop 24 = dktX3_noCall_1 := dk_seg dksX3_noCall_0 24 rfl rfl
theorem dX3_noCall_0 : decode cX3_noCall 0 = .ok (.aload_n 0, 1) := dk_42 (dk_at dksX3_noCall_0 0 rfl rfl)
theorem dX3_noCall_1 : decode cX3_noCall 1 = .ok (.iload_n 1, 1) := dk_27 (dk_at dksX3_noCall_0 1 rfl rfl)
theorem dX3_noCall_2 : decode cX3_noCall 2 = .ok (.iconst 0, 1) := dk_3 (dk_at dksX3_noCall_0 2 rfl rfl)
theorem dX3_noCall_3 : decode cX3_noCall 3 = .ok (.aload_n 0, 1) := dk_42 (dk_at dksX3_noCall_0 3 rfl rfl)
theorem dX3_noCall_4 : decode cX3_noCall 4 = .ok (.getfield 99, 3) := dk_180 0 99 (dk_at dksX3_noCall_0 4 rfl rfl)
theorem dX3_noCall_7 : decode cX3_noCall 7 = .ok (.iconst 1, 1) := dk_4 (dk_at dksX3_noCall_0 7 rfl rfl)
theorem dX3_noCall_8 : decode cX3_noCall 8 = .ok (.isub, 1) := dk_100 (dk_at dksX3_noCall_0 8 rfl rfl)
theorem dX3_noCall_9 : decode cX3_noCall 9 = .ok (.invokestatic 102, 3) := dk_184 0 102 (dk_at dksX3_noCall_0 9 rfl rfl)
theorem dX3_noCall_12 : decode cX3_noCall 12 = .ok (.ifCond .ne 7, 3) := dk_154 0 7 (dk_at dksX3_noCall_0 12 rfl rfl)
theorem dX3_noCall_15 : decode cX3_noCall 15 = .ok (.iconst 1, 1) := dk_4 (dk_at dksX3_noCall_0 15 rfl rfl)
theorem dX3_noCall_16 : decode cX3_noCall 16 = .ok (.goto 4, 3) := dk_167 0 4 (dk_at dksX3_noCall_0 16 rfl rfl)
theorem dX3_noCall_19 : decode cX3_noCall 19 = .ok (.iconst 0, 1) := dk_3 (dk_at dksX3_noCall_0 19 rfl rfl)
theorem dX3_noCall_20 : decode cX3_noCall 20 = .ok (.iconst 1, 1) := dk_4 (dk_at dksX3_noCall_0 20 rfl rfl)
theorem dX3_noCall_21 : decode cX3_noCall 21 = .ok (.invokevirtual 106, 3) := dk_182 0 106 (dk_at dksX3_noCall_0 21 rfl rfl)
theorem dX3_noCall_24 : decode cX3_noCall 24 = .ok (.ireturn, 1) := dk_172 (dk_at dksX3_noCall_1 0 rfl rfl)
abbrev cX3_areRight : ByteArray := prog_19_method_17_code
def yX3_areRight : MethodName := ⟨RX3, "areRight", "(III)Z"⟩
def dkwX3_areRight_1 : List UInt8 := [184, 0, 102, 153, 0, 15, 26, 27, 96, 28, 96, 158, 0, 7, 4, 167, 0, 4, 3, 172]
abbrev dktX3_areRight_1 : List UInt8 := dkwX3_areRight_1 ++ []
def dkwX3_areRight_0 : List UInt8 := [26, 3, 18, 150, 184, 0, 102, 153, 0, 35, 27, 3, 18, 150, 184, 0, 102, 153, 0, 25, 28, 3, 18, 150]
abbrev dktX3_areRight_0 : List UInt8 := dkwX3_areRight_0 ++ dktX3_areRight_1
theorem dksX3_areRight_0 : cX3_areRight.data.toList.drop 0 = dktX3_areRight_0 := by decide +kernel
theorem dksX3_areRight_1 : cX3_areRight.data.toList.drop 24 = dktX3_areRight_1 := dk_seg dksX3_areRight_0 24 rfl rfl
theorem dX3_areRight_0 : decode cX3_areRight 0 = .ok (.iload_n 0, 1) := dk_26 (dk_at dksX3_areRight_0 0 rfl rfl)
theorem dX3_areRight_1 : decode cX3_areRight 1 = .ok (.iconst 0, 1) := dk_3 (dk_at dksX3_areRight_0 1 rfl rfl)
theorem dX3_areRight_2 : decode cX3_areRight 2 = .ok (.ldc 150, 2) := dk_18 150 (dk_at dksX3_areRight_0 2 rfl rfl)
theorem dX3_areRight_4 : decode cX3_areRight 4 = .ok (.invokestatic 102, 3) := dk_184 0 102 (dk_at dksX3_areRight_0 4 rfl rfl)
theorem dX3_areRight_7 : decode cX3_areRight 7 = .ok (.ifCond .eq 35, 3) := dk_153 0 35 (dk_at dksX3_areRight_0 7 rfl rfl)
theorem dX3_areRight_10 : decode cX3_areRight 10 = .ok (.iload_n 1, 1) := dk_27 (dk_at dksX3_areRight_0 10 rfl rfl)
theorem dX3_areRight_11 : decode cX3_areRight 11 = .ok (.iconst 0, 1) := dk_3 (dk_at dksX3_areRight_0 11 rfl rfl)
theorem dX3_areRight_12 : decode cX3_areRight 12 = .ok (.ldc 150, 2) := dk_18 150 (dk_at dksX3_areRight_0 12 rfl rfl)
theorem dX3_areRight_14 : decode cX3_areRight 14 = .ok (.invokestatic 102, 3) := dk_184 0 102 (dk_at dksX3_areRight_0 14 rfl rfl)
theorem dX3_areRight_17 : decode cX3_areRight 17 = .ok (.ifCond .eq 25, 3) := dk_153 0 25 (dk_at dksX3_areRight_0 17 rfl rfl)
theorem dX3_areRight_20 : decode cX3_areRight 20 = .ok (.iload_n 2, 1) := dk_28 (dk_at dksX3_areRight_0 20 rfl rfl)
theorem dX3_areRight_21 : decode cX3_areRight 21 = .ok (.iconst 0, 1) := dk_3 (dk_at dksX3_areRight_0 21 rfl rfl)
theorem dX3_areRight_22 : decode cX3_areRight 22 = .ok (.ldc 150, 2) := dk_18 150 (dk_at dksX3_areRight_0 22 rfl rfl)
theorem dX3_areRight_24 : decode cX3_areRight 24 = .ok (.invokestatic 102, 3) := dk_184 0 102 (dk_at dksX3_areRight_1 0 rfl rfl)
theorem dX3_areRight_27 : decode cX3_areRight 27 = .ok (.ifCond .eq 15, 3) := dk_153 0 15 (dk_at dksX3_areRight_1 3 rfl rfl)
theorem dX3_areRight_30 : decode cX3_areRight 30 = .ok (.iload_n 0, 1) := dk_26 (dk_at dksX3_areRight_1 6 rfl rfl)
theorem dX3_areRight_31 : decode cX3_areRight 31 = .ok (.iload_n 1, 1) := dk_27 (dk_at dksX3_areRight_1 7 rfl rfl)
theorem dX3_areRight_32 : decode cX3_areRight 32 = .ok (.iadd, 1) := dk_96 (dk_at dksX3_areRight_1 8 rfl rfl)
theorem dX3_areRight_33 : decode cX3_areRight 33 = .ok (.iload_n 2, 1) := dk_28 (dk_at dksX3_areRight_1 9 rfl rfl)
theorem dX3_areRight_34 : decode cX3_areRight 34 = .ok (.iadd, 1) := dk_96 (dk_at dksX3_areRight_1 10 rfl rfl)
theorem dX3_areRight_35 : decode cX3_areRight 35 = .ok (.ifCond .le 7, 3) := dk_158 0 7 (dk_at dksX3_areRight_1 11 rfl rfl)
theorem dX3_areRight_38 : decode cX3_areRight 38 = .ok (.iconst 1, 1) := dk_4 (dk_at dksX3_areRight_1 14 rfl rfl)
theorem dX3_areRight_39 : decode cX3_areRight 39 = .ok (.goto 4, 3) := dk_167 0 4 (dk_at dksX3_areRight_1 15 rfl rfl)
theorem dX3_areRight_42 : decode cX3_areRight 42 = .ok (.iconst 0, 1) := dk_3 (dk_at dksX3_areRight_1 18 rfl rfl)
theorem dX3_areRight_43 : decode cX3_areRight 43 = .ok (.ireturn, 1) := dk_172 (dk_at dksX3_areRight_1 19 rfl rfl)
abbrev cX3_isOpen : ByteArray := prog_19_method_16_code
def yX3_isOpen : MethodName := ⟨RX3, "isOpen", "(I)Z"⟩
def dkwX3_isOpen_0 : List UInt8 := [42, 180, 0, 147, 42, 180, 0, 25, 27, 46, 42, 180, 0, 28, 27, 46, 184, 0, 102, 172]
abbrev dktX3_isOpen_0 : List UInt8 := dkwX3_isOpen_0 ++ []
theorem dksX3_isOpen_0 : cX3_isOpen.data.toList.drop 0 = dktX3_isOpen_0 := by decide +kernel
theorem dX3_isOpen_0 : decode cX3_isOpen 0 = .ok (.aload_n 0, 1) := dk_42 (dk_at dksX3_isOpen_0 0 rfl rfl)
theorem dX3_isOpen_1 : decode cX3_isOpen 1 = .ok (.getfield 147, 3) := dk_180 0 147 (dk_at dksX3_isOpen_0 1 rfl rfl)
theorem dX3_isOpen_4 : decode cX3_isOpen 4 = .ok (.aload_n 0, 1) := dk_42 (dk_at dksX3_isOpen_0 4 rfl rfl)
theorem dX3_isOpen_5 : decode cX3_isOpen 5 = .ok (.getfield 25, 3) := dk_180 0 25 (dk_at dksX3_isOpen_0 5 rfl rfl)
theorem dX3_isOpen_8 : decode cX3_isOpen 8 = .ok (.iload_n 1, 1) := dk_27 (dk_at dksX3_isOpen_0 8 rfl rfl)
theorem dX3_isOpen_9 : decode cX3_isOpen 9 = .ok (.iaload, 1) := dk_46 (dk_at dksX3_isOpen_0 9 rfl rfl)
theorem dX3_isOpen_10 : decode cX3_isOpen 10 = .ok (.aload_n 0, 1) := dk_42 (dk_at dksX3_isOpen_0 10 rfl rfl)
theorem dX3_isOpen_11 : decode cX3_isOpen 11 = .ok (.getfield 28, 3) := dk_180 0 28 (dk_at dksX3_isOpen_0 11 rfl rfl)
theorem dX3_isOpen_14 : decode cX3_isOpen 14 = .ok (.iload_n 1, 1) := dk_27 (dk_at dksX3_isOpen_0 14 rfl rfl)
theorem dX3_isOpen_15 : decode cX3_isOpen 15 = .ok (.iaload, 1) := dk_46 (dk_at dksX3_isOpen_0 15 rfl rfl)
theorem dX3_isOpen_16 : decode cX3_isOpen 16 = .ok (.invokestatic 102, 3) := dk_184 0 102 (dk_at dksX3_isOpen_0 16 rfl rfl)
theorem dX3_isOpen_19 : decode cX3_isOpen 19 = .ok (.ireturn, 1) := dk_172 (dk_at dksX3_isOpen_0 19 rfl rfl)
abbrev cX3_asks : ByteArray := prog_19_method_18_code
def yX3_asks : MethodName := ⟨RX3, "asks", "(IIII)V"⟩
def dkwX3_asks_2 : List UInt8 := [46, 4, 96, 79, 177]
abbrev dktX3_asks_2 : List UInt8 := dkwX3_asks_2 ++ []
def dkwX3_asks_1 : List UInt8 := [6, 27, 104, 5, 96, 21, 4, 79, 42, 180, 0, 59, 27, 42, 180, 0, 147, 79, 42, 180, 0, 56, 27, 92]
abbrev dktX3_asks_1 : List UInt8 := dkwX3_asks_1 ++ dktX3_asks_2
def dkwX3_asks_0 : List UInt8 := [42, 180, 0, 53, 6, 27, 104, 28, 79, 42, 180, 0, 53, 6, 27, 104, 4, 96, 29, 79, 42, 180, 0, 53]
abbrev dktX3_asks_0 : List UInt8 := dkwX3_asks_0 ++ dktX3_asks_1
theorem dksX3_asks_0 : cX3_asks.data.toList.drop 0 = dktX3_asks_0 := by decide +kernel
theorem dksX3_asks_1 : cX3_asks.data.toList.drop 24 = dktX3_asks_1 := dk_seg dksX3_asks_0 24 rfl rfl
theorem dksX3_asks_2 : cX3_asks.data.toList.drop 48 = dktX3_asks_2 := dk_seg dksX3_asks_1 24 rfl rfl
theorem dX3_asks_0 : decode cX3_asks 0 = .ok (.aload_n 0, 1) := dk_42 (dk_at dksX3_asks_0 0 rfl rfl)
theorem dX3_asks_1 : decode cX3_asks 1 = .ok (.getfield 53, 3) := dk_180 0 53 (dk_at dksX3_asks_0 1 rfl rfl)
theorem dX3_asks_4 : decode cX3_asks 4 = .ok (.iconst 3, 1) := dk_6 (dk_at dksX3_asks_0 4 rfl rfl)
theorem dX3_asks_5 : decode cX3_asks 5 = .ok (.iload_n 1, 1) := dk_27 (dk_at dksX3_asks_0 5 rfl rfl)
theorem dX3_asks_6 : decode cX3_asks 6 = .ok (.imul, 1) := dk_104 (dk_at dksX3_asks_0 6 rfl rfl)
theorem dX3_asks_7 : decode cX3_asks 7 = .ok (.iload_n 2, 1) := dk_28 (dk_at dksX3_asks_0 7 rfl rfl)
theorem dX3_asks_8 : decode cX3_asks 8 = .ok (.iastore, 1) := dk_79 (dk_at dksX3_asks_0 8 rfl rfl)
theorem dX3_asks_9 : decode cX3_asks 9 = .ok (.aload_n 0, 1) := dk_42 (dk_at dksX3_asks_0 9 rfl rfl)
theorem dX3_asks_10 : decode cX3_asks 10 = .ok (.getfield 53, 3) := dk_180 0 53 (dk_at dksX3_asks_0 10 rfl rfl)
theorem dX3_asks_13 : decode cX3_asks 13 = .ok (.iconst 3, 1) := dk_6 (dk_at dksX3_asks_0 13 rfl rfl)
theorem dX3_asks_14 : decode cX3_asks 14 = .ok (.iload_n 1, 1) := dk_27 (dk_at dksX3_asks_0 14 rfl rfl)
theorem dX3_asks_15 : decode cX3_asks 15 = .ok (.imul, 1) := dk_104 (dk_at dksX3_asks_0 15 rfl rfl)
theorem dX3_asks_16 : decode cX3_asks 16 = .ok (.iconst 1, 1) := dk_4 (dk_at dksX3_asks_0 16 rfl rfl)
theorem dX3_asks_17 : decode cX3_asks 17 = .ok (.iadd, 1) := dk_96 (dk_at dksX3_asks_0 17 rfl rfl)
theorem dX3_asks_18 : decode cX3_asks 18 = .ok (.iload_n 3, 1) := dk_29 (dk_at dksX3_asks_0 18 rfl rfl)
theorem dX3_asks_19 : decode cX3_asks 19 = .ok (.iastore, 1) := dk_79 (dk_at dksX3_asks_0 19 rfl rfl)
theorem dX3_asks_20 : decode cX3_asks 20 = .ok (.aload_n 0, 1) := dk_42 (dk_at dksX3_asks_0 20 rfl rfl)
theorem dX3_asks_21 : decode cX3_asks 21 = .ok (.getfield 53, 3) := dk_180 0 53 (dk_at dksX3_asks_0 21 rfl rfl)
theorem dX3_asks_24 : decode cX3_asks 24 = .ok (.iconst 3, 1) := dk_6 (dk_at dksX3_asks_1 0 rfl rfl)
theorem dX3_asks_25 : decode cX3_asks 25 = .ok (.iload_n 1, 1) := dk_27 (dk_at dksX3_asks_1 1 rfl rfl)
theorem dX3_asks_26 : decode cX3_asks 26 = .ok (.imul, 1) := dk_104 (dk_at dksX3_asks_1 2 rfl rfl)
theorem dX3_asks_27 : decode cX3_asks 27 = .ok (.iconst 2, 1) := dk_5 (dk_at dksX3_asks_1 3 rfl rfl)
theorem dX3_asks_28 : decode cX3_asks 28 = .ok (.iadd, 1) := dk_96 (dk_at dksX3_asks_1 4 rfl rfl)
theorem dX3_asks_29 : decode cX3_asks 29 = .ok (.iload 4, 2) := dk_21 4 (dk_at dksX3_asks_1 5 rfl rfl)
theorem dX3_asks_31 : decode cX3_asks 31 = .ok (.iastore, 1) := dk_79 (dk_at dksX3_asks_1 7 rfl rfl)
theorem dX3_asks_32 : decode cX3_asks 32 = .ok (.aload_n 0, 1) := dk_42 (dk_at dksX3_asks_1 8 rfl rfl)
theorem dX3_asks_33 : decode cX3_asks 33 = .ok (.getfield 59, 3) := dk_180 0 59 (dk_at dksX3_asks_1 9 rfl rfl)
theorem dX3_asks_36 : decode cX3_asks 36 = .ok (.iload_n 1, 1) := dk_27 (dk_at dksX3_asks_1 12 rfl rfl)
theorem dX3_asks_37 : decode cX3_asks 37 = .ok (.aload_n 0, 1) := dk_42 (dk_at dksX3_asks_1 13 rfl rfl)
theorem dX3_asks_38 : decode cX3_asks 38 = .ok (.getfield 147, 3) := dk_180 0 147 (dk_at dksX3_asks_1 14 rfl rfl)
theorem dX3_asks_41 : decode cX3_asks 41 = .ok (.iastore, 1) := dk_79 (dk_at dksX3_asks_1 17 rfl rfl)
theorem dX3_asks_42 : decode cX3_asks 42 = .ok (.aload_n 0, 1) := dk_42 (dk_at dksX3_asks_1 18 rfl rfl)
theorem dX3_asks_43 : decode cX3_asks 43 = .ok (.getfield 56, 3) := dk_180 0 56 (dk_at dksX3_asks_1 19 rfl rfl)
theorem dX3_asks_46 : decode cX3_asks 46 = .ok (.iload_n 1, 1) := dk_27 (dk_at dksX3_asks_1 22 rfl rfl)
theorem dX3_asks_47 : decode cX3_asks 47 = .ok (.dup2, 1) := dk_92 (dk_at dksX3_asks_1 23 rfl rfl)
theorem dX3_asks_48 : decode cX3_asks 48 = .ok (.iaload, 1) := dk_46 (dk_at dksX3_asks_2 0 rfl rfl)
theorem dX3_asks_49 : decode cX3_asks 49 = .ok (.iconst 1, 1) := dk_4 (dk_at dksX3_asks_2 1 rfl rfl)
theorem dX3_asks_50 : decode cX3_asks 50 = .ok (.iadd, 1) := dk_96 (dk_at dksX3_asks_2 2 rfl rfl)
theorem dX3_asks_51 : decode cX3_asks 51 = .ok (.iastore, 1) := dk_79 (dk_at dksX3_asks_2 3 rfl rfl)
theorem dX3_asks_52 : decode cX3_asks 52 = .ok (.return_, 1) := dk_177 (dk_at dksX3_asks_2 4 rfl rfl)
abbrev cX3_revise : ByteArray := prog_19_method_20_code
def yX3_revise : MethodName := ⟨RX3, "revise", "(IIII)I"⟩
def dkwX3_revise_3 : List UInt8 := [153, 0, 5, 3, 172, 42, 27, 28, 29, 21, 4, 182, 0, 160, 42, 180, 0, 56, 27, 46, 172]
abbrev dktX3_revise_3 : List UInt8 := dkwX3_revise_3 ++ []
def dkwX3_revise_2 : List UInt8 := [153, 0, 13, 42, 180, 0, 62, 27, 46, 8, 160, 0, 7, 4, 167, 0, 4, 3, 6, 182, 0, 106]
abbrev dktX3_revise_2 : List UInt8 := dkwX3_revise_2 ++ dktX3_revise_3
def dkwX3_revise_1 : List UInt8 := [4, 167, 0, 4, 3, 5, 182, 0, 106, 154, 0, 39, 42, 42, 42, 180, 0, 44, 27, 46, 182, 0, 157]
abbrev dktX3_revise_1 : List UInt8 := dkwX3_revise_1 ++ dktX3_revise_2
def dkwX3_revise_0 : List UInt8 := [42, 3, 181, 0, 95, 42, 27, 182, 0, 164, 154, 0, 62, 42, 28, 29, 21, 4, 184, 0, 154, 154, 0, 7]
abbrev dktX3_revise_0 : List UInt8 := dkwX3_revise_0 ++ dktX3_revise_1
theorem dksX3_revise_0 : cX3_revise.data.toList.drop 0 = dktX3_revise_0 := by decide +kernel
theorem dksX3_revise_1 : cX3_revise.data.toList.drop 24 = dktX3_revise_1 := dk_seg dksX3_revise_0 24 rfl rfl
theorem dksX3_revise_2 : cX3_revise.data.toList.drop 47 = dktX3_revise_2 := dk_seg dksX3_revise_1 23 rfl rfl
theorem dksX3_revise_3 : cX3_revise.data.toList.drop 69 = dktX3_revise_3 := dk_seg dksX3_revise_2 22 rfl rfl
theorem dX3_revise_0 : decode cX3_revise 0 = .ok (.aload_n 0, 1) := dk_42 (dk_at dksX3_revise_0 0 rfl rfl)
theorem dX3_revise_1 : decode cX3_revise 1 = .ok (.iconst 0, 1) := dk_3 (dk_at dksX3_revise_0 1 rfl rfl)
theorem dX3_revise_2 : decode cX3_revise 2 = .ok (.putfield 95, 3) := dk_181 0 95 (dk_at dksX3_revise_0 2 rfl rfl)
theorem dX3_revise_5 : decode cX3_revise 5 = .ok (.aload_n 0, 1) := dk_42 (dk_at dksX3_revise_0 5 rfl rfl)
theorem dX3_revise_6 : decode cX3_revise 6 = .ok (.iload_n 1, 1) := dk_27 (dk_at dksX3_revise_0 6 rfl rfl)
theorem dX3_revise_7 : decode cX3_revise 7 = .ok (.invokevirtual 164, 3) := dk_182 0 164 (dk_at dksX3_revise_0 7 rfl rfl)
theorem dX3_revise_10 : decode cX3_revise 10 = .ok (.ifCond .ne 62, 3) := dk_154 0 62 (dk_at dksX3_revise_0 10 rfl rfl)
theorem dX3_revise_13 : decode cX3_revise 13 = .ok (.aload_n 0, 1) := dk_42 (dk_at dksX3_revise_0 13 rfl rfl)
theorem dX3_revise_14 : decode cX3_revise 14 = .ok (.iload_n 2, 1) := dk_28 (dk_at dksX3_revise_0 14 rfl rfl)
theorem dX3_revise_15 : decode cX3_revise 15 = .ok (.iload_n 3, 1) := dk_29 (dk_at dksX3_revise_0 15 rfl rfl)
theorem dX3_revise_16 : decode cX3_revise 16 = .ok (.iload 4, 2) := dk_21 4 (dk_at dksX3_revise_0 16 rfl rfl)
theorem dX3_revise_18 : decode cX3_revise 18 = .ok (.invokestatic 154, 3) := dk_184 0 154 (dk_at dksX3_revise_0 18 rfl rfl)
theorem dX3_revise_21 : decode cX3_revise 21 = .ok (.ifCond .ne 7, 3) := dk_154 0 7 (dk_at dksX3_revise_0 21 rfl rfl)
theorem dX3_revise_24 : decode cX3_revise 24 = .ok (.iconst 1, 1) := dk_4 (dk_at dksX3_revise_1 0 rfl rfl)
theorem dX3_revise_25 : decode cX3_revise 25 = .ok (.goto 4, 3) := dk_167 0 4 (dk_at dksX3_revise_1 1 rfl rfl)
theorem dX3_revise_28 : decode cX3_revise 28 = .ok (.iconst 0, 1) := dk_3 (dk_at dksX3_revise_1 4 rfl rfl)
theorem dX3_revise_29 : decode cX3_revise 29 = .ok (.iconst 2, 1) := dk_5 (dk_at dksX3_revise_1 5 rfl rfl)
theorem dX3_revise_30 : decode cX3_revise 30 = .ok (.invokevirtual 106, 3) := dk_182 0 106 (dk_at dksX3_revise_1 6 rfl rfl)
theorem dX3_revise_33 : decode cX3_revise 33 = .ok (.ifCond .ne 39, 3) := dk_154 0 39 (dk_at dksX3_revise_1 9 rfl rfl)
theorem dX3_revise_36 : decode cX3_revise 36 = .ok (.aload_n 0, 1) := dk_42 (dk_at dksX3_revise_1 12 rfl rfl)
theorem dX3_revise_37 : decode cX3_revise 37 = .ok (.aload_n 0, 1) := dk_42 (dk_at dksX3_revise_1 13 rfl rfl)
theorem dX3_revise_38 : decode cX3_revise 38 = .ok (.aload_n 0, 1) := dk_42 (dk_at dksX3_revise_1 14 rfl rfl)
theorem dX3_revise_39 : decode cX3_revise 39 = .ok (.getfield 44, 3) := dk_180 0 44 (dk_at dksX3_revise_1 15 rfl rfl)
theorem dX3_revise_42 : decode cX3_revise 42 = .ok (.iload_n 1, 1) := dk_27 (dk_at dksX3_revise_1 18 rfl rfl)
theorem dX3_revise_43 : decode cX3_revise 43 = .ok (.iaload, 1) := dk_46 (dk_at dksX3_revise_1 19 rfl rfl)
theorem dX3_revise_44 : decode cX3_revise 44 = .ok (.invokevirtual 157, 3) := dk_182 0 157 (dk_at dksX3_revise_1 20 rfl rfl)
theorem dX3_revise_47 : decode cX3_revise 47 = .ok (.ifCond .eq 13, 3) := dk_153 0 13 (dk_at dksX3_revise_2 0 rfl rfl)
theorem dX3_revise_50 : decode cX3_revise 50 = .ok (.aload_n 0, 1) := dk_42 (dk_at dksX3_revise_2 3 rfl rfl)
theorem dX3_revise_51 : decode cX3_revise 51 = .ok (.getfield 62, 3) := dk_180 0 62 (dk_at dksX3_revise_2 4 rfl rfl)
theorem dX3_revise_54 : decode cX3_revise 54 = .ok (.iload_n 1, 1) := dk_27 (dk_at dksX3_revise_2 7 rfl rfl)
theorem dX3_revise_55 : decode cX3_revise 55 = .ok (.iaload, 1) := dk_46 (dk_at dksX3_revise_2 8 rfl rfl)
theorem dX3_revise_56 : decode cX3_revise 56 = .ok (.iconst 5, 1) := dk_8 (dk_at dksX3_revise_2 9 rfl rfl)
theorem dX3_revise_57 : decode cX3_revise 57 = .ok (.if_icmp .ne 7, 3) := dk_160 0 7 (dk_at dksX3_revise_2 10 rfl rfl)
theorem dX3_revise_60 : decode cX3_revise 60 = .ok (.iconst 1, 1) := dk_4 (dk_at dksX3_revise_2 13 rfl rfl)
theorem dX3_revise_61 : decode cX3_revise 61 = .ok (.goto 4, 3) := dk_167 0 4 (dk_at dksX3_revise_2 14 rfl rfl)
theorem dX3_revise_64 : decode cX3_revise 64 = .ok (.iconst 0, 1) := dk_3 (dk_at dksX3_revise_2 17 rfl rfl)
theorem dX3_revise_65 : decode cX3_revise 65 = .ok (.iconst 3, 1) := dk_6 (dk_at dksX3_revise_2 18 rfl rfl)
theorem dX3_revise_66 : decode cX3_revise 66 = .ok (.invokevirtual 106, 3) := dk_182 0 106 (dk_at dksX3_revise_2 19 rfl rfl)
theorem dX3_revise_69 : decode cX3_revise 69 = .ok (.ifCond .eq 5, 3) := dk_153 0 5 (dk_at dksX3_revise_3 0 rfl rfl)
theorem dX3_revise_72 : decode cX3_revise 72 = .ok (.iconst 0, 1) := dk_3 (dk_at dksX3_revise_3 3 rfl rfl)
theorem dX3_revise_73 : decode cX3_revise 73 = .ok (.ireturn, 1) := dk_172 (dk_at dksX3_revise_3 4 rfl rfl)
theorem dX3_revise_74 : decode cX3_revise 74 = .ok (.aload_n 0, 1) := dk_42 (dk_at dksX3_revise_3 5 rfl rfl)
theorem dX3_revise_75 : decode cX3_revise 75 = .ok (.iload_n 1, 1) := dk_27 (dk_at dksX3_revise_3 6 rfl rfl)
theorem dX3_revise_76 : decode cX3_revise 76 = .ok (.iload_n 2, 1) := dk_28 (dk_at dksX3_revise_3 7 rfl rfl)
theorem dX3_revise_77 : decode cX3_revise 77 = .ok (.iload_n 3, 1) := dk_29 (dk_at dksX3_revise_3 8 rfl rfl)
theorem dX3_revise_78 : decode cX3_revise 78 = .ok (.iload 4, 2) := dk_21 4 (dk_at dksX3_revise_3 9 rfl rfl)
theorem dX3_revise_80 : decode cX3_revise 80 = .ok (.invokevirtual 160, 3) := dk_182 0 160 (dk_at dksX3_revise_3 11 rfl rfl)
theorem dX3_revise_83 : decode cX3_revise 83 = .ok (.aload_n 0, 1) := dk_42 (dk_at dksX3_revise_3 14 rfl rfl)
theorem dX3_revise_84 : decode cX3_revise 84 = .ok (.getfield 56, 3) := dk_180 0 56 (dk_at dksX3_revise_3 15 rfl rfl)
theorem dX3_revise_87 : decode cX3_revise 87 = .ok (.iload_n 1, 1) := dk_27 (dk_at dksX3_revise_3 18 rfl rfl)
theorem dX3_revise_88 : decode cX3_revise 88 = .ok (.iaload, 1) := dk_46 (dk_at dksX3_revise_3 19 rfl rfl)
theorem dX3_revise_89 : decode cX3_revise 89 = .ok (.ireturn, 1) := dk_172 (dk_at dksX3_revise_3 20 rfl rfl)
abbrev cX3_noApplication : ByteArray := prog_19_method_6_code
def yX3_noApplication : MethodName := ⟨RX3, "noApplication", "(I)Z"⟩
def dkwX3_noApplication_1 : List UInt8 := [172]
abbrev dktX3_noApplication_1 : List UInt8 := dkwX3_noApplication_1 ++ []
def dkwX3_noApplication_0 : List UInt8 := [42, 27, 3, 42, 180, 0, 110, 4, 100, 184, 0, 102, 154, 0, 7, 4, 167, 0, 4, 3, 4, 182, 0, 106]
abbrev dktX3_noApplication_0 : List UInt8 := dkwX3_noApplication_0 ++ dktX3_noApplication_1
theorem dksX3_noApplication_0 : cX3_noApplication.data.toList.drop 0 = dktX3_noApplication_0 := by decide +kernel
theorem dksX3_noApplication_1 : cX3_noApplication.data.toList.drop 24 = dktX3_noApplication_1 := dk_seg dksX3_noApplication_0 24 rfl rfl
theorem dX3_noApplication_0 : decode cX3_noApplication 0 = .ok (.aload_n 0, 1) := dk_42 (dk_at dksX3_noApplication_0 0 rfl rfl)
theorem dX3_noApplication_1 : decode cX3_noApplication 1 = .ok (.iload_n 1, 1) := dk_27 (dk_at dksX3_noApplication_0 1 rfl rfl)
theorem dX3_noApplication_2 : decode cX3_noApplication 2 = .ok (.iconst 0, 1) := dk_3 (dk_at dksX3_noApplication_0 2 rfl rfl)
theorem dX3_noApplication_3 : decode cX3_noApplication 3 = .ok (.aload_n 0, 1) := dk_42 (dk_at dksX3_noApplication_0 3 rfl rfl)
theorem dX3_noApplication_4 : decode cX3_noApplication 4 = .ok (.getfield 110, 3) := dk_180 0 110 (dk_at dksX3_noApplication_0 4 rfl rfl)
theorem dX3_noApplication_7 : decode cX3_noApplication 7 = .ok (.iconst 1, 1) := dk_4 (dk_at dksX3_noApplication_0 7 rfl rfl)
theorem dX3_noApplication_8 : decode cX3_noApplication 8 = .ok (.isub, 1) := dk_100 (dk_at dksX3_noApplication_0 8 rfl rfl)
theorem dX3_noApplication_9 : decode cX3_noApplication 9 = .ok (.invokestatic 102, 3) := dk_184 0 102 (dk_at dksX3_noApplication_0 9 rfl rfl)
theorem dX3_noApplication_12 : decode cX3_noApplication 12 = .ok (.ifCond .ne 7, 3) := dk_154 0 7 (dk_at dksX3_noApplication_0 12 rfl rfl)
theorem dX3_noApplication_15 : decode cX3_noApplication 15 = .ok (.iconst 1, 1) := dk_4 (dk_at dksX3_noApplication_0 15 rfl rfl)
theorem dX3_noApplication_16 : decode cX3_noApplication 16 = .ok (.goto 4, 3) := dk_167 0 4 (dk_at dksX3_noApplication_0 16 rfl rfl)
theorem dX3_noApplication_19 : decode cX3_noApplication 19 = .ok (.iconst 0, 1) := dk_3 (dk_at dksX3_noApplication_0 19 rfl rfl)
theorem dX3_noApplication_20 : decode cX3_noApplication 20 = .ok (.iconst 1, 1) := dk_4 (dk_at dksX3_noApplication_0 20 rfl rfl)
theorem dX3_noApplication_21 : decode cX3_noApplication 21 = .ok (.invokevirtual 106, 3) := dk_182 0 106 (dk_at dksX3_noApplication_0 21 rfl rfl)
theorem dX3_noApplication_24 : decode cX3_noApplication 24 = .ok (.ireturn, 1) := dk_172 (dk_at dksX3_noApplication_1 0 rfl rfl)
abbrev cX3_reviewer : ByteArray := prog_19_method_21_code
def yX3_reviewer : MethodName := ⟨RX3, "reviewer", "(II)I"⟩
def dkwX3_reviewer_4 : List UInt8 := [181, 0, 113, 42, 180, 0, 113, 4, 100, 172]
abbrev dktX3_reviewer_4 : List UInt8 := dkwX3_reviewer_4 ++ []
def dkwX3_reviewer_3 : List UInt8 := [180, 0, 113, 27, 79, 42, 180, 0, 74, 42, 180, 0, 113, 28, 79, 42, 89, 180, 0, 113, 4, 96]
abbrev dktX3_reviewer_3 : List UInt8 := dkwX3_reviewer_3 ++ dktX3_reviewer_4
def dkwX3_reviewer_2 : List UInt8 := [160, 0, 7, 4, 167, 0, 4, 3, 5, 182, 0, 106, 153, 0, 5, 3, 172, 42, 180, 0, 71, 42]
abbrev dktX3_reviewer_2 : List UInt8 := dkwX3_reviewer_2 ++ dktX3_reviewer_3
def dkwX3_reviewer_1 : List UInt8 := [154, 0, 7, 4, 167, 0, 4, 3, 4, 182, 0, 106, 154, 0, 25, 42, 42, 180, 0, 113, 16, 10]
abbrev dktX3_reviewer_1 : List UInt8 := dkwX3_reviewer_1 ++ dktX3_reviewer_2
def dkwX3_reviewer_0 : List UInt8 := [42, 3, 181, 0, 95, 42, 27, 3, 16, 29, 184, 0, 102, 153, 0, 13, 28, 3, 16, 9, 184, 0, 102]
abbrev dktX3_reviewer_0 : List UInt8 := dkwX3_reviewer_0 ++ dktX3_reviewer_1
theorem dksX3_reviewer_0 : cX3_reviewer.data.toList.drop 0 = dktX3_reviewer_0 := by decide +kernel
theorem dksX3_reviewer_1 : cX3_reviewer.data.toList.drop 23 = dktX3_reviewer_1 := dk_seg dksX3_reviewer_0 23 rfl rfl
theorem dksX3_reviewer_2 : cX3_reviewer.data.toList.drop 45 = dktX3_reviewer_2 := dk_seg dksX3_reviewer_1 22 rfl rfl
theorem dksX3_reviewer_3 : cX3_reviewer.data.toList.drop 67 = dktX3_reviewer_3 := dk_seg dksX3_reviewer_2 22 rfl rfl
theorem dksX3_reviewer_4 : cX3_reviewer.data.toList.drop 89 = dktX3_reviewer_4 := dk_seg dksX3_reviewer_3 22 rfl rfl
theorem dX3_reviewer_0 : decode cX3_reviewer 0 = .ok (.aload_n 0, 1) := dk_42 (dk_at dksX3_reviewer_0 0 rfl rfl)
theorem dX3_reviewer_1 : decode cX3_reviewer 1 = .ok (.iconst 0, 1) := dk_3 (dk_at dksX3_reviewer_0 1 rfl rfl)
theorem dX3_reviewer_2 : decode cX3_reviewer 2 = .ok (.putfield 95, 3) := dk_181 0 95 (dk_at dksX3_reviewer_0 2 rfl rfl)
theorem dX3_reviewer_5 : decode cX3_reviewer 5 = .ok (.aload_n 0, 1) := dk_42 (dk_at dksX3_reviewer_0 5 rfl rfl)
theorem dX3_reviewer_6 : decode cX3_reviewer 6 = .ok (.iload_n 1, 1) := dk_27 (dk_at dksX3_reviewer_0 6 rfl rfl)
theorem dX3_reviewer_7 : decode cX3_reviewer 7 = .ok (.iconst 0, 1) := dk_3 (dk_at dksX3_reviewer_0 7 rfl rfl)
theorem dX3_reviewer_8 : decode cX3_reviewer 8 = .ok (.bipush 29, 2) := dk_16 29 (dk_at dksX3_reviewer_0 8 rfl rfl)
theorem dX3_reviewer_10 : decode cX3_reviewer 10 = .ok (.invokestatic 102, 3) := dk_184 0 102 (dk_at dksX3_reviewer_0 10 rfl rfl)
theorem dX3_reviewer_13 : decode cX3_reviewer 13 = .ok (.ifCond .eq 13, 3) := dk_153 0 13 (dk_at dksX3_reviewer_0 13 rfl rfl)
theorem dX3_reviewer_16 : decode cX3_reviewer 16 = .ok (.iload_n 2, 1) := dk_28 (dk_at dksX3_reviewer_0 16 rfl rfl)
theorem dX3_reviewer_17 : decode cX3_reviewer 17 = .ok (.iconst 0, 1) := dk_3 (dk_at dksX3_reviewer_0 17 rfl rfl)
theorem dX3_reviewer_18 : decode cX3_reviewer 18 = .ok (.bipush 9, 2) := dk_16 9 (dk_at dksX3_reviewer_0 18 rfl rfl)
theorem dX3_reviewer_20 : decode cX3_reviewer 20 = .ok (.invokestatic 102, 3) := dk_184 0 102 (dk_at dksX3_reviewer_0 20 rfl rfl)
theorem dX3_reviewer_23 : decode cX3_reviewer 23 = .ok (.ifCond .ne 7, 3) := dk_154 0 7 (dk_at dksX3_reviewer_1 0 rfl rfl)
theorem dX3_reviewer_26 : decode cX3_reviewer 26 = .ok (.iconst 1, 1) := dk_4 (dk_at dksX3_reviewer_1 3 rfl rfl)
theorem dX3_reviewer_27 : decode cX3_reviewer 27 = .ok (.goto 4, 3) := dk_167 0 4 (dk_at dksX3_reviewer_1 4 rfl rfl)
theorem dX3_reviewer_30 : decode cX3_reviewer 30 = .ok (.iconst 0, 1) := dk_3 (dk_at dksX3_reviewer_1 7 rfl rfl)
theorem dX3_reviewer_31 : decode cX3_reviewer 31 = .ok (.iconst 1, 1) := dk_4 (dk_at dksX3_reviewer_1 8 rfl rfl)
theorem dX3_reviewer_32 : decode cX3_reviewer 32 = .ok (.invokevirtual 106, 3) := dk_182 0 106 (dk_at dksX3_reviewer_1 9 rfl rfl)
theorem dX3_reviewer_35 : decode cX3_reviewer 35 = .ok (.ifCond .ne 25, 3) := dk_154 0 25 (dk_at dksX3_reviewer_1 12 rfl rfl)
theorem dX3_reviewer_38 : decode cX3_reviewer 38 = .ok (.aload_n 0, 1) := dk_42 (dk_at dksX3_reviewer_1 15 rfl rfl)
theorem dX3_reviewer_39 : decode cX3_reviewer 39 = .ok (.aload_n 0, 1) := dk_42 (dk_at dksX3_reviewer_1 16 rfl rfl)
theorem dX3_reviewer_40 : decode cX3_reviewer 40 = .ok (.getfield 113, 3) := dk_180 0 113 (dk_at dksX3_reviewer_1 17 rfl rfl)
theorem dX3_reviewer_43 : decode cX3_reviewer 43 = .ok (.bipush 10, 2) := dk_16 10 (dk_at dksX3_reviewer_1 20 rfl rfl)
theorem dX3_reviewer_45 : decode cX3_reviewer 45 = .ok (.if_icmp .ne 7, 3) := dk_160 0 7 (dk_at dksX3_reviewer_2 0 rfl rfl)
theorem dX3_reviewer_48 : decode cX3_reviewer 48 = .ok (.iconst 1, 1) := dk_4 (dk_at dksX3_reviewer_2 3 rfl rfl)
theorem dX3_reviewer_49 : decode cX3_reviewer 49 = .ok (.goto 4, 3) := dk_167 0 4 (dk_at dksX3_reviewer_2 4 rfl rfl)
theorem dX3_reviewer_52 : decode cX3_reviewer 52 = .ok (.iconst 0, 1) := dk_3 (dk_at dksX3_reviewer_2 7 rfl rfl)
theorem dX3_reviewer_53 : decode cX3_reviewer 53 = .ok (.iconst 2, 1) := dk_5 (dk_at dksX3_reviewer_2 8 rfl rfl)
theorem dX3_reviewer_54 : decode cX3_reviewer 54 = .ok (.invokevirtual 106, 3) := dk_182 0 106 (dk_at dksX3_reviewer_2 9 rfl rfl)
theorem dX3_reviewer_57 : decode cX3_reviewer 57 = .ok (.ifCond .eq 5, 3) := dk_153 0 5 (dk_at dksX3_reviewer_2 12 rfl rfl)
theorem dX3_reviewer_60 : decode cX3_reviewer 60 = .ok (.iconst 0, 1) := dk_3 (dk_at dksX3_reviewer_2 15 rfl rfl)
theorem dX3_reviewer_61 : decode cX3_reviewer 61 = .ok (.ireturn, 1) := dk_172 (dk_at dksX3_reviewer_2 16 rfl rfl)
theorem dX3_reviewer_62 : decode cX3_reviewer 62 = .ok (.aload_n 0, 1) := dk_42 (dk_at dksX3_reviewer_2 17 rfl rfl)
theorem dX3_reviewer_63 : decode cX3_reviewer 63 = .ok (.getfield 71, 3) := dk_180 0 71 (dk_at dksX3_reviewer_2 18 rfl rfl)
theorem dX3_reviewer_66 : decode cX3_reviewer 66 = .ok (.aload_n 0, 1) := dk_42 (dk_at dksX3_reviewer_2 21 rfl rfl)
theorem dX3_reviewer_67 : decode cX3_reviewer 67 = .ok (.getfield 113, 3) := dk_180 0 113 (dk_at dksX3_reviewer_3 0 rfl rfl)
theorem dX3_reviewer_70 : decode cX3_reviewer 70 = .ok (.iload_n 1, 1) := dk_27 (dk_at dksX3_reviewer_3 3 rfl rfl)
theorem dX3_reviewer_71 : decode cX3_reviewer 71 = .ok (.iastore, 1) := dk_79 (dk_at dksX3_reviewer_3 4 rfl rfl)
theorem dX3_reviewer_72 : decode cX3_reviewer 72 = .ok (.aload_n 0, 1) := dk_42 (dk_at dksX3_reviewer_3 5 rfl rfl)
theorem dX3_reviewer_73 : decode cX3_reviewer 73 = .ok (.getfield 74, 3) := dk_180 0 74 (dk_at dksX3_reviewer_3 6 rfl rfl)
theorem dX3_reviewer_76 : decode cX3_reviewer 76 = .ok (.aload_n 0, 1) := dk_42 (dk_at dksX3_reviewer_3 9 rfl rfl)
theorem dX3_reviewer_77 : decode cX3_reviewer 77 = .ok (.getfield 113, 3) := dk_180 0 113 (dk_at dksX3_reviewer_3 10 rfl rfl)
theorem dX3_reviewer_80 : decode cX3_reviewer 80 = .ok (.iload_n 2, 1) := dk_28 (dk_at dksX3_reviewer_3 13 rfl rfl)
theorem dX3_reviewer_81 : decode cX3_reviewer 81 = .ok (.iastore, 1) := dk_79 (dk_at dksX3_reviewer_3 14 rfl rfl)
theorem dX3_reviewer_82 : decode cX3_reviewer 82 = .ok (.aload_n 0, 1) := dk_42 (dk_at dksX3_reviewer_3 15 rfl rfl)
theorem dX3_reviewer_83 : decode cX3_reviewer 83 = .ok (.dup, 1) := dk_89 (dk_at dksX3_reviewer_3 16 rfl rfl)
theorem dX3_reviewer_84 : decode cX3_reviewer 84 = .ok (.getfield 113, 3) := dk_180 0 113 (dk_at dksX3_reviewer_3 17 rfl rfl)
theorem dX3_reviewer_87 : decode cX3_reviewer 87 = .ok (.iconst 1, 1) := dk_4 (dk_at dksX3_reviewer_3 20 rfl rfl)
theorem dX3_reviewer_88 : decode cX3_reviewer 88 = .ok (.iadd, 1) := dk_96 (dk_at dksX3_reviewer_3 21 rfl rfl)
theorem dX3_reviewer_89 : decode cX3_reviewer 89 = .ok (.putfield 113, 3) := dk_181 0 113 (dk_at dksX3_reviewer_4 0 rfl rfl)
theorem dX3_reviewer_92 : decode cX3_reviewer 92 = .ok (.aload_n 0, 1) := dk_42 (dk_at dksX3_reviewer_4 3 rfl rfl)
theorem dX3_reviewer_93 : decode cX3_reviewer 93 = .ok (.getfield 113, 3) := dk_180 0 113 (dk_at dksX3_reviewer_4 4 rfl rfl)
theorem dX3_reviewer_96 : decode cX3_reviewer 96 = .ok (.iconst 1, 1) := dk_4 (dk_at dksX3_reviewer_4 7 rfl rfl)
theorem dX3_reviewer_97 : decode cX3_reviewer 97 = .ok (.isub, 1) := dk_100 (dk_at dksX3_reviewer_4 8 rfl rfl)
theorem dX3_reviewer_98 : decode cX3_reviewer 98 = .ok (.ireturn, 1) := dk_172 (dk_at dksX3_reviewer_4 9 rfl rfl)
abbrev cX3_conflict : ByteArray := prog_19_method_22_code
def yX3_conflict : MethodName := ⟨RX3, "conflict", "(IIZ)Z"⟩
def dkwX3_conflict_2 : List UInt8 := [51, 54, 4, 42, 180, 0, 77, 16, 30, 27, 104, 28, 96, 29, 84, 21, 4, 172]
abbrev dktX3_conflict_2 : List UInt8 := dkwX3_conflict_2 ++ []
def dkwX3_conflict_1 : List UInt8 := [4, 167, 0, 4, 3, 5, 182, 0, 106, 153, 0, 5, 3, 172, 42, 180, 0, 77, 16, 30, 27, 104, 28, 96]
abbrev dktX3_conflict_1 : List UInt8 := dkwX3_conflict_1 ++ dktX3_conflict_2
def dkwX3_conflict_0 : List UInt8 := [42, 3, 181, 0, 95, 42, 27, 182, 0, 167, 154, 0, 26, 42, 28, 3, 16, 29, 184, 0, 102, 154, 0, 7]
abbrev dktX3_conflict_0 : List UInt8 := dkwX3_conflict_0 ++ dktX3_conflict_1
theorem dksX3_conflict_0 : cX3_conflict.data.toList.drop 0 = dktX3_conflict_0 := by decide +kernel
theorem dksX3_conflict_1 : cX3_conflict.data.toList.drop 24 = dktX3_conflict_1 := dk_seg dksX3_conflict_0 24 rfl rfl
theorem dksX3_conflict_2 : cX3_conflict.data.toList.drop 48 = dktX3_conflict_2 := dk_seg dksX3_conflict_1 24 rfl rfl
theorem dX3_conflict_0 : decode cX3_conflict 0 = .ok (.aload_n 0, 1) := dk_42 (dk_at dksX3_conflict_0 0 rfl rfl)
theorem dX3_conflict_1 : decode cX3_conflict 1 = .ok (.iconst 0, 1) := dk_3 (dk_at dksX3_conflict_0 1 rfl rfl)
theorem dX3_conflict_2 : decode cX3_conflict 2 = .ok (.putfield 95, 3) := dk_181 0 95 (dk_at dksX3_conflict_0 2 rfl rfl)
theorem dX3_conflict_5 : decode cX3_conflict 5 = .ok (.aload_n 0, 1) := dk_42 (dk_at dksX3_conflict_0 5 rfl rfl)
theorem dX3_conflict_6 : decode cX3_conflict 6 = .ok (.iload_n 1, 1) := dk_27 (dk_at dksX3_conflict_0 6 rfl rfl)
theorem dX3_conflict_7 : decode cX3_conflict 7 = .ok (.invokevirtual 167, 3) := dk_182 0 167 (dk_at dksX3_conflict_0 7 rfl rfl)
theorem dX3_conflict_10 : decode cX3_conflict 10 = .ok (.ifCond .ne 26, 3) := dk_154 0 26 (dk_at dksX3_conflict_0 10 rfl rfl)
theorem dX3_conflict_13 : decode cX3_conflict 13 = .ok (.aload_n 0, 1) := dk_42 (dk_at dksX3_conflict_0 13 rfl rfl)
theorem dX3_conflict_14 : decode cX3_conflict 14 = .ok (.iload_n 2, 1) := dk_28 (dk_at dksX3_conflict_0 14 rfl rfl)
theorem dX3_conflict_15 : decode cX3_conflict 15 = .ok (.iconst 0, 1) := dk_3 (dk_at dksX3_conflict_0 15 rfl rfl)
theorem dX3_conflict_16 : decode cX3_conflict 16 = .ok (.bipush 29, 2) := dk_16 29 (dk_at dksX3_conflict_0 16 rfl rfl)
theorem dX3_conflict_18 : decode cX3_conflict 18 = .ok (.invokestatic 102, 3) := dk_184 0 102 (dk_at dksX3_conflict_0 18 rfl rfl)
theorem dX3_conflict_21 : decode cX3_conflict 21 = .ok (.ifCond .ne 7, 3) := dk_154 0 7 (dk_at dksX3_conflict_0 21 rfl rfl)
theorem dX3_conflict_24 : decode cX3_conflict 24 = .ok (.iconst 1, 1) := dk_4 (dk_at dksX3_conflict_1 0 rfl rfl)
theorem dX3_conflict_25 : decode cX3_conflict 25 = .ok (.goto 4, 3) := dk_167 0 4 (dk_at dksX3_conflict_1 1 rfl rfl)
theorem dX3_conflict_28 : decode cX3_conflict 28 = .ok (.iconst 0, 1) := dk_3 (dk_at dksX3_conflict_1 4 rfl rfl)
theorem dX3_conflict_29 : decode cX3_conflict 29 = .ok (.iconst 2, 1) := dk_5 (dk_at dksX3_conflict_1 5 rfl rfl)
theorem dX3_conflict_30 : decode cX3_conflict 30 = .ok (.invokevirtual 106, 3) := dk_182 0 106 (dk_at dksX3_conflict_1 6 rfl rfl)
theorem dX3_conflict_33 : decode cX3_conflict 33 = .ok (.ifCond .eq 5, 3) := dk_153 0 5 (dk_at dksX3_conflict_1 9 rfl rfl)
theorem dX3_conflict_36 : decode cX3_conflict 36 = .ok (.iconst 0, 1) := dk_3 (dk_at dksX3_conflict_1 12 rfl rfl)
theorem dX3_conflict_37 : decode cX3_conflict 37 = .ok (.ireturn, 1) := dk_172 (dk_at dksX3_conflict_1 13 rfl rfl)
theorem dX3_conflict_38 : decode cX3_conflict 38 = .ok (.aload_n 0, 1) := dk_42 (dk_at dksX3_conflict_1 14 rfl rfl)
theorem dX3_conflict_39 : decode cX3_conflict 39 = .ok (.getfield 77, 3) := dk_180 0 77 (dk_at dksX3_conflict_1 15 rfl rfl)
theorem dX3_conflict_42 : decode cX3_conflict 42 = .ok (.bipush 30, 2) := dk_16 30 (dk_at dksX3_conflict_1 18 rfl rfl)
theorem dX3_conflict_44 : decode cX3_conflict 44 = .ok (.iload_n 1, 1) := dk_27 (dk_at dksX3_conflict_1 20 rfl rfl)
theorem dX3_conflict_45 : decode cX3_conflict 45 = .ok (.imul, 1) := dk_104 (dk_at dksX3_conflict_1 21 rfl rfl)
theorem dX3_conflict_46 : decode cX3_conflict 46 = .ok (.iload_n 2, 1) := dk_28 (dk_at dksX3_conflict_1 22 rfl rfl)
theorem dX3_conflict_47 : decode cX3_conflict 47 = .ok (.iadd, 1) := dk_96 (dk_at dksX3_conflict_1 23 rfl rfl)
theorem dX3_conflict_48 : decode cX3_conflict 48 = .ok (.baload, 1) := dk_51 (dk_at dksX3_conflict_2 0 rfl rfl)
theorem dX3_conflict_49 : decode cX3_conflict 49 = .ok (.istore 4, 2) := dk_54 4 (dk_at dksX3_conflict_2 1 rfl rfl)
theorem dX3_conflict_51 : decode cX3_conflict 51 = .ok (.aload_n 0, 1) := dk_42 (dk_at dksX3_conflict_2 3 rfl rfl)
theorem dX3_conflict_52 : decode cX3_conflict 52 = .ok (.getfield 77, 3) := dk_180 0 77 (dk_at dksX3_conflict_2 4 rfl rfl)
theorem dX3_conflict_55 : decode cX3_conflict 55 = .ok (.bipush 30, 2) := dk_16 30 (dk_at dksX3_conflict_2 7 rfl rfl)
theorem dX3_conflict_57 : decode cX3_conflict 57 = .ok (.iload_n 1, 1) := dk_27 (dk_at dksX3_conflict_2 9 rfl rfl)
theorem dX3_conflict_58 : decode cX3_conflict 58 = .ok (.imul, 1) := dk_104 (dk_at dksX3_conflict_2 10 rfl rfl)
theorem dX3_conflict_59 : decode cX3_conflict 59 = .ok (.iload_n 2, 1) := dk_28 (dk_at dksX3_conflict_2 11 rfl rfl)
theorem dX3_conflict_60 : decode cX3_conflict 60 = .ok (.iadd, 1) := dk_96 (dk_at dksX3_conflict_2 12 rfl rfl)
theorem dX3_conflict_61 : decode cX3_conflict 61 = .ok (.iload_n 3, 1) := dk_29 (dk_at dksX3_conflict_2 13 rfl rfl)
theorem dX3_conflict_62 : decode cX3_conflict 62 = .ok (.bastore, 1) := dk_84 (dk_at dksX3_conflict_2 14 rfl rfl)
theorem dX3_conflict_63 : decode cX3_conflict 63 = .ok (.iload 4, 2) := dk_21 4 (dk_at dksX3_conflict_2 15 rfl rfl)
theorem dX3_conflict_65 : decode cX3_conflict 65 = .ok (.ireturn, 1) := dk_172 (dk_at dksX3_conflict_2 17 rfl rfl)
abbrev cX3_noReviewer : ByteArray := prog_19_method_7_code
def yX3_noReviewer : MethodName := ⟨RX3, "noReviewer", "(I)Z"⟩
def dkwX3_noReviewer_1 : List UInt8 := [172]
abbrev dktX3_noReviewer_1 : List UInt8 := dkwX3_noReviewer_1 ++ []
def dkwX3_noReviewer_0 : List UInt8 := [42, 27, 3, 42, 180, 0, 113, 4, 100, 184, 0, 102, 154, 0, 7, 4, 167, 0, 4, 3, 4, 182, 0, 106]
abbrev dktX3_noReviewer_0 : List UInt8 := dkwX3_noReviewer_0 ++ dktX3_noReviewer_1
theorem dksX3_noReviewer_0 : cX3_noReviewer.data.toList.drop 0 = dktX3_noReviewer_0 := by decide +kernel
theorem dksX3_noReviewer_1 : cX3_noReviewer.data.toList.drop 24 = dktX3_noReviewer_1 := dk_seg dksX3_noReviewer_0 24 rfl rfl
theorem dX3_noReviewer_0 : decode cX3_noReviewer 0 = .ok (.aload_n 0, 1) := dk_42 (dk_at dksX3_noReviewer_0 0 rfl rfl)
theorem dX3_noReviewer_1 : decode cX3_noReviewer 1 = .ok (.iload_n 1, 1) := dk_27 (dk_at dksX3_noReviewer_0 1 rfl rfl)
theorem dX3_noReviewer_2 : decode cX3_noReviewer 2 = .ok (.iconst 0, 1) := dk_3 (dk_at dksX3_noReviewer_0 2 rfl rfl)
theorem dX3_noReviewer_3 : decode cX3_noReviewer 3 = .ok (.aload_n 0, 1) := dk_42 (dk_at dksX3_noReviewer_0 3 rfl rfl)
theorem dX3_noReviewer_4 : decode cX3_noReviewer 4 = .ok (.getfield 113, 3) := dk_180 0 113 (dk_at dksX3_noReviewer_0 4 rfl rfl)
theorem dX3_noReviewer_7 : decode cX3_noReviewer 7 = .ok (.iconst 1, 1) := dk_4 (dk_at dksX3_noReviewer_0 7 rfl rfl)
theorem dX3_noReviewer_8 : decode cX3_noReviewer 8 = .ok (.isub, 1) := dk_100 (dk_at dksX3_noReviewer_0 8 rfl rfl)
theorem dX3_noReviewer_9 : decode cX3_noReviewer 9 = .ok (.invokestatic 102, 3) := dk_184 0 102 (dk_at dksX3_noReviewer_0 9 rfl rfl)
theorem dX3_noReviewer_12 : decode cX3_noReviewer 12 = .ok (.ifCond .ne 7, 3) := dk_154 0 7 (dk_at dksX3_noReviewer_0 12 rfl rfl)
theorem dX3_noReviewer_15 : decode cX3_noReviewer 15 = .ok (.iconst 1, 1) := dk_4 (dk_at dksX3_noReviewer_0 15 rfl rfl)
theorem dX3_noReviewer_16 : decode cX3_noReviewer 16 = .ok (.goto 4, 3) := dk_167 0 4 (dk_at dksX3_noReviewer_0 16 rfl rfl)
theorem dX3_noReviewer_19 : decode cX3_noReviewer 19 = .ok (.iconst 0, 1) := dk_3 (dk_at dksX3_noReviewer_0 19 rfl rfl)
theorem dX3_noReviewer_20 : decode cX3_noReviewer 20 = .ok (.iconst 1, 1) := dk_4 (dk_at dksX3_noReviewer_0 20 rfl rfl)
theorem dX3_noReviewer_21 : decode cX3_noReviewer 21 = .ok (.invokevirtual 106, 3) := dk_182 0 106 (dk_at dksX3_noReviewer_0 21 rfl rfl)
theorem dX3_noReviewer_24 : decode cX3_noReviewer 24 = .ok (.ireturn, 1) := dk_172 (dk_at dksX3_noReviewer_1 0 rfl rfl)
abbrev cX3_seat : ByteArray := prog_19_method_23_code
def yX3_seat : MethodName := ⟨RX3, "seat", "(IIZ)Z"⟩
def dkwX3_seat_2 : List UInt8 := [21, 4, 172]
abbrev dktX3_seat_2 : List UInt8 := dkwX3_seat_2 ++ []
def dkwX3_seat_1 : List UInt8 := [180, 0, 80, 16, 10, 27, 104, 28, 96, 51, 54, 4, 42, 180, 0, 80, 16, 10, 27, 104, 28, 96, 29, 84]
abbrev dktX3_seat_1 : List UInt8 := dkwX3_seat_1 ++ dktX3_seat_2
def dkwX3_seat_0 : List UInt8 := [42, 3, 181, 0, 95, 42, 27, 182, 0, 151, 154, 0, 11, 42, 28, 182, 0, 167, 153, 0, 5, 3, 172, 42]
abbrev dktX3_seat_0 : List UInt8 := dkwX3_seat_0 ++ dktX3_seat_1
theorem dksX3_seat_0 : cX3_seat.data.toList.drop 0 = dktX3_seat_0 := by decide +kernel
theorem dksX3_seat_1 : cX3_seat.data.toList.drop 24 = dktX3_seat_1 := dk_seg dksX3_seat_0 24 rfl rfl
theorem dksX3_seat_2 : cX3_seat.data.toList.drop 48 = dktX3_seat_2 := dk_seg dksX3_seat_1 24 rfl rfl
theorem dX3_seat_0 : decode cX3_seat 0 = .ok (.aload_n 0, 1) := dk_42 (dk_at dksX3_seat_0 0 rfl rfl)
theorem dX3_seat_1 : decode cX3_seat 1 = .ok (.iconst 0, 1) := dk_3 (dk_at dksX3_seat_0 1 rfl rfl)
theorem dX3_seat_2 : decode cX3_seat 2 = .ok (.putfield 95, 3) := dk_181 0 95 (dk_at dksX3_seat_0 2 rfl rfl)
theorem dX3_seat_5 : decode cX3_seat 5 = .ok (.aload_n 0, 1) := dk_42 (dk_at dksX3_seat_0 5 rfl rfl)
theorem dX3_seat_6 : decode cX3_seat 6 = .ok (.iload_n 1, 1) := dk_27 (dk_at dksX3_seat_0 6 rfl rfl)
theorem dX3_seat_7 : decode cX3_seat 7 = .ok (.invokevirtual 151, 3) := dk_182 0 151 (dk_at dksX3_seat_0 7 rfl rfl)
theorem dX3_seat_10 : decode cX3_seat 10 = .ok (.ifCond .ne 11, 3) := dk_154 0 11 (dk_at dksX3_seat_0 10 rfl rfl)
theorem dX3_seat_13 : decode cX3_seat 13 = .ok (.aload_n 0, 1) := dk_42 (dk_at dksX3_seat_0 13 rfl rfl)
theorem dX3_seat_14 : decode cX3_seat 14 = .ok (.iload_n 2, 1) := dk_28 (dk_at dksX3_seat_0 14 rfl rfl)
theorem dX3_seat_15 : decode cX3_seat 15 = .ok (.invokevirtual 167, 3) := dk_182 0 167 (dk_at dksX3_seat_0 15 rfl rfl)
theorem dX3_seat_18 : decode cX3_seat 18 = .ok (.ifCond .eq 5, 3) := dk_153 0 5 (dk_at dksX3_seat_0 18 rfl rfl)
theorem dX3_seat_21 : decode cX3_seat 21 = .ok (.iconst 0, 1) := dk_3 (dk_at dksX3_seat_0 21 rfl rfl)
theorem dX3_seat_22 : decode cX3_seat 22 = .ok (.ireturn, 1) := dk_172 (dk_at dksX3_seat_0 22 rfl rfl)
theorem dX3_seat_23 : decode cX3_seat 23 = .ok (.aload_n 0, 1) := dk_42 (dk_at dksX3_seat_0 23 rfl rfl)
theorem dX3_seat_24 : decode cX3_seat 24 = .ok (.getfield 80, 3) := dk_180 0 80 (dk_at dksX3_seat_1 0 rfl rfl)
theorem dX3_seat_27 : decode cX3_seat 27 = .ok (.bipush 10, 2) := dk_16 10 (dk_at dksX3_seat_1 3 rfl rfl)
theorem dX3_seat_29 : decode cX3_seat 29 = .ok (.iload_n 1, 1) := dk_27 (dk_at dksX3_seat_1 5 rfl rfl)
theorem dX3_seat_30 : decode cX3_seat 30 = .ok (.imul, 1) := dk_104 (dk_at dksX3_seat_1 6 rfl rfl)
theorem dX3_seat_31 : decode cX3_seat 31 = .ok (.iload_n 2, 1) := dk_28 (dk_at dksX3_seat_1 7 rfl rfl)
theorem dX3_seat_32 : decode cX3_seat 32 = .ok (.iadd, 1) := dk_96 (dk_at dksX3_seat_1 8 rfl rfl)
theorem dX3_seat_33 : decode cX3_seat 33 = .ok (.baload, 1) := dk_51 (dk_at dksX3_seat_1 9 rfl rfl)
theorem dX3_seat_34 : decode cX3_seat 34 = .ok (.istore 4, 2) := dk_54 4 (dk_at dksX3_seat_1 10 rfl rfl)
theorem dX3_seat_36 : decode cX3_seat 36 = .ok (.aload_n 0, 1) := dk_42 (dk_at dksX3_seat_1 12 rfl rfl)
theorem dX3_seat_37 : decode cX3_seat 37 = .ok (.getfield 80, 3) := dk_180 0 80 (dk_at dksX3_seat_1 13 rfl rfl)
theorem dX3_seat_40 : decode cX3_seat 40 = .ok (.bipush 10, 2) := dk_16 10 (dk_at dksX3_seat_1 16 rfl rfl)
theorem dX3_seat_42 : decode cX3_seat 42 = .ok (.iload_n 1, 1) := dk_27 (dk_at dksX3_seat_1 18 rfl rfl)
theorem dX3_seat_43 : decode cX3_seat 43 = .ok (.imul, 1) := dk_104 (dk_at dksX3_seat_1 19 rfl rfl)
theorem dX3_seat_44 : decode cX3_seat 44 = .ok (.iload_n 2, 1) := dk_28 (dk_at dksX3_seat_1 20 rfl rfl)
theorem dX3_seat_45 : decode cX3_seat 45 = .ok (.iadd, 1) := dk_96 (dk_at dksX3_seat_1 21 rfl rfl)
theorem dX3_seat_46 : decode cX3_seat 46 = .ok (.iload_n 3, 1) := dk_29 (dk_at dksX3_seat_1 22 rfl rfl)
theorem dX3_seat_47 : decode cX3_seat 47 = .ok (.bastore, 1) := dk_84 (dk_at dksX3_seat_1 23 rfl rfl)
theorem dX3_seat_48 : decode cX3_seat 48 = .ok (.iload 4, 2) := dk_21 4 (dk_at dksX3_seat_2 0 rfl rfl)
theorem dX3_seat_50 : decode cX3_seat 50 = .ok (.ireturn, 1) := dk_172 (dk_at dksX3_seat_2 2 rfl rfl)
abbrev cX3_review : ByteArray := prog_19_method_24_code
def yX3_review : MethodName := ⟨RX3, "review", "(III)I"⟩
def dkwX3_review_7 : List UInt8 := [46, 96, 51, 153, 0, 5, 7, 172, 42, 180, 0, 83, 16, 24, 27, 104, 28, 96, 29, 79, 3, 172]
abbrev dktX3_review_7 : List UInt8 := dkwX3_review_7 ++ []
def dkwX3_review_6 : List UInt8 := [27, 46, 42, 180, 0, 50, 28, 46, 159, 0, 22, 42, 180, 0, 77, 16, 30, 27, 104, 42, 180, 0, 47, 28]
abbrev dktX3_review_6 : List UInt8 := dkwX3_review_6 ++ dktX3_review_7
def dkwX3_review_5 : List UInt8 := [154, 0, 5, 6, 172, 42, 180, 0, 71, 27, 46, 42, 180, 0, 47, 28, 46, 159, 0, 37, 42, 180, 0, 74]
abbrev dktX3_review_5 : List UInt8 := dkwX3_review_5 ++ dktX3_review_6
def dkwX3_review_4 : List UInt8 := [180, 0, 34, 21, 4, 51, 153, 0, 5, 5, 172, 42, 180, 0, 80, 16, 10, 21, 4, 104, 27, 96, 51]
abbrev dktX3_review_4 : List UInt8 := dkwX3_review_4 ++ dktX3_review_5
def dkwX3_review_3 : List UInt8 := [180, 0, 44, 28, 46, 54, 4, 42, 180, 0, 147, 42, 180, 0, 28, 21, 4, 46, 163, 0, 5, 4, 172, 42]
abbrev dktX3_review_3 : List UInt8 := dkwX3_review_3 ++ dktX3_review_4
def dkwX3_review_2 : List UInt8 := [180, 0, 62, 28, 46, 8, 160, 0, 7, 4, 167, 0, 4, 3, 6, 182, 0, 106, 153, 0, 5, 3, 172, 42]
abbrev dktX3_review_2 : List UInt8 := dkwX3_review_2 ++ dktX3_review_3
def dkwX3_review_1 : List UInt8 := [16, 100, 184, 0, 102, 154, 0, 7, 4, 167, 0, 4, 3, 5, 182, 0, 106, 154, 0, 26, 42, 42]
abbrev dktX3_review_1 : List UInt8 := dkwX3_review_1 ++ dktX3_review_2
def dkwX3_review_0 : List UInt8 := [42, 3, 181, 0, 95, 42, 27, 182, 0, 167, 154, 0, 57, 42, 28, 182, 0, 164, 154, 0, 49, 42, 29, 3]
abbrev dktX3_review_0 : List UInt8 := dkwX3_review_0 ++ dktX3_review_1
theorem dksX3_review_0 : cX3_review.data.toList.drop 0 = dktX3_review_0 := by decide +kernel
theorem dksX3_review_1 : cX3_review.data.toList.drop 24 = dktX3_review_1 := dk_seg dksX3_review_0 24 rfl rfl
theorem dksX3_review_2 : cX3_review.data.toList.drop 46 = dktX3_review_2 := dk_seg dksX3_review_1 22 rfl rfl
theorem dksX3_review_3 : cX3_review.data.toList.drop 70 = dktX3_review_3 := dk_seg dksX3_review_2 24 rfl rfl
theorem dksX3_review_4 : cX3_review.data.toList.drop 94 = dktX3_review_4 := dk_seg dksX3_review_3 24 rfl rfl
theorem dksX3_review_5 : cX3_review.data.toList.drop 117 = dktX3_review_5 := dk_seg dksX3_review_4 23 rfl rfl
theorem dksX3_review_6 : cX3_review.data.toList.drop 141 = dktX3_review_6 := dk_seg dksX3_review_5 24 rfl rfl
theorem dksX3_review_7 : cX3_review.data.toList.drop 165 = dktX3_review_7 := dk_seg dksX3_review_6 24 rfl rfl
theorem dX3_review_0 : decode cX3_review 0 = .ok (.aload_n 0, 1) := dk_42 (dk_at dksX3_review_0 0 rfl rfl)
theorem dX3_review_1 : decode cX3_review 1 = .ok (.iconst 0, 1) := dk_3 (dk_at dksX3_review_0 1 rfl rfl)
theorem dX3_review_2 : decode cX3_review 2 = .ok (.putfield 95, 3) := dk_181 0 95 (dk_at dksX3_review_0 2 rfl rfl)
theorem dX3_review_5 : decode cX3_review 5 = .ok (.aload_n 0, 1) := dk_42 (dk_at dksX3_review_0 5 rfl rfl)
theorem dX3_review_6 : decode cX3_review 6 = .ok (.iload_n 1, 1) := dk_27 (dk_at dksX3_review_0 6 rfl rfl)
theorem dX3_review_7 : decode cX3_review 7 = .ok (.invokevirtual 167, 3) := dk_182 0 167 (dk_at dksX3_review_0 7 rfl rfl)
theorem dX3_review_10 : decode cX3_review 10 = .ok (.ifCond .ne 57, 3) := dk_154 0 57 (dk_at dksX3_review_0 10 rfl rfl)
theorem dX3_review_13 : decode cX3_review 13 = .ok (.aload_n 0, 1) := dk_42 (dk_at dksX3_review_0 13 rfl rfl)
theorem dX3_review_14 : decode cX3_review 14 = .ok (.iload_n 2, 1) := dk_28 (dk_at dksX3_review_0 14 rfl rfl)
theorem dX3_review_15 : decode cX3_review 15 = .ok (.invokevirtual 164, 3) := dk_182 0 164 (dk_at dksX3_review_0 15 rfl rfl)
theorem dX3_review_18 : decode cX3_review 18 = .ok (.ifCond .ne 49, 3) := dk_154 0 49 (dk_at dksX3_review_0 18 rfl rfl)
theorem dX3_review_21 : decode cX3_review 21 = .ok (.aload_n 0, 1) := dk_42 (dk_at dksX3_review_0 21 rfl rfl)
theorem dX3_review_22 : decode cX3_review 22 = .ok (.iload_n 3, 1) := dk_29 (dk_at dksX3_review_0 22 rfl rfl)
theorem dX3_review_23 : decode cX3_review 23 = .ok (.iconst 0, 1) := dk_3 (dk_at dksX3_review_0 23 rfl rfl)
theorem dX3_review_24 : decode cX3_review 24 = .ok (.bipush 100, 2) := dk_16 100 (dk_at dksX3_review_1 0 rfl rfl)
theorem dX3_review_26 : decode cX3_review 26 = .ok (.invokestatic 102, 3) := dk_184 0 102 (dk_at dksX3_review_1 2 rfl rfl)
theorem dX3_review_29 : decode cX3_review 29 = .ok (.ifCond .ne 7, 3) := dk_154 0 7 (dk_at dksX3_review_1 5 rfl rfl)
theorem dX3_review_32 : decode cX3_review 32 = .ok (.iconst 1, 1) := dk_4 (dk_at dksX3_review_1 8 rfl rfl)
theorem dX3_review_33 : decode cX3_review 33 = .ok (.goto 4, 3) := dk_167 0 4 (dk_at dksX3_review_1 9 rfl rfl)
theorem dX3_review_36 : decode cX3_review 36 = .ok (.iconst 0, 1) := dk_3 (dk_at dksX3_review_1 12 rfl rfl)
theorem dX3_review_37 : decode cX3_review 37 = .ok (.iconst 2, 1) := dk_5 (dk_at dksX3_review_1 13 rfl rfl)
theorem dX3_review_38 : decode cX3_review 38 = .ok (.invokevirtual 106, 3) := dk_182 0 106 (dk_at dksX3_review_1 14 rfl rfl)
theorem dX3_review_41 : decode cX3_review 41 = .ok (.ifCond .ne 26, 3) := dk_154 0 26 (dk_at dksX3_review_1 17 rfl rfl)
theorem dX3_review_44 : decode cX3_review 44 = .ok (.aload_n 0, 1) := dk_42 (dk_at dksX3_review_1 20 rfl rfl)
theorem dX3_review_45 : decode cX3_review 45 = .ok (.aload_n 0, 1) := dk_42 (dk_at dksX3_review_1 21 rfl rfl)
theorem dX3_review_46 : decode cX3_review 46 = .ok (.getfield 62, 3) := dk_180 0 62 (dk_at dksX3_review_2 0 rfl rfl)
theorem dX3_review_49 : decode cX3_review 49 = .ok (.iload_n 2, 1) := dk_28 (dk_at dksX3_review_2 3 rfl rfl)
theorem dX3_review_50 : decode cX3_review 50 = .ok (.iaload, 1) := dk_46 (dk_at dksX3_review_2 4 rfl rfl)
theorem dX3_review_51 : decode cX3_review 51 = .ok (.iconst 5, 1) := dk_8 (dk_at dksX3_review_2 5 rfl rfl)
theorem dX3_review_52 : decode cX3_review 52 = .ok (.if_icmp .ne 7, 3) := dk_160 0 7 (dk_at dksX3_review_2 6 rfl rfl)
theorem dX3_review_55 : decode cX3_review 55 = .ok (.iconst 1, 1) := dk_4 (dk_at dksX3_review_2 9 rfl rfl)
theorem dX3_review_56 : decode cX3_review 56 = .ok (.goto 4, 3) := dk_167 0 4 (dk_at dksX3_review_2 10 rfl rfl)
theorem dX3_review_59 : decode cX3_review 59 = .ok (.iconst 0, 1) := dk_3 (dk_at dksX3_review_2 13 rfl rfl)
theorem dX3_review_60 : decode cX3_review 60 = .ok (.iconst 3, 1) := dk_6 (dk_at dksX3_review_2 14 rfl rfl)
theorem dX3_review_61 : decode cX3_review 61 = .ok (.invokevirtual 106, 3) := dk_182 0 106 (dk_at dksX3_review_2 15 rfl rfl)
theorem dX3_review_64 : decode cX3_review 64 = .ok (.ifCond .eq 5, 3) := dk_153 0 5 (dk_at dksX3_review_2 18 rfl rfl)
theorem dX3_review_67 : decode cX3_review 67 = .ok (.iconst 0, 1) := dk_3 (dk_at dksX3_review_2 21 rfl rfl)
theorem dX3_review_68 : decode cX3_review 68 = .ok (.ireturn, 1) := dk_172 (dk_at dksX3_review_2 22 rfl rfl)
theorem dX3_review_69 : decode cX3_review 69 = .ok (.aload_n 0, 1) := dk_42 (dk_at dksX3_review_2 23 rfl rfl)
theorem dX3_review_70 : decode cX3_review 70 = .ok (.getfield 44, 3) := dk_180 0 44 (dk_at dksX3_review_3 0 rfl rfl)
theorem dX3_review_73 : decode cX3_review 73 = .ok (.iload_n 2, 1) := dk_28 (dk_at dksX3_review_3 3 rfl rfl)
theorem dX3_review_74 : decode cX3_review 74 = .ok (.iaload, 1) := dk_46 (dk_at dksX3_review_3 4 rfl rfl)
theorem dX3_review_75 : decode cX3_review 75 = .ok (.istore 4, 2) := dk_54 4 (dk_at dksX3_review_3 5 rfl rfl)
theorem dX3_review_77 : decode cX3_review 77 = .ok (.aload_n 0, 1) := dk_42 (dk_at dksX3_review_3 7 rfl rfl)
theorem dX3_review_78 : decode cX3_review 78 = .ok (.getfield 147, 3) := dk_180 0 147 (dk_at dksX3_review_3 8 rfl rfl)
theorem dX3_review_81 : decode cX3_review 81 = .ok (.aload_n 0, 1) := dk_42 (dk_at dksX3_review_3 11 rfl rfl)
theorem dX3_review_82 : decode cX3_review 82 = .ok (.getfield 28, 3) := dk_180 0 28 (dk_at dksX3_review_3 12 rfl rfl)
theorem dX3_review_85 : decode cX3_review 85 = .ok (.iload 4, 2) := dk_21 4 (dk_at dksX3_review_3 15 rfl rfl)
theorem dX3_review_87 : decode cX3_review 87 = .ok (.iaload, 1) := dk_46 (dk_at dksX3_review_3 17 rfl rfl)
theorem dX3_review_88 : decode cX3_review 88 = .ok (.if_icmp .gt 5, 3) := dk_163 0 5 (dk_at dksX3_review_3 18 rfl rfl)
theorem dX3_review_91 : decode cX3_review 91 = .ok (.iconst 1, 1) := dk_4 (dk_at dksX3_review_3 21 rfl rfl)
theorem dX3_review_92 : decode cX3_review 92 = .ok (.ireturn, 1) := dk_172 (dk_at dksX3_review_3 22 rfl rfl)
theorem dX3_review_93 : decode cX3_review 93 = .ok (.aload_n 0, 1) := dk_42 (dk_at dksX3_review_3 23 rfl rfl)
theorem dX3_review_94 : decode cX3_review 94 = .ok (.getfield 34, 3) := dk_180 0 34 (dk_at dksX3_review_4 0 rfl rfl)
theorem dX3_review_97 : decode cX3_review 97 = .ok (.iload 4, 2) := dk_21 4 (dk_at dksX3_review_4 3 rfl rfl)
theorem dX3_review_99 : decode cX3_review 99 = .ok (.baload, 1) := dk_51 (dk_at dksX3_review_4 5 rfl rfl)
theorem dX3_review_100 : decode cX3_review 100 = .ok (.ifCond .eq 5, 3) := dk_153 0 5 (dk_at dksX3_review_4 6 rfl rfl)
theorem dX3_review_103 : decode cX3_review 103 = .ok (.iconst 2, 1) := dk_5 (dk_at dksX3_review_4 9 rfl rfl)
theorem dX3_review_104 : decode cX3_review 104 = .ok (.ireturn, 1) := dk_172 (dk_at dksX3_review_4 10 rfl rfl)
theorem dX3_review_105 : decode cX3_review 105 = .ok (.aload_n 0, 1) := dk_42 (dk_at dksX3_review_4 11 rfl rfl)
theorem dX3_review_106 : decode cX3_review 106 = .ok (.getfield 80, 3) := dk_180 0 80 (dk_at dksX3_review_4 12 rfl rfl)
theorem dX3_review_109 : decode cX3_review 109 = .ok (.bipush 10, 2) := dk_16 10 (dk_at dksX3_review_4 15 rfl rfl)
theorem dX3_review_111 : decode cX3_review 111 = .ok (.iload 4, 2) := dk_21 4 (dk_at dksX3_review_4 17 rfl rfl)
theorem dX3_review_113 : decode cX3_review 113 = .ok (.imul, 1) := dk_104 (dk_at dksX3_review_4 19 rfl rfl)
theorem dX3_review_114 : decode cX3_review 114 = .ok (.iload_n 1, 1) := dk_27 (dk_at dksX3_review_4 20 rfl rfl)
theorem dX3_review_115 : decode cX3_review 115 = .ok (.iadd, 1) := dk_96 (dk_at dksX3_review_4 21 rfl rfl)
theorem dX3_review_116 : decode cX3_review 116 = .ok (.baload, 1) := dk_51 (dk_at dksX3_review_4 22 rfl rfl)
theorem dX3_review_117 : decode cX3_review 117 = .ok (.ifCond .ne 5, 3) := dk_154 0 5 (dk_at dksX3_review_5 0 rfl rfl)
theorem dX3_review_120 : decode cX3_review 120 = .ok (.iconst 3, 1) := dk_6 (dk_at dksX3_review_5 3 rfl rfl)
theorem dX3_review_121 : decode cX3_review 121 = .ok (.ireturn, 1) := dk_172 (dk_at dksX3_review_5 4 rfl rfl)
theorem dX3_review_122 : decode cX3_review 122 = .ok (.aload_n 0, 1) := dk_42 (dk_at dksX3_review_5 5 rfl rfl)
theorem dX3_review_123 : decode cX3_review 123 = .ok (.getfield 71, 3) := dk_180 0 71 (dk_at dksX3_review_5 6 rfl rfl)
theorem dX3_review_126 : decode cX3_review 126 = .ok (.iload_n 1, 1) := dk_27 (dk_at dksX3_review_5 9 rfl rfl)
theorem dX3_review_127 : decode cX3_review 127 = .ok (.iaload, 1) := dk_46 (dk_at dksX3_review_5 10 rfl rfl)
theorem dX3_review_128 : decode cX3_review 128 = .ok (.aload_n 0, 1) := dk_42 (dk_at dksX3_review_5 11 rfl rfl)
theorem dX3_review_129 : decode cX3_review 129 = .ok (.getfield 47, 3) := dk_180 0 47 (dk_at dksX3_review_5 12 rfl rfl)
theorem dX3_review_132 : decode cX3_review 132 = .ok (.iload_n 2, 1) := dk_28 (dk_at dksX3_review_5 15 rfl rfl)
theorem dX3_review_133 : decode cX3_review 133 = .ok (.iaload, 1) := dk_46 (dk_at dksX3_review_5 16 rfl rfl)
theorem dX3_review_134 : decode cX3_review 134 = .ok (.if_icmp .eq 37, 3) := dk_159 0 37 (dk_at dksX3_review_5 17 rfl rfl)
theorem dX3_review_137 : decode cX3_review 137 = .ok (.aload_n 0, 1) := dk_42 (dk_at dksX3_review_5 20 rfl rfl)
theorem dX3_review_138 : decode cX3_review 138 = .ok (.getfield 74, 3) := dk_180 0 74 (dk_at dksX3_review_5 21 rfl rfl)
theorem dX3_review_141 : decode cX3_review 141 = .ok (.iload_n 1, 1) := dk_27 (dk_at dksX3_review_6 0 rfl rfl)
theorem dX3_review_142 : decode cX3_review 142 = .ok (.iaload, 1) := dk_46 (dk_at dksX3_review_6 1 rfl rfl)
theorem dX3_review_143 : decode cX3_review 143 = .ok (.aload_n 0, 1) := dk_42 (dk_at dksX3_review_6 2 rfl rfl)
theorem dX3_review_144 : decode cX3_review 144 = .ok (.getfield 50, 3) := dk_180 0 50 (dk_at dksX3_review_6 3 rfl rfl)
theorem dX3_review_147 : decode cX3_review 147 = .ok (.iload_n 2, 1) := dk_28 (dk_at dksX3_review_6 6 rfl rfl)
theorem dX3_review_148 : decode cX3_review 148 = .ok (.iaload, 1) := dk_46 (dk_at dksX3_review_6 7 rfl rfl)
theorem dX3_review_149 : decode cX3_review 149 = .ok (.if_icmp .eq 22, 3) := dk_159 0 22 (dk_at dksX3_review_6 8 rfl rfl)
theorem dX3_review_152 : decode cX3_review 152 = .ok (.aload_n 0, 1) := dk_42 (dk_at dksX3_review_6 11 rfl rfl)
theorem dX3_review_153 : decode cX3_review 153 = .ok (.getfield 77, 3) := dk_180 0 77 (dk_at dksX3_review_6 12 rfl rfl)
theorem dX3_review_156 : decode cX3_review 156 = .ok (.bipush 30, 2) := dk_16 30 (dk_at dksX3_review_6 15 rfl rfl)
theorem dX3_review_158 : decode cX3_review 158 = .ok (.iload_n 1, 1) := dk_27 (dk_at dksX3_review_6 17 rfl rfl)
theorem dX3_review_159 : decode cX3_review 159 = .ok (.imul, 1) := dk_104 (dk_at dksX3_review_6 18 rfl rfl)
theorem dX3_review_160 : decode cX3_review 160 = .ok (.aload_n 0, 1) := dk_42 (dk_at dksX3_review_6 19 rfl rfl)
theorem dX3_review_161 : decode cX3_review 161 = .ok (.getfield 47, 3) := dk_180 0 47 (dk_at dksX3_review_6 20 rfl rfl)
theorem dX3_review_164 : decode cX3_review 164 = .ok (.iload_n 2, 1) := dk_28 (dk_at dksX3_review_6 23 rfl rfl)
theorem dX3_review_165 : decode cX3_review 165 = .ok (.iaload, 1) := dk_46 (dk_at dksX3_review_7 0 rfl rfl)
theorem dX3_review_166 : decode cX3_review 166 = .ok (.iadd, 1) := dk_96 (dk_at dksX3_review_7 1 rfl rfl)
theorem dX3_review_167 : decode cX3_review 167 = .ok (.baload, 1) := dk_51 (dk_at dksX3_review_7 2 rfl rfl)
theorem dX3_review_168 : decode cX3_review 168 = .ok (.ifCond .eq 5, 3) := dk_153 0 5 (dk_at dksX3_review_7 3 rfl rfl)
theorem dX3_review_171 : decode cX3_review 171 = .ok (.iconst 4, 1) := dk_7 (dk_at dksX3_review_7 6 rfl rfl)
theorem dX3_review_172 : decode cX3_review 172 = .ok (.ireturn, 1) := dk_172 (dk_at dksX3_review_7 7 rfl rfl)
theorem dX3_review_173 : decode cX3_review 173 = .ok (.aload_n 0, 1) := dk_42 (dk_at dksX3_review_7 8 rfl rfl)
theorem dX3_review_174 : decode cX3_review 174 = .ok (.getfield 83, 3) := dk_180 0 83 (dk_at dksX3_review_7 9 rfl rfl)
theorem dX3_review_177 : decode cX3_review 177 = .ok (.bipush 24, 2) := dk_16 24 (dk_at dksX3_review_7 12 rfl rfl)
theorem dX3_review_179 : decode cX3_review 179 = .ok (.iload_n 1, 1) := dk_27 (dk_at dksX3_review_7 14 rfl rfl)
theorem dX3_review_180 : decode cX3_review 180 = .ok (.imul, 1) := dk_104 (dk_at dksX3_review_7 15 rfl rfl)
theorem dX3_review_181 : decode cX3_review 181 = .ok (.iload_n 2, 1) := dk_28 (dk_at dksX3_review_7 16 rfl rfl)
theorem dX3_review_182 : decode cX3_review 182 = .ok (.iadd, 1) := dk_96 (dk_at dksX3_review_7 17 rfl rfl)
theorem dX3_review_183 : decode cX3_review 183 = .ok (.iload_n 3, 1) := dk_29 (dk_at dksX3_review_7 18 rfl rfl)
theorem dX3_review_184 : decode cX3_review 184 = .ok (.iastore, 1) := dk_79 (dk_at dksX3_review_7 19 rfl rfl)
theorem dX3_review_185 : decode cX3_review 185 = .ok (.iconst 0, 1) := dk_3 (dk_at dksX3_review_7 20 rfl rfl)
theorem dX3_review_186 : decode cX3_review 186 = .ok (.ireturn, 1) := dk_172 (dk_at dksX3_review_7 21 rfl rfl)
abbrev cX3_alike : ByteArray := prog_19_method_26_code
def yX3_alike : MethodName := ⟨RX3, "alike", "(II)I"⟩
def dkwX3_alike_1 : List UInt8 := [167, 0, 9, 42, 27, 28, 182, 0, 171, 172]
abbrev dktX3_alike_1 : List UInt8 := dkwX3_alike_1 ++ []
def dkwX3_alike_0 : List UInt8 := [42, 3, 181, 0, 95, 42, 27, 182, 0, 167, 154, 0, 11, 42, 28, 182, 0, 164, 153, 0, 7, 3]
abbrev dktX3_alike_0 : List UInt8 := dkwX3_alike_0 ++ dktX3_alike_1
theorem dksX3_alike_0 : cX3_alike.data.toList.drop 0 = dktX3_alike_0 := by decide +kernel
theorem dksX3_alike_1 : cX3_alike.data.toList.drop 22 = dktX3_alike_1 := dk_seg dksX3_alike_0 22 rfl rfl
theorem dX3_alike_0 : decode cX3_alike 0 = .ok (.aload_n 0, 1) := dk_42 (dk_at dksX3_alike_0 0 rfl rfl)
theorem dX3_alike_1 : decode cX3_alike 1 = .ok (.iconst 0, 1) := dk_3 (dk_at dksX3_alike_0 1 rfl rfl)
theorem dX3_alike_2 : decode cX3_alike 2 = .ok (.putfield 95, 3) := dk_181 0 95 (dk_at dksX3_alike_0 2 rfl rfl)
theorem dX3_alike_5 : decode cX3_alike 5 = .ok (.aload_n 0, 1) := dk_42 (dk_at dksX3_alike_0 5 rfl rfl)
theorem dX3_alike_6 : decode cX3_alike 6 = .ok (.iload_n 1, 1) := dk_27 (dk_at dksX3_alike_0 6 rfl rfl)
theorem dX3_alike_7 : decode cX3_alike 7 = .ok (.invokevirtual 167, 3) := dk_182 0 167 (dk_at dksX3_alike_0 7 rfl rfl)
theorem dX3_alike_10 : decode cX3_alike 10 = .ok (.ifCond .ne 11, 3) := dk_154 0 11 (dk_at dksX3_alike_0 10 rfl rfl)
theorem dX3_alike_13 : decode cX3_alike 13 = .ok (.aload_n 0, 1) := dk_42 (dk_at dksX3_alike_0 13 rfl rfl)
theorem dX3_alike_14 : decode cX3_alike 14 = .ok (.iload_n 2, 1) := dk_28 (dk_at dksX3_alike_0 14 rfl rfl)
theorem dX3_alike_15 : decode cX3_alike 15 = .ok (.invokevirtual 164, 3) := dk_182 0 164 (dk_at dksX3_alike_0 15 rfl rfl)
theorem dX3_alike_18 : decode cX3_alike 18 = .ok (.ifCond .eq 7, 3) := dk_153 0 7 (dk_at dksX3_alike_0 18 rfl rfl)
theorem dX3_alike_21 : decode cX3_alike 21 = .ok (.iconst 0, 1) := dk_3 (dk_at dksX3_alike_0 21 rfl rfl)
theorem dX3_alike_22 : decode cX3_alike 22 = .ok (.goto 9, 3) := dk_167 0 9 (dk_at dksX3_alike_1 0 rfl rfl)
theorem dX3_alike_25 : decode cX3_alike 25 = .ok (.aload_n 0, 1) := dk_42 (dk_at dksX3_alike_1 3 rfl rfl)
theorem dX3_alike_26 : decode cX3_alike 26 = .ok (.iload_n 1, 1) := dk_27 (dk_at dksX3_alike_1 4 rfl rfl)
theorem dX3_alike_27 : decode cX3_alike 27 = .ok (.iload_n 2, 1) := dk_28 (dk_at dksX3_alike_1 5 rfl rfl)
theorem dX3_alike_28 : decode cX3_alike 28 = .ok (.invokevirtual 171, 3) := dk_182 0 171 (dk_at dksX3_alike_1 6 rfl rfl)
theorem dX3_alike_31 : decode cX3_alike 31 = .ok (.ireturn, 1) := dk_172 (dk_at dksX3_alike_1 9 rfl rfl)
abbrev cX3_alikeOf : ByteArray := prog_19_method_25_code
def yX3_alikeOf : MethodName := ⟨RX3, "alikeOf", "(II)I"⟩
def dkwX3_alikeOf_7 : List UInt8 := [172]
abbrev dktX3_alikeOf_7 : List UInt8 := dkwX3_alikeOf_7 ++ []
def dkwX3_alikeOf_6 : List UInt8 := [167, 0, 24, 17, 1, 244, 29, 21, 4, 21, 5, 108, 100, 17, 3, 232, 104, 21, 7, 21, 6, 100, 108, 96]
abbrev dktX3_alikeOf_6 : List UInt8 := dkwX3_alikeOf_6 ++ dktX3_alikeOf_7
def dkwX3_alikeOf_5 : List UInt8 := [167, 0, 5, 21, 7, 54, 7, 132, 8, 1, 167, 255, 166, 21, 7, 21, 6, 160, 0, 9, 17, 1, 244]
abbrev dktX3_alikeOf_5 : List UInt8 := dkwX3_alikeOf_5 ++ dktX3_alikeOf_6
def dkwX3_alikeOf_4 : List UInt8 := [21, 6, 162, 0, 8, 21, 9, 167, 0, 5, 21, 6, 54, 6, 21, 9, 21, 7, 164, 0, 8, 21, 9]
abbrev dktX3_alikeOf_4 : List UInt8 := dkwX3_alikeOf_4 ++ dktX3_alikeOf_5
def dkwX3_alikeOf_3 : List UInt8 := [28, 46, 160, 0, 51, 21, 9, 2, 159, 0, 45, 21, 4, 21, 9, 96, 54, 4, 132, 5, 1, 21, 9]
abbrev dktX3_alikeOf_3 : List UInt8 := dkwX3_alikeOf_3 ++ dktX3_alikeOf_4
def dkwX3_alikeOf_2 : List UInt8 := [180, 0, 83, 16, 24, 27, 104, 21, 8, 96, 46, 54, 9, 42, 180, 0, 44, 21, 8, 46, 42, 180, 0, 44]
abbrev dktX3_alikeOf_2 : List UInt8 := dkwX3_alikeOf_2 ++ dktX3_alikeOf_3
def dkwX3_alikeOf_1 : List UInt8 := [54, 5, 16, 100, 54, 6, 3, 54, 7, 3, 54, 8, 21, 8, 42, 180, 0, 110, 162, 0, 87, 42]
abbrev dktX3_alikeOf_1 : List UInt8 := dkwX3_alikeOf_1 ++ dktX3_alikeOf_2
def dkwX3_alikeOf_0 : List UInt8 := [42, 180, 0, 83, 16, 24, 27, 104, 28, 96, 46, 62, 29, 2, 160, 0, 6, 18, 170, 172, 3, 54, 4, 3]
abbrev dktX3_alikeOf_0 : List UInt8 := dkwX3_alikeOf_0 ++ dktX3_alikeOf_1
theorem dksX3_alikeOf_0 : cX3_alikeOf.data.toList.drop 0 = dktX3_alikeOf_0 := by decide +kernel
theorem dksX3_alikeOf_1 : cX3_alikeOf.data.toList.drop 24 = dktX3_alikeOf_1 := dk_seg dksX3_alikeOf_0 24 rfl rfl
theorem dksX3_alikeOf_2 : cX3_alikeOf.data.toList.drop 46 = dktX3_alikeOf_2 := dk_seg dksX3_alikeOf_1 22 rfl rfl
theorem dksX3_alikeOf_3 : cX3_alikeOf.data.toList.drop 70 = dktX3_alikeOf_3 := dk_seg dksX3_alikeOf_2 24 rfl rfl
theorem dksX3_alikeOf_4 : cX3_alikeOf.data.toList.drop 93 = dktX3_alikeOf_4 := dk_seg dksX3_alikeOf_3 23 rfl rfl
theorem dksX3_alikeOf_5 : cX3_alikeOf.data.toList.drop 116 = dktX3_alikeOf_5 := dk_seg dksX3_alikeOf_4 23 rfl rfl
theorem dksX3_alikeOf_6 : cX3_alikeOf.data.toList.drop 139 = dktX3_alikeOf_6 := dk_seg dksX3_alikeOf_5 23 rfl rfl
theorem dksX3_alikeOf_7 : cX3_alikeOf.data.toList.drop 163 = dktX3_alikeOf_7 := dk_seg dksX3_alikeOf_6 24 rfl rfl
theorem dX3_alikeOf_0 : decode cX3_alikeOf 0 = .ok (.aload_n 0, 1) := dk_42 (dk_at dksX3_alikeOf_0 0 rfl rfl)
theorem dX3_alikeOf_1 : decode cX3_alikeOf 1 = .ok (.getfield 83, 3) := dk_180 0 83 (dk_at dksX3_alikeOf_0 1 rfl rfl)
theorem dX3_alikeOf_4 : decode cX3_alikeOf 4 = .ok (.bipush 24, 2) := dk_16 24 (dk_at dksX3_alikeOf_0 4 rfl rfl)
theorem dX3_alikeOf_6 : decode cX3_alikeOf 6 = .ok (.iload_n 1, 1) := dk_27 (dk_at dksX3_alikeOf_0 6 rfl rfl)
theorem dX3_alikeOf_7 : decode cX3_alikeOf 7 = .ok (.imul, 1) := dk_104 (dk_at dksX3_alikeOf_0 7 rfl rfl)
theorem dX3_alikeOf_8 : decode cX3_alikeOf 8 = .ok (.iload_n 2, 1) := dk_28 (dk_at dksX3_alikeOf_0 8 rfl rfl)
theorem dX3_alikeOf_9 : decode cX3_alikeOf 9 = .ok (.iadd, 1) := dk_96 (dk_at dksX3_alikeOf_0 9 rfl rfl)
theorem dX3_alikeOf_10 : decode cX3_alikeOf 10 = .ok (.iaload, 1) := dk_46 (dk_at dksX3_alikeOf_0 10 rfl rfl)
theorem dX3_alikeOf_11 : decode cX3_alikeOf 11 = .ok (.istore_n 3, 1) := dk_62 (dk_at dksX3_alikeOf_0 11 rfl rfl)
theorem dX3_alikeOf_12 : decode cX3_alikeOf 12 = .ok (.iload_n 3, 1) := dk_29 (dk_at dksX3_alikeOf_0 12 rfl rfl)
theorem dX3_alikeOf_13 : decode cX3_alikeOf 13 = .ok (.iconst (-1), 1) := dk_2 (dk_at dksX3_alikeOf_0 13 rfl rfl)
theorem dX3_alikeOf_14 : decode cX3_alikeOf 14 = .ok (.if_icmp .ne 6, 3) := dk_160 0 6 (dk_at dksX3_alikeOf_0 14 rfl rfl)
theorem dX3_alikeOf_17 : decode cX3_alikeOf 17 = .ok (.ldc 170, 2) := dk_18 170 (dk_at dksX3_alikeOf_0 17 rfl rfl)
theorem dX3_alikeOf_19 : decode cX3_alikeOf 19 = .ok (.ireturn, 1) := dk_172 (dk_at dksX3_alikeOf_0 19 rfl rfl)
theorem dX3_alikeOf_20 : decode cX3_alikeOf 20 = .ok (.iconst 0, 1) := dk_3 (dk_at dksX3_alikeOf_0 20 rfl rfl)
theorem dX3_alikeOf_21 : decode cX3_alikeOf 21 = .ok (.istore 4, 2) := dk_54 4 (dk_at dksX3_alikeOf_0 21 rfl rfl)
theorem dX3_alikeOf_23 : decode cX3_alikeOf 23 = .ok (.iconst 0, 1) := dk_3 (dk_at dksX3_alikeOf_0 23 rfl rfl)
theorem dX3_alikeOf_24 : decode cX3_alikeOf 24 = .ok (.istore 5, 2) := dk_54 5 (dk_at dksX3_alikeOf_1 0 rfl rfl)
theorem dX3_alikeOf_26 : decode cX3_alikeOf 26 = .ok (.bipush 100, 2) := dk_16 100 (dk_at dksX3_alikeOf_1 2 rfl rfl)
theorem dX3_alikeOf_28 : decode cX3_alikeOf 28 = .ok (.istore 6, 2) := dk_54 6 (dk_at dksX3_alikeOf_1 4 rfl rfl)
theorem dX3_alikeOf_30 : decode cX3_alikeOf 30 = .ok (.iconst 0, 1) := dk_3 (dk_at dksX3_alikeOf_1 6 rfl rfl)
theorem dX3_alikeOf_31 : decode cX3_alikeOf 31 = .ok (.istore 7, 2) := dk_54 7 (dk_at dksX3_alikeOf_1 7 rfl rfl)
theorem dX3_alikeOf_33 : decode cX3_alikeOf 33 = .ok (.iconst 0, 1) := dk_3 (dk_at dksX3_alikeOf_1 9 rfl rfl)
theorem dX3_alikeOf_34 : decode cX3_alikeOf 34 = .ok (.istore 8, 2) := dk_54 8 (dk_at dksX3_alikeOf_1 10 rfl rfl)
theorem dX3_alikeOf_36 : decode cX3_alikeOf 36 = .ok (.iload 8, 2) := dk_21 8 (dk_at dksX3_alikeOf_1 12 rfl rfl)
theorem dX3_alikeOf_38 : decode cX3_alikeOf 38 = .ok (.aload_n 0, 1) := dk_42 (dk_at dksX3_alikeOf_1 14 rfl rfl)
theorem dX3_alikeOf_39 : decode cX3_alikeOf 39 = .ok (.getfield 110, 3) := dk_180 0 110 (dk_at dksX3_alikeOf_1 15 rfl rfl)
theorem dX3_alikeOf_42 : decode cX3_alikeOf 42 = .ok (.if_icmp .ge 87, 3) := dk_162 0 87 (dk_at dksX3_alikeOf_1 18 rfl rfl)
theorem dX3_alikeOf_45 : decode cX3_alikeOf 45 = .ok (.aload_n 0, 1) := dk_42 (dk_at dksX3_alikeOf_1 21 rfl rfl)
theorem dX3_alikeOf_46 : decode cX3_alikeOf 46 = .ok (.getfield 83, 3) := dk_180 0 83 (dk_at dksX3_alikeOf_2 0 rfl rfl)
theorem dX3_alikeOf_49 : decode cX3_alikeOf 49 = .ok (.bipush 24, 2) := dk_16 24 (dk_at dksX3_alikeOf_2 3 rfl rfl)
theorem dX3_alikeOf_51 : decode cX3_alikeOf 51 = .ok (.iload_n 1, 1) := dk_27 (dk_at dksX3_alikeOf_2 5 rfl rfl)
theorem dX3_alikeOf_52 : decode cX3_alikeOf 52 = .ok (.imul, 1) := dk_104 (dk_at dksX3_alikeOf_2 6 rfl rfl)
theorem dX3_alikeOf_53 : decode cX3_alikeOf 53 = .ok (.iload 8, 2) := dk_21 8 (dk_at dksX3_alikeOf_2 7 rfl rfl)
theorem dX3_alikeOf_55 : decode cX3_alikeOf 55 = .ok (.iadd, 1) := dk_96 (dk_at dksX3_alikeOf_2 9 rfl rfl)
theorem dX3_alikeOf_56 : decode cX3_alikeOf 56 = .ok (.iaload, 1) := dk_46 (dk_at dksX3_alikeOf_2 10 rfl rfl)
theorem dX3_alikeOf_57 : decode cX3_alikeOf 57 = .ok (.istore 9, 2) := dk_54 9 (dk_at dksX3_alikeOf_2 11 rfl rfl)
theorem dX3_alikeOf_59 : decode cX3_alikeOf 59 = .ok (.aload_n 0, 1) := dk_42 (dk_at dksX3_alikeOf_2 13 rfl rfl)
theorem dX3_alikeOf_60 : decode cX3_alikeOf 60 = .ok (.getfield 44, 3) := dk_180 0 44 (dk_at dksX3_alikeOf_2 14 rfl rfl)
theorem dX3_alikeOf_63 : decode cX3_alikeOf 63 = .ok (.iload 8, 2) := dk_21 8 (dk_at dksX3_alikeOf_2 17 rfl rfl)
theorem dX3_alikeOf_65 : decode cX3_alikeOf 65 = .ok (.iaload, 1) := dk_46 (dk_at dksX3_alikeOf_2 19 rfl rfl)
theorem dX3_alikeOf_66 : decode cX3_alikeOf 66 = .ok (.aload_n 0, 1) := dk_42 (dk_at dksX3_alikeOf_2 20 rfl rfl)
theorem dX3_alikeOf_67 : decode cX3_alikeOf 67 = .ok (.getfield 44, 3) := dk_180 0 44 (dk_at dksX3_alikeOf_2 21 rfl rfl)
theorem dX3_alikeOf_70 : decode cX3_alikeOf 70 = .ok (.iload_n 2, 1) := dk_28 (dk_at dksX3_alikeOf_3 0 rfl rfl)
theorem dX3_alikeOf_71 : decode cX3_alikeOf 71 = .ok (.iaload, 1) := dk_46 (dk_at dksX3_alikeOf_3 1 rfl rfl)
theorem dX3_alikeOf_72 : decode cX3_alikeOf 72 = .ok (.if_icmp .ne 51, 3) := dk_160 0 51 (dk_at dksX3_alikeOf_3 2 rfl rfl)
theorem dX3_alikeOf_75 : decode cX3_alikeOf 75 = .ok (.iload 9, 2) := dk_21 9 (dk_at dksX3_alikeOf_3 5 rfl rfl)
theorem dX3_alikeOf_77 : decode cX3_alikeOf 77 = .ok (.iconst (-1), 1) := dk_2 (dk_at dksX3_alikeOf_3 7 rfl rfl)
theorem dX3_alikeOf_78 : decode cX3_alikeOf 78 = .ok (.if_icmp .eq 45, 3) := dk_159 0 45 (dk_at dksX3_alikeOf_3 8 rfl rfl)
theorem dX3_alikeOf_81 : decode cX3_alikeOf 81 = .ok (.iload 4, 2) := dk_21 4 (dk_at dksX3_alikeOf_3 11 rfl rfl)
theorem dX3_alikeOf_83 : decode cX3_alikeOf 83 = .ok (.iload 9, 2) := dk_21 9 (dk_at dksX3_alikeOf_3 13 rfl rfl)
theorem dX3_alikeOf_85 : decode cX3_alikeOf 85 = .ok (.iadd, 1) := dk_96 (dk_at dksX3_alikeOf_3 15 rfl rfl)
theorem dX3_alikeOf_86 : decode cX3_alikeOf 86 = .ok (.istore 4, 2) := dk_54 4 (dk_at dksX3_alikeOf_3 16 rfl rfl)
theorem dX3_alikeOf_88 : decode cX3_alikeOf 88 = .ok (.iinc 5 1, 3) := dk_132 5 1 (dk_at dksX3_alikeOf_3 18 rfl rfl)
theorem dX3_alikeOf_91 : decode cX3_alikeOf 91 = .ok (.iload 9, 2) := dk_21 9 (dk_at dksX3_alikeOf_3 21 rfl rfl)
theorem dX3_alikeOf_93 : decode cX3_alikeOf 93 = .ok (.iload 6, 2) := dk_21 6 (dk_at dksX3_alikeOf_4 0 rfl rfl)
theorem dX3_alikeOf_95 : decode cX3_alikeOf 95 = .ok (.if_icmp .ge 8, 3) := dk_162 0 8 (dk_at dksX3_alikeOf_4 2 rfl rfl)
theorem dX3_alikeOf_98 : decode cX3_alikeOf 98 = .ok (.iload 9, 2) := dk_21 9 (dk_at dksX3_alikeOf_4 5 rfl rfl)
theorem dX3_alikeOf_100 : decode cX3_alikeOf 100 = .ok (.goto 5, 3) := dk_167 0 5 (dk_at dksX3_alikeOf_4 7 rfl rfl)
theorem dX3_alikeOf_103 : decode cX3_alikeOf 103 = .ok (.iload 6, 2) := dk_21 6 (dk_at dksX3_alikeOf_4 10 rfl rfl)
theorem dX3_alikeOf_105 : decode cX3_alikeOf 105 = .ok (.istore 6, 2) := dk_54 6 (dk_at dksX3_alikeOf_4 12 rfl rfl)
theorem dX3_alikeOf_107 : decode cX3_alikeOf 107 = .ok (.iload 9, 2) := dk_21 9 (dk_at dksX3_alikeOf_4 14 rfl rfl)
theorem dX3_alikeOf_109 : decode cX3_alikeOf 109 = .ok (.iload 7, 2) := dk_21 7 (dk_at dksX3_alikeOf_4 16 rfl rfl)
theorem dX3_alikeOf_111 : decode cX3_alikeOf 111 = .ok (.if_icmp .le 8, 3) := dk_164 0 8 (dk_at dksX3_alikeOf_4 18 rfl rfl)
theorem dX3_alikeOf_114 : decode cX3_alikeOf 114 = .ok (.iload 9, 2) := dk_21 9 (dk_at dksX3_alikeOf_4 21 rfl rfl)
theorem dX3_alikeOf_116 : decode cX3_alikeOf 116 = .ok (.goto 5, 3) := dk_167 0 5 (dk_at dksX3_alikeOf_5 0 rfl rfl)
theorem dX3_alikeOf_119 : decode cX3_alikeOf 119 = .ok (.iload 7, 2) := dk_21 7 (dk_at dksX3_alikeOf_5 3 rfl rfl)
theorem dX3_alikeOf_121 : decode cX3_alikeOf 121 = .ok (.istore 7, 2) := dk_54 7 (dk_at dksX3_alikeOf_5 5 rfl rfl)
theorem dX3_alikeOf_123 : decode cX3_alikeOf 123 = .ok (.iinc 8 1, 3) := dk_132 8 1 (dk_at dksX3_alikeOf_5 7 rfl rfl)
theorem dX3_alikeOf_126 : decode cX3_alikeOf 126 = .ok (.goto (-90), 3) := dk_167 255 166 (dk_at dksX3_alikeOf_5 10 rfl rfl)
theorem dX3_alikeOf_129 : decode cX3_alikeOf 129 = .ok (.iload 7, 2) := dk_21 7 (dk_at dksX3_alikeOf_5 13 rfl rfl)
theorem dX3_alikeOf_131 : decode cX3_alikeOf 131 = .ok (.iload 6, 2) := dk_21 6 (dk_at dksX3_alikeOf_5 15 rfl rfl)
theorem dX3_alikeOf_133 : decode cX3_alikeOf 133 = .ok (.if_icmp .ne 9, 3) := dk_160 0 9 (dk_at dksX3_alikeOf_5 17 rfl rfl)
theorem dX3_alikeOf_136 : decode cX3_alikeOf 136 = .ok (.sipush 500, 3) := dk_17 1 244 (dk_at dksX3_alikeOf_5 20 rfl rfl)
theorem dX3_alikeOf_139 : decode cX3_alikeOf 139 = .ok (.goto 24, 3) := dk_167 0 24 (dk_at dksX3_alikeOf_6 0 rfl rfl)
theorem dX3_alikeOf_142 : decode cX3_alikeOf 142 = .ok (.sipush 500, 3) := dk_17 1 244 (dk_at dksX3_alikeOf_6 3 rfl rfl)
theorem dX3_alikeOf_145 : decode cX3_alikeOf 145 = .ok (.iload_n 3, 1) := dk_29 (dk_at dksX3_alikeOf_6 6 rfl rfl)
theorem dX3_alikeOf_146 : decode cX3_alikeOf 146 = .ok (.iload 4, 2) := dk_21 4 (dk_at dksX3_alikeOf_6 7 rfl rfl)
theorem dX3_alikeOf_148 : decode cX3_alikeOf 148 = .ok (.iload 5, 2) := dk_21 5 (dk_at dksX3_alikeOf_6 9 rfl rfl)
theorem dX3_alikeOf_150 : decode cX3_alikeOf 150 = .ok (.idiv, 1) := dk_108 (dk_at dksX3_alikeOf_6 11 rfl rfl)
theorem dX3_alikeOf_151 : decode cX3_alikeOf 151 = .ok (.isub, 1) := dk_100 (dk_at dksX3_alikeOf_6 12 rfl rfl)
theorem dX3_alikeOf_152 : decode cX3_alikeOf 152 = .ok (.sipush 1000, 3) := dk_17 3 232 (dk_at dksX3_alikeOf_6 13 rfl rfl)
theorem dX3_alikeOf_155 : decode cX3_alikeOf 155 = .ok (.imul, 1) := dk_104 (dk_at dksX3_alikeOf_6 16 rfl rfl)
theorem dX3_alikeOf_156 : decode cX3_alikeOf 156 = .ok (.iload 7, 2) := dk_21 7 (dk_at dksX3_alikeOf_6 17 rfl rfl)
theorem dX3_alikeOf_158 : decode cX3_alikeOf 158 = .ok (.iload 6, 2) := dk_21 6 (dk_at dksX3_alikeOf_6 19 rfl rfl)
theorem dX3_alikeOf_160 : decode cX3_alikeOf 160 = .ok (.isub, 1) := dk_100 (dk_at dksX3_alikeOf_6 21 rfl rfl)
theorem dX3_alikeOf_161 : decode cX3_alikeOf 161 = .ok (.idiv, 1) := dk_108 (dk_at dksX3_alikeOf_6 22 rfl rfl)
theorem dX3_alikeOf_162 : decode cX3_alikeOf 162 = .ok (.iadd, 1) := dk_96 (dk_at dksX3_alikeOf_6 23 rfl rfl)
theorem dX3_alikeOf_163 : decode cX3_alikeOf 163 = .ok (.ireturn, 1) := dk_172 (dk_at dksX3_alikeOf_7 0 rfl rfl)
abbrev cX3_award : ByteArray := prog_19_method_30_code
def yX3_award : MethodName := ⟨RX3, "award", "(I)I"⟩
def dkwX3_award_6 : List UInt8 := [182, 0, 135, 172]
abbrev dktX3_award_6 : List UInt8 := dkwX3_award_6 ++ []
def dkwX3_award_5 : List UInt8 := [42, 180, 0, 62, 28, 46, 4, 160, 0, 9, 42, 27, 28, 182, 0, 180, 132, 2, 1, 167, 255, 189, 42, 27]
abbrev dktX3_award_5 : List UInt8 := dkwX3_award_5 ++ dktX3_award_6
def dkwX3_award_4 : List UInt8 := [154, 0, 40, 42, 180, 0, 62, 28, 42, 28, 182, 0, 177, 18, 170, 160, 0, 7, 7, 167, 0, 4, 4, 79]
abbrev dktX3_award_4 : List UInt8 := dkwX3_award_4 ++ dktX3_award_5
def dkwX3_award_3 : List UInt8 := [180, 0, 110, 162, 0, 65, 42, 180, 0, 44, 28, 46, 27, 160, 0, 49, 42, 180, 0, 62, 28, 46]
abbrev dktX3_award_3 : List UInt8 := dkwX3_award_3 ++ dktX3_award_4
def dkwX3_award_2 : List UInt8 := [167, 0, 4, 3, 5, 182, 0, 106, 153, 0, 5, 3, 172, 42, 180, 0, 34, 27, 4, 84, 3, 61, 28, 42]
abbrev dktX3_award_2 : List UInt8 := dkwX3_award_2 ++ dktX3_award_3
def dkwX3_award_1 : List UInt8 := [164, 0, 22, 42, 180, 0, 34, 27, 51, 154, 0, 13, 42, 180, 0, 116, 17, 1, 44, 164, 0, 7, 4]
abbrev dktX3_award_1 : List UInt8 := dkwX3_award_1 ++ dktX3_award_2
def dkwX3_award_0 : List UInt8 := [42, 3, 181, 0, 95, 42, 27, 182, 0, 151, 154, 0, 48, 42, 42, 180, 0, 147, 42, 180, 0, 28, 27, 46]
abbrev dktX3_award_0 : List UInt8 := dkwX3_award_0 ++ dktX3_award_1
theorem dksX3_award_0 : cX3_award.data.toList.drop 0 = dktX3_award_0 := by decide +kernel
theorem dksX3_award_1 : cX3_award.data.toList.drop 24 = dktX3_award_1 := dk_seg dksX3_award_0 24 rfl rfl
theorem dksX3_award_2 : cX3_award.data.toList.drop 47 = dktX3_award_2 := dk_seg dksX3_award_1 23 rfl rfl
theorem dksX3_award_3 : cX3_award.data.toList.drop 71 = dktX3_award_3 := dk_seg dksX3_award_2 24 rfl rfl
theorem dksX3_award_4 : cX3_award.data.toList.drop 93 = dktX3_award_4 := dk_seg dksX3_award_3 22 rfl rfl
theorem dksX3_award_5 : cX3_award.data.toList.drop 117 = dktX3_award_5 := dk_seg dksX3_award_4 24 rfl rfl
theorem dksX3_award_6 : cX3_award.data.toList.drop 141 = dktX3_award_6 := dk_seg dksX3_award_5 24 rfl rfl
theorem dX3_award_0 : decode cX3_award 0 = .ok (.aload_n 0, 1) := dk_42 (dk_at dksX3_award_0 0 rfl rfl)
theorem dX3_award_1 : decode cX3_award 1 = .ok (.iconst 0, 1) := dk_3 (dk_at dksX3_award_0 1 rfl rfl)
theorem dX3_award_2 : decode cX3_award 2 = .ok (.putfield 95, 3) := dk_181 0 95 (dk_at dksX3_award_0 2 rfl rfl)
theorem dX3_award_5 : decode cX3_award 5 = .ok (.aload_n 0, 1) := dk_42 (dk_at dksX3_award_0 5 rfl rfl)
theorem dX3_award_6 : decode cX3_award 6 = .ok (.iload_n 1, 1) := dk_27 (dk_at dksX3_award_0 6 rfl rfl)
theorem dX3_award_7 : decode cX3_award 7 = .ok (.invokevirtual 151, 3) := dk_182 0 151 (dk_at dksX3_award_0 7 rfl rfl)
theorem dX3_award_10 : decode cX3_award 10 = .ok (.ifCond .ne 48, 3) := dk_154 0 48 (dk_at dksX3_award_0 10 rfl rfl)
theorem dX3_award_13 : decode cX3_award 13 = .ok (.aload_n 0, 1) := dk_42 (dk_at dksX3_award_0 13 rfl rfl)
theorem dX3_award_14 : decode cX3_award 14 = .ok (.aload_n 0, 1) := dk_42 (dk_at dksX3_award_0 14 rfl rfl)
theorem dX3_award_15 : decode cX3_award 15 = .ok (.getfield 147, 3) := dk_180 0 147 (dk_at dksX3_award_0 15 rfl rfl)
theorem dX3_award_18 : decode cX3_award 18 = .ok (.aload_n 0, 1) := dk_42 (dk_at dksX3_award_0 18 rfl rfl)
theorem dX3_award_19 : decode cX3_award 19 = .ok (.getfield 28, 3) := dk_180 0 28 (dk_at dksX3_award_0 19 rfl rfl)
theorem dX3_award_22 : decode cX3_award 22 = .ok (.iload_n 1, 1) := dk_27 (dk_at dksX3_award_0 22 rfl rfl)
theorem dX3_award_23 : decode cX3_award 23 = .ok (.iaload, 1) := dk_46 (dk_at dksX3_award_0 23 rfl rfl)
theorem dX3_award_24 : decode cX3_award 24 = .ok (.if_icmp .le 22, 3) := dk_164 0 22 (dk_at dksX3_award_1 0 rfl rfl)
theorem dX3_award_27 : decode cX3_award 27 = .ok (.aload_n 0, 1) := dk_42 (dk_at dksX3_award_1 3 rfl rfl)
theorem dX3_award_28 : decode cX3_award 28 = .ok (.getfield 34, 3) := dk_180 0 34 (dk_at dksX3_award_1 4 rfl rfl)
theorem dX3_award_31 : decode cX3_award 31 = .ok (.iload_n 1, 1) := dk_27 (dk_at dksX3_award_1 7 rfl rfl)
theorem dX3_award_32 : decode cX3_award 32 = .ok (.baload, 1) := dk_51 (dk_at dksX3_award_1 8 rfl rfl)
theorem dX3_award_33 : decode cX3_award 33 = .ok (.ifCond .ne 13, 3) := dk_154 0 13 (dk_at dksX3_award_1 9 rfl rfl)
theorem dX3_award_36 : decode cX3_award 36 = .ok (.aload_n 0, 1) := dk_42 (dk_at dksX3_award_1 12 rfl rfl)
theorem dX3_award_37 : decode cX3_award 37 = .ok (.getfield 116, 3) := dk_180 0 116 (dk_at dksX3_award_1 13 rfl rfl)
theorem dX3_award_40 : decode cX3_award 40 = .ok (.sipush 300, 3) := dk_17 1 44 (dk_at dksX3_award_1 16 rfl rfl)
theorem dX3_award_43 : decode cX3_award 43 = .ok (.if_icmp .le 7, 3) := dk_164 0 7 (dk_at dksX3_award_1 19 rfl rfl)
theorem dX3_award_46 : decode cX3_award 46 = .ok (.iconst 1, 1) := dk_4 (dk_at dksX3_award_1 22 rfl rfl)
theorem dX3_award_47 : decode cX3_award 47 = .ok (.goto 4, 3) := dk_167 0 4 (dk_at dksX3_award_2 0 rfl rfl)
theorem dX3_award_50 : decode cX3_award 50 = .ok (.iconst 0, 1) := dk_3 (dk_at dksX3_award_2 3 rfl rfl)
theorem dX3_award_51 : decode cX3_award 51 = .ok (.iconst 2, 1) := dk_5 (dk_at dksX3_award_2 4 rfl rfl)
theorem dX3_award_52 : decode cX3_award 52 = .ok (.invokevirtual 106, 3) := dk_182 0 106 (dk_at dksX3_award_2 5 rfl rfl)
theorem dX3_award_55 : decode cX3_award 55 = .ok (.ifCond .eq 5, 3) := dk_153 0 5 (dk_at dksX3_award_2 8 rfl rfl)
theorem dX3_award_58 : decode cX3_award 58 = .ok (.iconst 0, 1) := dk_3 (dk_at dksX3_award_2 11 rfl rfl)
theorem dX3_award_59 : decode cX3_award 59 = .ok (.ireturn, 1) := dk_172 (dk_at dksX3_award_2 12 rfl rfl)
theorem dX3_award_60 : decode cX3_award 60 = .ok (.aload_n 0, 1) := dk_42 (dk_at dksX3_award_2 13 rfl rfl)
theorem dX3_award_61 : decode cX3_award 61 = .ok (.getfield 34, 3) := dk_180 0 34 (dk_at dksX3_award_2 14 rfl rfl)
theorem dX3_award_64 : decode cX3_award 64 = .ok (.iload_n 1, 1) := dk_27 (dk_at dksX3_award_2 17 rfl rfl)
theorem dX3_award_65 : decode cX3_award 65 = .ok (.iconst 1, 1) := dk_4 (dk_at dksX3_award_2 18 rfl rfl)
theorem dX3_award_66 : decode cX3_award 66 = .ok (.bastore, 1) := dk_84 (dk_at dksX3_award_2 19 rfl rfl)
theorem dX3_award_67 : decode cX3_award 67 = .ok (.iconst 0, 1) := dk_3 (dk_at dksX3_award_2 20 rfl rfl)
theorem dX3_award_68 : decode cX3_award 68 = .ok (.istore_n 2, 1) := dk_61 (dk_at dksX3_award_2 21 rfl rfl)
theorem dX3_award_69 : decode cX3_award 69 = .ok (.iload_n 2, 1) := dk_28 (dk_at dksX3_award_2 22 rfl rfl)
theorem dX3_award_70 : decode cX3_award 70 = .ok (.aload_n 0, 1) := dk_42 (dk_at dksX3_award_2 23 rfl rfl)
theorem dX3_award_71 : decode cX3_award 71 = .ok (.getfield 110, 3) := dk_180 0 110 (dk_at dksX3_award_3 0 rfl rfl)
theorem dX3_award_74 : decode cX3_award 74 = .ok (.if_icmp .ge 65, 3) := dk_162 0 65 (dk_at dksX3_award_3 3 rfl rfl)
theorem dX3_award_77 : decode cX3_award 77 = .ok (.aload_n 0, 1) := dk_42 (dk_at dksX3_award_3 6 rfl rfl)
theorem dX3_award_78 : decode cX3_award 78 = .ok (.getfield 44, 3) := dk_180 0 44 (dk_at dksX3_award_3 7 rfl rfl)
theorem dX3_award_81 : decode cX3_award 81 = .ok (.iload_n 2, 1) := dk_28 (dk_at dksX3_award_3 10 rfl rfl)
theorem dX3_award_82 : decode cX3_award 82 = .ok (.iaload, 1) := dk_46 (dk_at dksX3_award_3 11 rfl rfl)
theorem dX3_award_83 : decode cX3_award 83 = .ok (.iload_n 1, 1) := dk_27 (dk_at dksX3_award_3 12 rfl rfl)
theorem dX3_award_84 : decode cX3_award 84 = .ok (.if_icmp .ne 49, 3) := dk_160 0 49 (dk_at dksX3_award_3 13 rfl rfl)
theorem dX3_award_87 : decode cX3_award 87 = .ok (.aload_n 0, 1) := dk_42 (dk_at dksX3_award_3 16 rfl rfl)
theorem dX3_award_88 : decode cX3_award 88 = .ok (.getfield 62, 3) := dk_180 0 62 (dk_at dksX3_award_3 17 rfl rfl)
theorem dX3_award_91 : decode cX3_award 91 = .ok (.iload_n 2, 1) := dk_28 (dk_at dksX3_award_3 20 rfl rfl)
theorem dX3_award_92 : decode cX3_award 92 = .ok (.iaload, 1) := dk_46 (dk_at dksX3_award_3 21 rfl rfl)
theorem dX3_award_93 : decode cX3_award 93 = .ok (.ifCond .ne 40, 3) := dk_154 0 40 (dk_at dksX3_award_4 0 rfl rfl)
theorem dX3_award_96 : decode cX3_award 96 = .ok (.aload_n 0, 1) := dk_42 (dk_at dksX3_award_4 3 rfl rfl)
theorem dX3_award_97 : decode cX3_award 97 = .ok (.getfield 62, 3) := dk_180 0 62 (dk_at dksX3_award_4 4 rfl rfl)
theorem dX3_award_100 : decode cX3_award 100 = .ok (.iload_n 2, 1) := dk_28 (dk_at dksX3_award_4 7 rfl rfl)
theorem dX3_award_101 : decode cX3_award 101 = .ok (.aload_n 0, 1) := dk_42 (dk_at dksX3_award_4 8 rfl rfl)
theorem dX3_award_102 : decode cX3_award 102 = .ok (.iload_n 2, 1) := dk_28 (dk_at dksX3_award_4 9 rfl rfl)
theorem dX3_award_103 : decode cX3_award 103 = .ok (.invokevirtual 177, 3) := dk_182 0 177 (dk_at dksX3_award_4 10 rfl rfl)
theorem dX3_award_106 : decode cX3_award 106 = .ok (.ldc 170, 2) := dk_18 170 (dk_at dksX3_award_4 13 rfl rfl)
theorem dX3_award_108 : decode cX3_award 108 = .ok (.if_icmp .ne 7, 3) := dk_160 0 7 (dk_at dksX3_award_4 15 rfl rfl)
theorem dX3_award_111 : decode cX3_award 111 = .ok (.iconst 4, 1) := dk_7 (dk_at dksX3_award_4 18 rfl rfl)
theorem dX3_award_112 : decode cX3_award 112 = .ok (.goto 4, 3) := dk_167 0 4 (dk_at dksX3_award_4 19 rfl rfl)
theorem dX3_award_115 : decode cX3_award 115 = .ok (.iconst 1, 1) := dk_4 (dk_at dksX3_award_4 22 rfl rfl)
theorem dX3_award_116 : decode cX3_award 116 = .ok (.iastore, 1) := dk_79 (dk_at dksX3_award_4 23 rfl rfl)
theorem dX3_award_117 : decode cX3_award 117 = .ok (.aload_n 0, 1) := dk_42 (dk_at dksX3_award_5 0 rfl rfl)
theorem dX3_award_118 : decode cX3_award 118 = .ok (.getfield 62, 3) := dk_180 0 62 (dk_at dksX3_award_5 1 rfl rfl)
theorem dX3_award_121 : decode cX3_award 121 = .ok (.iload_n 2, 1) := dk_28 (dk_at dksX3_award_5 4 rfl rfl)
theorem dX3_award_122 : decode cX3_award 122 = .ok (.iaload, 1) := dk_46 (dk_at dksX3_award_5 5 rfl rfl)
theorem dX3_award_123 : decode cX3_award 123 = .ok (.iconst 1, 1) := dk_4 (dk_at dksX3_award_5 6 rfl rfl)
theorem dX3_award_124 : decode cX3_award 124 = .ok (.if_icmp .ne 9, 3) := dk_160 0 9 (dk_at dksX3_award_5 7 rfl rfl)
theorem dX3_award_127 : decode cX3_award 127 = .ok (.aload_n 0, 1) := dk_42 (dk_at dksX3_award_5 10 rfl rfl)
theorem dX3_award_128 : decode cX3_award 128 = .ok (.iload_n 1, 1) := dk_27 (dk_at dksX3_award_5 11 rfl rfl)
theorem dX3_award_129 : decode cX3_award 129 = .ok (.iload_n 2, 1) := dk_28 (dk_at dksX3_award_5 12 rfl rfl)
theorem dX3_award_130 : decode cX3_award 130 = .ok (.invokevirtual 180, 3) := dk_182 0 180 (dk_at dksX3_award_5 13 rfl rfl)
theorem dX3_award_133 : decode cX3_award 133 = .ok (.iinc 2 1, 3) := dk_132 2 1 (dk_at dksX3_award_5 16 rfl rfl)
theorem dX3_award_136 : decode cX3_award 136 = .ok (.goto (-67), 3) := dk_167 255 189 (dk_at dksX3_award_5 19 rfl rfl)
theorem dX3_award_139 : decode cX3_award 139 = .ok (.aload_n 0, 1) := dk_42 (dk_at dksX3_award_5 22 rfl rfl)
theorem dX3_award_140 : decode cX3_award 140 = .ok (.iload_n 1, 1) := dk_27 (dk_at dksX3_award_5 23 rfl rfl)
theorem dX3_award_141 : decode cX3_award 141 = .ok (.invokevirtual 135, 3) := dk_182 0 135 (dk_at dksX3_award_6 0 rfl rfl)
theorem dX3_award_144 : decode cX3_award 144 = .ok (.ireturn, 1) := dk_172 (dk_at dksX3_award_6 3 rfl rfl)
abbrev cX3_scoreOf : ByteArray := prog_19_method_28_code
def yX3_scoreOf : MethodName := ⟨RX3, "scoreOf", "(I)I"⟩
def dkwX3_scoreOf_2 : List UInt8 := [21, 4, 27, 182, 0, 171, 167, 0, 4, 3, 96, 62, 132, 4, 1, 167, 255, 214, 29, 28, 108, 172]
abbrev dktX3_scoreOf_2 : List UInt8 := dkwX3_scoreOf_2 ++ []
def dkwX3_scoreOf_1 : List UInt8 := [180, 0, 113, 162, 0, 39, 29, 42, 180, 0, 83, 16, 24, 21, 4, 104, 27, 96, 46, 2, 159, 0, 13, 42]
abbrev dktX3_scoreOf_1 : List UInt8 := dkwX3_scoreOf_1 ++ dktX3_scoreOf_2
def dkwX3_scoreOf_0 : List UInt8 := [42, 27, 182, 0, 174, 61, 28, 5, 162, 0, 6, 18, 170, 172, 3, 62, 3, 54, 4, 21, 4, 42]
abbrev dktX3_scoreOf_0 : List UInt8 := dkwX3_scoreOf_0 ++ dktX3_scoreOf_1
theorem dksX3_scoreOf_0 : cX3_scoreOf.data.toList.drop 0 = dktX3_scoreOf_0 := by decide +kernel
theorem dksX3_scoreOf_1 : cX3_scoreOf.data.toList.drop 22 = dktX3_scoreOf_1 := dk_seg dksX3_scoreOf_0 22 rfl rfl
theorem dksX3_scoreOf_2 : cX3_scoreOf.data.toList.drop 46 = dktX3_scoreOf_2 := dk_seg dksX3_scoreOf_1 24 rfl rfl
theorem dX3_scoreOf_0 : decode cX3_scoreOf 0 = .ok (.aload_n 0, 1) := dk_42 (dk_at dksX3_scoreOf_0 0 rfl rfl)
theorem dX3_scoreOf_1 : decode cX3_scoreOf 1 = .ok (.iload_n 1, 1) := dk_27 (dk_at dksX3_scoreOf_0 1 rfl rfl)
theorem dX3_scoreOf_2 : decode cX3_scoreOf 2 = .ok (.invokevirtual 174, 3) := dk_182 0 174 (dk_at dksX3_scoreOf_0 2 rfl rfl)
theorem dX3_scoreOf_5 : decode cX3_scoreOf 5 = .ok (.istore_n 2, 1) := dk_61 (dk_at dksX3_scoreOf_0 5 rfl rfl)
theorem dX3_scoreOf_6 : decode cX3_scoreOf 6 = .ok (.iload_n 2, 1) := dk_28 (dk_at dksX3_scoreOf_0 6 rfl rfl)
theorem dX3_scoreOf_7 : decode cX3_scoreOf 7 = .ok (.iconst 2, 1) := dk_5 (dk_at dksX3_scoreOf_0 7 rfl rfl)
theorem dX3_scoreOf_8 : decode cX3_scoreOf 8 = .ok (.if_icmp .ge 6, 3) := dk_162 0 6 (dk_at dksX3_scoreOf_0 8 rfl rfl)
theorem dX3_scoreOf_11 : decode cX3_scoreOf 11 = .ok (.ldc 170, 2) := dk_18 170 (dk_at dksX3_scoreOf_0 11 rfl rfl)
theorem dX3_scoreOf_13 : decode cX3_scoreOf 13 = .ok (.ireturn, 1) := dk_172 (dk_at dksX3_scoreOf_0 13 rfl rfl)
theorem dX3_scoreOf_14 : decode cX3_scoreOf 14 = .ok (.iconst 0, 1) := dk_3 (dk_at dksX3_scoreOf_0 14 rfl rfl)
theorem dX3_scoreOf_15 : decode cX3_scoreOf 15 = .ok (.istore_n 3, 1) := dk_62 (dk_at dksX3_scoreOf_0 15 rfl rfl)
theorem dX3_scoreOf_16 : decode cX3_scoreOf 16 = .ok (.iconst 0, 1) := dk_3 (dk_at dksX3_scoreOf_0 16 rfl rfl)
theorem dX3_scoreOf_17 : decode cX3_scoreOf 17 = .ok (.istore 4, 2) := dk_54 4 (dk_at dksX3_scoreOf_0 17 rfl rfl)
theorem dX3_scoreOf_19 : decode cX3_scoreOf 19 = .ok (.iload 4, 2) := dk_21 4 (dk_at dksX3_scoreOf_0 19 rfl rfl)
theorem dX3_scoreOf_21 : decode cX3_scoreOf 21 = .ok (.aload_n 0, 1) := dk_42 (dk_at dksX3_scoreOf_0 21 rfl rfl)
theorem dX3_scoreOf_22 : decode cX3_scoreOf 22 = .ok (.getfield 113, 3) := dk_180 0 113 (dk_at dksX3_scoreOf_1 0 rfl rfl)
theorem dX3_scoreOf_25 : decode cX3_scoreOf 25 = .ok (.if_icmp .ge 39, 3) := dk_162 0 39 (dk_at dksX3_scoreOf_1 3 rfl rfl)
theorem dX3_scoreOf_28 : decode cX3_scoreOf 28 = .ok (.iload_n 3, 1) := dk_29 (dk_at dksX3_scoreOf_1 6 rfl rfl)
theorem dX3_scoreOf_29 : decode cX3_scoreOf 29 = .ok (.aload_n 0, 1) := dk_42 (dk_at dksX3_scoreOf_1 7 rfl rfl)
theorem dX3_scoreOf_30 : decode cX3_scoreOf 30 = .ok (.getfield 83, 3) := dk_180 0 83 (dk_at dksX3_scoreOf_1 8 rfl rfl)
theorem dX3_scoreOf_33 : decode cX3_scoreOf 33 = .ok (.bipush 24, 2) := dk_16 24 (dk_at dksX3_scoreOf_1 11 rfl rfl)
theorem dX3_scoreOf_35 : decode cX3_scoreOf 35 = .ok (.iload 4, 2) := dk_21 4 (dk_at dksX3_scoreOf_1 13 rfl rfl)
theorem dX3_scoreOf_37 : decode cX3_scoreOf 37 = .ok (.imul, 1) := dk_104 (dk_at dksX3_scoreOf_1 15 rfl rfl)
theorem dX3_scoreOf_38 : decode cX3_scoreOf 38 = .ok (.iload_n 1, 1) := dk_27 (dk_at dksX3_scoreOf_1 16 rfl rfl)
theorem dX3_scoreOf_39 : decode cX3_scoreOf 39 = .ok (.iadd, 1) := dk_96 (dk_at dksX3_scoreOf_1 17 rfl rfl)
theorem dX3_scoreOf_40 : decode cX3_scoreOf 40 = .ok (.iaload, 1) := dk_46 (dk_at dksX3_scoreOf_1 18 rfl rfl)
theorem dX3_scoreOf_41 : decode cX3_scoreOf 41 = .ok (.iconst (-1), 1) := dk_2 (dk_at dksX3_scoreOf_1 19 rfl rfl)
theorem dX3_scoreOf_42 : decode cX3_scoreOf 42 = .ok (.if_icmp .eq 13, 3) := dk_159 0 13 (dk_at dksX3_scoreOf_1 20 rfl rfl)
theorem dX3_scoreOf_45 : decode cX3_scoreOf 45 = .ok (.aload_n 0, 1) := dk_42 (dk_at dksX3_scoreOf_1 23 rfl rfl)
theorem dX3_scoreOf_46 : decode cX3_scoreOf 46 = .ok (.iload 4, 2) := dk_21 4 (dk_at dksX3_scoreOf_2 0 rfl rfl)
theorem dX3_scoreOf_48 : decode cX3_scoreOf 48 = .ok (.iload_n 1, 1) := dk_27 (dk_at dksX3_scoreOf_2 2 rfl rfl)
theorem dX3_scoreOf_49 : decode cX3_scoreOf 49 = .ok (.invokevirtual 171, 3) := dk_182 0 171 (dk_at dksX3_scoreOf_2 3 rfl rfl)
theorem dX3_scoreOf_52 : decode cX3_scoreOf 52 = .ok (.goto 4, 3) := dk_167 0 4 (dk_at dksX3_scoreOf_2 6 rfl rfl)
theorem dX3_scoreOf_55 : decode cX3_scoreOf 55 = .ok (.iconst 0, 1) := dk_3 (dk_at dksX3_scoreOf_2 9 rfl rfl)
theorem dX3_scoreOf_56 : decode cX3_scoreOf 56 = .ok (.iadd, 1) := dk_96 (dk_at dksX3_scoreOf_2 10 rfl rfl)
theorem dX3_scoreOf_57 : decode cX3_scoreOf 57 = .ok (.istore_n 3, 1) := dk_62 (dk_at dksX3_scoreOf_2 11 rfl rfl)
theorem dX3_scoreOf_58 : decode cX3_scoreOf 58 = .ok (.iinc 4 1, 3) := dk_132 4 1 (dk_at dksX3_scoreOf_2 12 rfl rfl)
theorem dX3_scoreOf_61 : decode cX3_scoreOf 61 = .ok (.goto (-42), 3) := dk_167 255 214 (dk_at dksX3_scoreOf_2 15 rfl rfl)
theorem dX3_scoreOf_64 : decode cX3_scoreOf 64 = .ok (.iload_n 3, 1) := dk_29 (dk_at dksX3_scoreOf_2 18 rfl rfl)
theorem dX3_scoreOf_65 : decode cX3_scoreOf 65 = .ok (.iload_n 2, 1) := dk_28 (dk_at dksX3_scoreOf_2 19 rfl rfl)
theorem dX3_scoreOf_66 : decode cX3_scoreOf 66 = .ok (.idiv, 1) := dk_108 (dk_at dksX3_scoreOf_2 20 rfl rfl)
theorem dX3_scoreOf_67 : decode cX3_scoreOf 67 = .ok (.ireturn, 1) := dk_172 (dk_at dksX3_scoreOf_2 21 rfl rfl)
abbrev cX3_reviews : ByteArray := prog_19_method_27_code
def yX3_reviews : MethodName := ⟨RX3, "reviews", "(I)I"⟩
def dkwX3_reviews_1 : List UInt8 := [2, 159, 0, 7, 4, 167, 0, 4, 3, 96, 61, 132, 3, 1, 167, 255, 222, 28, 172]
abbrev dktX3_reviews_1 : List UInt8 := dkwX3_reviews_1 ++ []
def dkwX3_reviews_0 : List UInt8 := [3, 61, 3, 62, 29, 42, 180, 0, 113, 162, 0, 32, 28, 42, 180, 0, 83, 16, 24, 29, 104, 27, 96, 46]
abbrev dktX3_reviews_0 : List UInt8 := dkwX3_reviews_0 ++ dktX3_reviews_1
theorem dksX3_reviews_0 : cX3_reviews.data.toList.drop 0 = dktX3_reviews_0 := by decide +kernel
theorem dksX3_reviews_1 : cX3_reviews.data.toList.drop 24 = dktX3_reviews_1 := dk_seg dksX3_reviews_0 24 rfl rfl
theorem dX3_reviews_0 : decode cX3_reviews 0 = .ok (.iconst 0, 1) := dk_3 (dk_at dksX3_reviews_0 0 rfl rfl)
theorem dX3_reviews_1 : decode cX3_reviews 1 = .ok (.istore_n 2, 1) := dk_61 (dk_at dksX3_reviews_0 1 rfl rfl)
theorem dX3_reviews_2 : decode cX3_reviews 2 = .ok (.iconst 0, 1) := dk_3 (dk_at dksX3_reviews_0 2 rfl rfl)
theorem dX3_reviews_3 : decode cX3_reviews 3 = .ok (.istore_n 3, 1) := dk_62 (dk_at dksX3_reviews_0 3 rfl rfl)
theorem dX3_reviews_4 : decode cX3_reviews 4 = .ok (.iload_n 3, 1) := dk_29 (dk_at dksX3_reviews_0 4 rfl rfl)
theorem dX3_reviews_5 : decode cX3_reviews 5 = .ok (.aload_n 0, 1) := dk_42 (dk_at dksX3_reviews_0 5 rfl rfl)
theorem dX3_reviews_6 : decode cX3_reviews 6 = .ok (.getfield 113, 3) := dk_180 0 113 (dk_at dksX3_reviews_0 6 rfl rfl)
theorem dX3_reviews_9 : decode cX3_reviews 9 = .ok (.if_icmp .ge 32, 3) := dk_162 0 32 (dk_at dksX3_reviews_0 9 rfl rfl)
theorem dX3_reviews_12 : decode cX3_reviews 12 = .ok (.iload_n 2, 1) := dk_28 (dk_at dksX3_reviews_0 12 rfl rfl)
theorem dX3_reviews_13 : decode cX3_reviews 13 = .ok (.aload_n 0, 1) := dk_42 (dk_at dksX3_reviews_0 13 rfl rfl)
theorem dX3_reviews_14 : decode cX3_reviews 14 = .ok (.getfield 83, 3) := dk_180 0 83 (dk_at dksX3_reviews_0 14 rfl rfl)
theorem dX3_reviews_17 : decode cX3_reviews 17 = .ok (.bipush 24, 2) := dk_16 24 (dk_at dksX3_reviews_0 17 rfl rfl)
theorem dX3_reviews_19 : decode cX3_reviews 19 = .ok (.iload_n 3, 1) := dk_29 (dk_at dksX3_reviews_0 19 rfl rfl)
theorem dX3_reviews_20 : decode cX3_reviews 20 = .ok (.imul, 1) := dk_104 (dk_at dksX3_reviews_0 20 rfl rfl)
theorem dX3_reviews_21 : decode cX3_reviews 21 = .ok (.iload_n 1, 1) := dk_27 (dk_at dksX3_reviews_0 21 rfl rfl)
theorem dX3_reviews_22 : decode cX3_reviews 22 = .ok (.iadd, 1) := dk_96 (dk_at dksX3_reviews_0 22 rfl rfl)
theorem dX3_reviews_23 : decode cX3_reviews 23 = .ok (.iaload, 1) := dk_46 (dk_at dksX3_reviews_0 23 rfl rfl)
theorem dX3_reviews_24 : decode cX3_reviews 24 = .ok (.iconst (-1), 1) := dk_2 (dk_at dksX3_reviews_1 0 rfl rfl)
theorem dX3_reviews_25 : decode cX3_reviews 25 = .ok (.if_icmp .eq 7, 3) := dk_159 0 7 (dk_at dksX3_reviews_1 1 rfl rfl)
theorem dX3_reviews_28 : decode cX3_reviews 28 = .ok (.iconst 1, 1) := dk_4 (dk_at dksX3_reviews_1 4 rfl rfl)
theorem dX3_reviews_29 : decode cX3_reviews 29 = .ok (.goto 4, 3) := dk_167 0 4 (dk_at dksX3_reviews_1 5 rfl rfl)
theorem dX3_reviews_32 : decode cX3_reviews 32 = .ok (.iconst 0, 1) := dk_3 (dk_at dksX3_reviews_1 8 rfl rfl)
theorem dX3_reviews_33 : decode cX3_reviews 33 = .ok (.iadd, 1) := dk_96 (dk_at dksX3_reviews_1 9 rfl rfl)
theorem dX3_reviews_34 : decode cX3_reviews 34 = .ok (.istore_n 2, 1) := dk_61 (dk_at dksX3_reviews_1 10 rfl rfl)
theorem dX3_reviews_35 : decode cX3_reviews 35 = .ok (.iinc 3 1, 3) := dk_132 3 1 (dk_at dksX3_reviews_1 11 rfl rfl)
theorem dX3_reviews_38 : decode cX3_reviews 38 = .ok (.goto (-34), 3) := dk_167 255 222 (dk_at dksX3_reviews_1 14 rfl rfl)
theorem dX3_reviews_41 : decode cX3_reviews 41 = .ok (.iload_n 2, 1) := dk_28 (dk_at dksX3_reviews_1 17 rfl rfl)
theorem dX3_reviews_42 : decode cX3_reviews 42 = .ok (.ireturn, 1) := dk_172 (dk_at dksX3_reviews_1 18 rfl rfl)
abbrev cX3_puts : ByteArray := prog_19_method_31_code
def yX3_puts : MethodName := ⟨RX3, "puts", "(II)V"⟩
def dkwX3_puts_3 : List UInt8 := [28, 79, 42, 180, 0, 38, 27, 92, 46, 4, 96, 79, 177]
abbrev dktX3_puts_3 : List UInt8 := dkwX3_puts_3 ++ []
def dkwX3_puts_2 : List UInt8 := [27, 104, 29, 96, 4, 100, 46, 79, 132, 3, 255, 167, 255, 204, 42, 180, 0, 41, 16, 24, 27, 104, 29, 96]
abbrev dktX3_puts_2 : List UInt8 := dkwX3_puts_2 ++ dktX3_puts_3
def dkwX3_puts_1 : List UInt8 := [100, 46, 182, 0, 184, 153, 0, 33, 42, 180, 0, 41, 16, 24, 27, 104, 29, 96, 42, 180, 0, 41, 16, 24]
abbrev dktX3_puts_1 : List UInt8 := dkwX3_puts_1 ++ dktX3_puts_2
def dkwX3_puts_0 : List UInt8 := [42, 180, 0, 38, 27, 46, 62, 29, 158, 0, 54, 42, 28, 42, 180, 0, 41, 16, 24, 27, 104, 29, 96, 4]
abbrev dktX3_puts_0 : List UInt8 := dkwX3_puts_0 ++ dktX3_puts_1
theorem dksX3_puts_0 : cX3_puts.data.toList.drop 0 = dktX3_puts_0 := by decide +kernel
theorem dksX3_puts_1 : cX3_puts.data.toList.drop 24 = dktX3_puts_1 := dk_seg dksX3_puts_0 24 rfl rfl
theorem dksX3_puts_2 : cX3_puts.data.toList.drop 48 = dktX3_puts_2 := dk_seg dksX3_puts_1 24 rfl rfl
theorem dksX3_puts_3 : cX3_puts.data.toList.drop 72 = dktX3_puts_3 := dk_seg dksX3_puts_2 24 rfl rfl
theorem dX3_puts_0 : decode cX3_puts 0 = .ok (.aload_n 0, 1) := dk_42 (dk_at dksX3_puts_0 0 rfl rfl)
theorem dX3_puts_1 : decode cX3_puts 1 = .ok (.getfield 38, 3) := dk_180 0 38 (dk_at dksX3_puts_0 1 rfl rfl)
theorem dX3_puts_4 : decode cX3_puts 4 = .ok (.iload_n 1, 1) := dk_27 (dk_at dksX3_puts_0 4 rfl rfl)
theorem dX3_puts_5 : decode cX3_puts 5 = .ok (.iaload, 1) := dk_46 (dk_at dksX3_puts_0 5 rfl rfl)
theorem dX3_puts_6 : decode cX3_puts 6 = .ok (.istore_n 3, 1) := dk_62 (dk_at dksX3_puts_0 6 rfl rfl)
theorem dX3_puts_7 : decode cX3_puts 7 = .ok (.iload_n 3, 1) := dk_29 (dk_at dksX3_puts_0 7 rfl rfl)
theorem dX3_puts_8 : decode cX3_puts 8 = .ok (.ifCond .le 54, 3) := dk_158 0 54 (dk_at dksX3_puts_0 8 rfl rfl)
theorem dX3_puts_11 : decode cX3_puts 11 = .ok (.aload_n 0, 1) := dk_42 (dk_at dksX3_puts_0 11 rfl rfl)
theorem dX3_puts_12 : decode cX3_puts 12 = .ok (.iload_n 2, 1) := dk_28 (dk_at dksX3_puts_0 12 rfl rfl)
theorem dX3_puts_13 : decode cX3_puts 13 = .ok (.aload_n 0, 1) := dk_42 (dk_at dksX3_puts_0 13 rfl rfl)
theorem dX3_puts_14 : decode cX3_puts 14 = .ok (.getfield 41, 3) := dk_180 0 41 (dk_at dksX3_puts_0 14 rfl rfl)
theorem dX3_puts_17 : decode cX3_puts 17 = .ok (.bipush 24, 2) := dk_16 24 (dk_at dksX3_puts_0 17 rfl rfl)
theorem dX3_puts_19 : decode cX3_puts 19 = .ok (.iload_n 1, 1) := dk_27 (dk_at dksX3_puts_0 19 rfl rfl)
theorem dX3_puts_20 : decode cX3_puts 20 = .ok (.imul, 1) := dk_104 (dk_at dksX3_puts_0 20 rfl rfl)
theorem dX3_puts_21 : decode cX3_puts 21 = .ok (.iload_n 3, 1) := dk_29 (dk_at dksX3_puts_0 21 rfl rfl)
theorem dX3_puts_22 : decode cX3_puts 22 = .ok (.iadd, 1) := dk_96 (dk_at dksX3_puts_0 22 rfl rfl)
theorem dX3_puts_23 : decode cX3_puts 23 = .ok (.iconst 1, 1) := dk_4 (dk_at dksX3_puts_0 23 rfl rfl)
theorem dX3_puts_24 : decode cX3_puts 24 = .ok (.isub, 1) := dk_100 (dk_at dksX3_puts_1 0 rfl rfl)
theorem dX3_puts_25 : decode cX3_puts 25 = .ok (.iaload, 1) := dk_46 (dk_at dksX3_puts_1 1 rfl rfl)
theorem dX3_puts_26 : decode cX3_puts 26 = .ok (.invokevirtual 184, 3) := dk_182 0 184 (dk_at dksX3_puts_1 2 rfl rfl)
theorem dX3_puts_29 : decode cX3_puts 29 = .ok (.ifCond .eq 33, 3) := dk_153 0 33 (dk_at dksX3_puts_1 5 rfl rfl)
theorem dX3_puts_32 : decode cX3_puts 32 = .ok (.aload_n 0, 1) := dk_42 (dk_at dksX3_puts_1 8 rfl rfl)
theorem dX3_puts_33 : decode cX3_puts 33 = .ok (.getfield 41, 3) := dk_180 0 41 (dk_at dksX3_puts_1 9 rfl rfl)
theorem dX3_puts_36 : decode cX3_puts 36 = .ok (.bipush 24, 2) := dk_16 24 (dk_at dksX3_puts_1 12 rfl rfl)
theorem dX3_puts_38 : decode cX3_puts 38 = .ok (.iload_n 1, 1) := dk_27 (dk_at dksX3_puts_1 14 rfl rfl)
theorem dX3_puts_39 : decode cX3_puts 39 = .ok (.imul, 1) := dk_104 (dk_at dksX3_puts_1 15 rfl rfl)
theorem dX3_puts_40 : decode cX3_puts 40 = .ok (.iload_n 3, 1) := dk_29 (dk_at dksX3_puts_1 16 rfl rfl)
theorem dX3_puts_41 : decode cX3_puts 41 = .ok (.iadd, 1) := dk_96 (dk_at dksX3_puts_1 17 rfl rfl)
theorem dX3_puts_42 : decode cX3_puts 42 = .ok (.aload_n 0, 1) := dk_42 (dk_at dksX3_puts_1 18 rfl rfl)
theorem dX3_puts_43 : decode cX3_puts 43 = .ok (.getfield 41, 3) := dk_180 0 41 (dk_at dksX3_puts_1 19 rfl rfl)
theorem dX3_puts_46 : decode cX3_puts 46 = .ok (.bipush 24, 2) := dk_16 24 (dk_at dksX3_puts_1 22 rfl rfl)
theorem dX3_puts_48 : decode cX3_puts 48 = .ok (.iload_n 1, 1) := dk_27 (dk_at dksX3_puts_2 0 rfl rfl)
theorem dX3_puts_49 : decode cX3_puts 49 = .ok (.imul, 1) := dk_104 (dk_at dksX3_puts_2 1 rfl rfl)
theorem dX3_puts_50 : decode cX3_puts 50 = .ok (.iload_n 3, 1) := dk_29 (dk_at dksX3_puts_2 2 rfl rfl)
theorem dX3_puts_51 : decode cX3_puts 51 = .ok (.iadd, 1) := dk_96 (dk_at dksX3_puts_2 3 rfl rfl)
theorem dX3_puts_52 : decode cX3_puts 52 = .ok (.iconst 1, 1) := dk_4 (dk_at dksX3_puts_2 4 rfl rfl)
theorem dX3_puts_53 : decode cX3_puts 53 = .ok (.isub, 1) := dk_100 (dk_at dksX3_puts_2 5 rfl rfl)
theorem dX3_puts_54 : decode cX3_puts 54 = .ok (.iaload, 1) := dk_46 (dk_at dksX3_puts_2 6 rfl rfl)
theorem dX3_puts_55 : decode cX3_puts 55 = .ok (.iastore, 1) := dk_79 (dk_at dksX3_puts_2 7 rfl rfl)
theorem dX3_puts_56 : decode cX3_puts 56 = .ok (.iinc 3 (-1), 3) := dk_132 3 255 (dk_at dksX3_puts_2 8 rfl rfl)
theorem dX3_puts_59 : decode cX3_puts 59 = .ok (.goto (-52), 3) := dk_167 255 204 (dk_at dksX3_puts_2 11 rfl rfl)
theorem dX3_puts_62 : decode cX3_puts 62 = .ok (.aload_n 0, 1) := dk_42 (dk_at dksX3_puts_2 14 rfl rfl)
theorem dX3_puts_63 : decode cX3_puts 63 = .ok (.getfield 41, 3) := dk_180 0 41 (dk_at dksX3_puts_2 15 rfl rfl)
theorem dX3_puts_66 : decode cX3_puts 66 = .ok (.bipush 24, 2) := dk_16 24 (dk_at dksX3_puts_2 18 rfl rfl)
theorem dX3_puts_68 : decode cX3_puts 68 = .ok (.iload_n 1, 1) := dk_27 (dk_at dksX3_puts_2 20 rfl rfl)
theorem dX3_puts_69 : decode cX3_puts 69 = .ok (.imul, 1) := dk_104 (dk_at dksX3_puts_2 21 rfl rfl)
theorem dX3_puts_70 : decode cX3_puts 70 = .ok (.iload_n 3, 1) := dk_29 (dk_at dksX3_puts_2 22 rfl rfl)
theorem dX3_puts_71 : decode cX3_puts 71 = .ok (.iadd, 1) := dk_96 (dk_at dksX3_puts_2 23 rfl rfl)
theorem dX3_puts_72 : decode cX3_puts 72 = .ok (.iload_n 2, 1) := dk_28 (dk_at dksX3_puts_3 0 rfl rfl)
theorem dX3_puts_73 : decode cX3_puts 73 = .ok (.iastore, 1) := dk_79 (dk_at dksX3_puts_3 1 rfl rfl)
theorem dX3_puts_74 : decode cX3_puts 74 = .ok (.aload_n 0, 1) := dk_42 (dk_at dksX3_puts_3 2 rfl rfl)
theorem dX3_puts_75 : decode cX3_puts 75 = .ok (.getfield 38, 3) := dk_180 0 38 (dk_at dksX3_puts_3 3 rfl rfl)
theorem dX3_puts_78 : decode cX3_puts 78 = .ok (.iload_n 1, 1) := dk_27 (dk_at dksX3_puts_3 6 rfl rfl)
theorem dX3_puts_79 : decode cX3_puts 79 = .ok (.dup2, 1) := dk_92 (dk_at dksX3_puts_3 7 rfl rfl)
theorem dX3_puts_80 : decode cX3_puts 80 = .ok (.iaload, 1) := dk_46 (dk_at dksX3_puts_3 8 rfl rfl)
theorem dX3_puts_81 : decode cX3_puts 81 = .ok (.iconst 1, 1) := dk_4 (dk_at dksX3_puts_3 9 rfl rfl)
theorem dX3_puts_82 : decode cX3_puts 82 = .ok (.iadd, 1) := dk_96 (dk_at dksX3_puts_3 10 rfl rfl)
theorem dX3_puts_83 : decode cX3_puts 83 = .ok (.iastore, 1) := dk_79 (dk_at dksX3_puts_3 11 rfl rfl)
theorem dX3_puts_84 : decode cX3_puts 84 = .ok (.return_, 1) := dk_177 (dk_at dksX3_puts_3 12 rfl rfl)
abbrev cX3_isAhead : ByteArray := prog_19_method_29_code
def yX3_isAhead : MethodName := ⟨RX3, "isAhead", "(II)Z"⟩
def dkwX3_isAhead_2 : List UInt8 := [42, 180, 0, 59, 28, 46, 160, 0, 12, 27, 28, 162, 0, 7, 4, 167, 0, 4, 3, 172]
abbrev dktX3_isAhead_2 : List UInt8 := dkwX3_isAhead_2 ++ []
def dkwX3_isAhead_1 : List UInt8 := [160, 0, 42, 42, 180, 0, 59, 27, 46, 42, 180, 0, 59, 28, 46, 161, 0, 23, 42, 180, 0, 59, 27, 46]
abbrev dktX3_isAhead_1 : List UInt8 := dkwX3_isAhead_1 ++ dktX3_isAhead_2
def dkwX3_isAhead_0 : List UInt8 := [42, 27, 182, 0, 177, 62, 42, 28, 182, 0, 177, 54, 4, 29, 21, 4, 163, 0, 44, 29, 21, 4]
abbrev dktX3_isAhead_0 : List UInt8 := dkwX3_isAhead_0 ++ dktX3_isAhead_1
theorem dksX3_isAhead_0 : cX3_isAhead.data.toList.drop 0 = dktX3_isAhead_0 := by decide +kernel
theorem dksX3_isAhead_1 : cX3_isAhead.data.toList.drop 22 = dktX3_isAhead_1 := dk_seg dksX3_isAhead_0 22 rfl rfl
theorem dksX3_isAhead_2 : cX3_isAhead.data.toList.drop 46 = dktX3_isAhead_2 := dk_seg dksX3_isAhead_1 24 rfl rfl
theorem dX3_isAhead_0 : decode cX3_isAhead 0 = .ok (.aload_n 0, 1) := dk_42 (dk_at dksX3_isAhead_0 0 rfl rfl)
theorem dX3_isAhead_1 : decode cX3_isAhead 1 = .ok (.iload_n 1, 1) := dk_27 (dk_at dksX3_isAhead_0 1 rfl rfl)
theorem dX3_isAhead_2 : decode cX3_isAhead 2 = .ok (.invokevirtual 177, 3) := dk_182 0 177 (dk_at dksX3_isAhead_0 2 rfl rfl)
theorem dX3_isAhead_5 : decode cX3_isAhead 5 = .ok (.istore_n 3, 1) := dk_62 (dk_at dksX3_isAhead_0 5 rfl rfl)
theorem dX3_isAhead_6 : decode cX3_isAhead 6 = .ok (.aload_n 0, 1) := dk_42 (dk_at dksX3_isAhead_0 6 rfl rfl)
theorem dX3_isAhead_7 : decode cX3_isAhead 7 = .ok (.iload_n 2, 1) := dk_28 (dk_at dksX3_isAhead_0 7 rfl rfl)
theorem dX3_isAhead_8 : decode cX3_isAhead 8 = .ok (.invokevirtual 177, 3) := dk_182 0 177 (dk_at dksX3_isAhead_0 8 rfl rfl)
theorem dX3_isAhead_11 : decode cX3_isAhead 11 = .ok (.istore 4, 2) := dk_54 4 (dk_at dksX3_isAhead_0 11 rfl rfl)
theorem dX3_isAhead_13 : decode cX3_isAhead 13 = .ok (.iload_n 3, 1) := dk_29 (dk_at dksX3_isAhead_0 13 rfl rfl)
theorem dX3_isAhead_14 : decode cX3_isAhead 14 = .ok (.iload 4, 2) := dk_21 4 (dk_at dksX3_isAhead_0 14 rfl rfl)
theorem dX3_isAhead_16 : decode cX3_isAhead 16 = .ok (.if_icmp .gt 44, 3) := dk_163 0 44 (dk_at dksX3_isAhead_0 16 rfl rfl)
theorem dX3_isAhead_19 : decode cX3_isAhead 19 = .ok (.iload_n 3, 1) := dk_29 (dk_at dksX3_isAhead_0 19 rfl rfl)
theorem dX3_isAhead_20 : decode cX3_isAhead 20 = .ok (.iload 4, 2) := dk_21 4 (dk_at dksX3_isAhead_0 20 rfl rfl)
theorem dX3_isAhead_22 : decode cX3_isAhead 22 = .ok (.if_icmp .ne 42, 3) := dk_160 0 42 (dk_at dksX3_isAhead_1 0 rfl rfl)
theorem dX3_isAhead_25 : decode cX3_isAhead 25 = .ok (.aload_n 0, 1) := dk_42 (dk_at dksX3_isAhead_1 3 rfl rfl)
theorem dX3_isAhead_26 : decode cX3_isAhead 26 = .ok (.getfield 59, 3) := dk_180 0 59 (dk_at dksX3_isAhead_1 4 rfl rfl)
theorem dX3_isAhead_29 : decode cX3_isAhead 29 = .ok (.iload_n 1, 1) := dk_27 (dk_at dksX3_isAhead_1 7 rfl rfl)
theorem dX3_isAhead_30 : decode cX3_isAhead 30 = .ok (.iaload, 1) := dk_46 (dk_at dksX3_isAhead_1 8 rfl rfl)
theorem dX3_isAhead_31 : decode cX3_isAhead 31 = .ok (.aload_n 0, 1) := dk_42 (dk_at dksX3_isAhead_1 9 rfl rfl)
theorem dX3_isAhead_32 : decode cX3_isAhead 32 = .ok (.getfield 59, 3) := dk_180 0 59 (dk_at dksX3_isAhead_1 10 rfl rfl)
theorem dX3_isAhead_35 : decode cX3_isAhead 35 = .ok (.iload_n 2, 1) := dk_28 (dk_at dksX3_isAhead_1 13 rfl rfl)
theorem dX3_isAhead_36 : decode cX3_isAhead 36 = .ok (.iaload, 1) := dk_46 (dk_at dksX3_isAhead_1 14 rfl rfl)
theorem dX3_isAhead_37 : decode cX3_isAhead 37 = .ok (.if_icmp .lt 23, 3) := dk_161 0 23 (dk_at dksX3_isAhead_1 15 rfl rfl)
theorem dX3_isAhead_40 : decode cX3_isAhead 40 = .ok (.aload_n 0, 1) := dk_42 (dk_at dksX3_isAhead_1 18 rfl rfl)
theorem dX3_isAhead_41 : decode cX3_isAhead 41 = .ok (.getfield 59, 3) := dk_180 0 59 (dk_at dksX3_isAhead_1 19 rfl rfl)
theorem dX3_isAhead_44 : decode cX3_isAhead 44 = .ok (.iload_n 1, 1) := dk_27 (dk_at dksX3_isAhead_1 22 rfl rfl)
theorem dX3_isAhead_45 : decode cX3_isAhead 45 = .ok (.iaload, 1) := dk_46 (dk_at dksX3_isAhead_1 23 rfl rfl)
theorem dX3_isAhead_46 : decode cX3_isAhead 46 = .ok (.aload_n 0, 1) := dk_42 (dk_at dksX3_isAhead_2 0 rfl rfl)
theorem dX3_isAhead_47 : decode cX3_isAhead 47 = .ok (.getfield 59, 3) := dk_180 0 59 (dk_at dksX3_isAhead_2 1 rfl rfl)
theorem dX3_isAhead_50 : decode cX3_isAhead 50 = .ok (.iload_n 2, 1) := dk_28 (dk_at dksX3_isAhead_2 4 rfl rfl)
theorem dX3_isAhead_51 : decode cX3_isAhead 51 = .ok (.iaload, 1) := dk_46 (dk_at dksX3_isAhead_2 5 rfl rfl)
theorem dX3_isAhead_52 : decode cX3_isAhead 52 = .ok (.if_icmp .ne 12, 3) := dk_160 0 12 (dk_at dksX3_isAhead_2 6 rfl rfl)
theorem dX3_isAhead_55 : decode cX3_isAhead 55 = .ok (.iload_n 1, 1) := dk_27 (dk_at dksX3_isAhead_2 9 rfl rfl)
theorem dX3_isAhead_56 : decode cX3_isAhead 56 = .ok (.iload_n 2, 1) := dk_28 (dk_at dksX3_isAhead_2 10 rfl rfl)
theorem dX3_isAhead_57 : decode cX3_isAhead 57 = .ok (.if_icmp .ge 7, 3) := dk_162 0 7 (dk_at dksX3_isAhead_2 11 rfl rfl)
theorem dX3_isAhead_60 : decode cX3_isAhead 60 = .ok (.iconst 1, 1) := dk_4 (dk_at dksX3_isAhead_2 14 rfl rfl)
theorem dX3_isAhead_61 : decode cX3_isAhead 61 = .ok (.goto 4, 3) := dk_167 0 4 (dk_at dksX3_isAhead_2 15 rfl rfl)
theorem dX3_isAhead_64 : decode cX3_isAhead 64 = .ok (.iconst 0, 1) := dk_3 (dk_at dksX3_isAhead_2 18 rfl rfl)
theorem dX3_isAhead_65 : decode cX3_isAhead 65 = .ok (.ireturn, 1) := dk_172 (dk_at dksX3_isAhead_2 19 rfl rfl)
abbrev cX3_report : ByteArray := prog_19_method_32_code
def yX3_report : MethodName := ⟨RX3, "report", "(II)I"⟩
def dkwX3_report_8 : List UInt8 := [180, 0, 22, 42, 180, 0, 44, 27, 46, 46, 182, 0, 143, 21, 4, 28, 100, 172]
abbrev dktX3_report_8 : List UInt8 := dkwX3_report_8 ++ []
def dkwX3_report_7 : List UInt8 := [42, 180, 0, 65, 27, 46, 6, 160, 0, 7, 6, 167, 0, 4, 5, 79, 21, 4, 28, 164, 0, 18, 42, 42]
abbrev dktX3_report_7 : List UInt8 := dkwX3_report_7 ++ dktX3_report_8
def dkwX3_report_6 : List UInt8 := [21, 5, 21, 4, 28, 100, 182, 0, 127, 42, 180, 0, 65, 27, 92, 46, 4, 96, 79, 42, 180, 0, 62, 27]
abbrev dktX3_report_6 : List UInt8 := dkwX3_report_6 ++ dktX3_report_7
def dkwX3_report_5 : List UInt8 := [46, 28, 96, 79, 42, 180, 0, 68, 27, 92, 46, 28, 96, 79, 42, 5, 21, 5, 28, 182, 0, 127, 42, 6]
abbrev dktX3_report_5 : List UInt8 := dkwX3_report_5 ++ dktX3_report_6
def dkwX3_report_4 : List UInt8 := [182, 0, 119, 54, 5, 42, 180, 0, 16, 21, 5, 92, 46, 21, 4, 100, 79, 42, 180, 0, 19, 21, 5, 92]
abbrev dktX3_report_4 : List UInt8 := dkwX3_report_4 ++ dktX3_report_5
def dkwX3_report_3 : List UInt8 := [184, 0, 102, 154, 0, 7, 4, 167, 0, 4, 3, 6, 182, 0, 106, 153, 0, 5, 3, 172, 42, 27, 29]
abbrev dktX3_report_3 : List UInt8 := dkwX3_report_3 ++ dktX3_report_4
def dkwX3_report_2 : List UInt8 := [42, 180, 0, 65, 27, 46, 62, 42, 180, 0, 53, 6, 27, 104, 29, 96, 46, 54, 4, 42, 28, 3, 21, 4]
abbrev dktX3_report_2 : List UInt8 := dkwX3_report_2 ++ dktX3_report_3
def dkwX3_report_1 : List UInt8 := [42, 180, 0, 116, 17, 1, 44, 164, 0, 7, 4, 167, 0, 4, 3, 5, 182, 0, 106, 153, 0, 5, 3, 172]
abbrev dktX3_report_1 : List UInt8 := dkwX3_report_1 ++ dktX3_report_2
def dkwX3_report_0 : List UInt8 := [42, 3, 181, 0, 95, 42, 27, 182, 0, 164, 154, 0, 36, 42, 42, 180, 0, 62, 27, 46, 5, 160, 0, 13]
abbrev dktX3_report_0 : List UInt8 := dkwX3_report_0 ++ dktX3_report_1
theorem dksX3_report_0 : cX3_report.data.toList.drop 0 = dktX3_report_0 := by decide +kernel
theorem dksX3_report_1 : cX3_report.data.toList.drop 24 = dktX3_report_1 := dk_seg dksX3_report_0 24 rfl rfl
theorem dksX3_report_2 : cX3_report.data.toList.drop 48 = dktX3_report_2 := dk_seg dksX3_report_1 24 rfl rfl
theorem dksX3_report_3 : cX3_report.data.toList.drop 72 = dktX3_report_3 := dk_seg dksX3_report_2 24 rfl rfl
theorem dksX3_report_4 : cX3_report.data.toList.drop 95 = dktX3_report_4 := dk_seg dksX3_report_3 23 rfl rfl
theorem dksX3_report_5 : cX3_report.data.toList.drop 119 = dktX3_report_5 := dk_seg dksX3_report_4 24 rfl rfl
theorem dksX3_report_6 : cX3_report.data.toList.drop 143 = dktX3_report_6 := dk_seg dksX3_report_5 24 rfl rfl
theorem dksX3_report_7 : cX3_report.data.toList.drop 167 = dktX3_report_7 := dk_seg dksX3_report_6 24 rfl rfl
theorem dksX3_report_8 : cX3_report.data.toList.drop 191 = dktX3_report_8 := dk_seg dksX3_report_7 24 rfl rfl
theorem dX3_report_0 : decode cX3_report 0 = .ok (.aload_n 0, 1) := dk_42 (dk_at dksX3_report_0 0 rfl rfl)
theorem dX3_report_1 : decode cX3_report 1 = .ok (.iconst 0, 1) := dk_3 (dk_at dksX3_report_0 1 rfl rfl)
theorem dX3_report_2 : decode cX3_report 2 = .ok (.putfield 95, 3) := dk_181 0 95 (dk_at dksX3_report_0 2 rfl rfl)
theorem dX3_report_5 : decode cX3_report 5 = .ok (.aload_n 0, 1) := dk_42 (dk_at dksX3_report_0 5 rfl rfl)
theorem dX3_report_6 : decode cX3_report 6 = .ok (.iload_n 1, 1) := dk_27 (dk_at dksX3_report_0 6 rfl rfl)
theorem dX3_report_7 : decode cX3_report 7 = .ok (.invokevirtual 164, 3) := dk_182 0 164 (dk_at dksX3_report_0 7 rfl rfl)
theorem dX3_report_10 : decode cX3_report 10 = .ok (.ifCond .ne 36, 3) := dk_154 0 36 (dk_at dksX3_report_0 10 rfl rfl)
theorem dX3_report_13 : decode cX3_report 13 = .ok (.aload_n 0, 1) := dk_42 (dk_at dksX3_report_0 13 rfl rfl)
theorem dX3_report_14 : decode cX3_report 14 = .ok (.aload_n 0, 1) := dk_42 (dk_at dksX3_report_0 14 rfl rfl)
theorem dX3_report_15 : decode cX3_report 15 = .ok (.getfield 62, 3) := dk_180 0 62 (dk_at dksX3_report_0 15 rfl rfl)
theorem dX3_report_18 : decode cX3_report 18 = .ok (.iload_n 1, 1) := dk_27 (dk_at dksX3_report_0 18 rfl rfl)
theorem dX3_report_19 : decode cX3_report 19 = .ok (.iaload, 1) := dk_46 (dk_at dksX3_report_0 19 rfl rfl)
theorem dX3_report_20 : decode cX3_report 20 = .ok (.iconst 2, 1) := dk_5 (dk_at dksX3_report_0 20 rfl rfl)
theorem dX3_report_21 : decode cX3_report 21 = .ok (.if_icmp .ne 13, 3) := dk_160 0 13 (dk_at dksX3_report_0 21 rfl rfl)
theorem dX3_report_24 : decode cX3_report 24 = .ok (.aload_n 0, 1) := dk_42 (dk_at dksX3_report_1 0 rfl rfl)
theorem dX3_report_25 : decode cX3_report 25 = .ok (.getfield 116, 3) := dk_180 0 116 (dk_at dksX3_report_1 1 rfl rfl)
theorem dX3_report_28 : decode cX3_report 28 = .ok (.sipush 300, 3) := dk_17 1 44 (dk_at dksX3_report_1 4 rfl rfl)
theorem dX3_report_31 : decode cX3_report 31 = .ok (.if_icmp .le 7, 3) := dk_164 0 7 (dk_at dksX3_report_1 7 rfl rfl)
theorem dX3_report_34 : decode cX3_report 34 = .ok (.iconst 1, 1) := dk_4 (dk_at dksX3_report_1 10 rfl rfl)
theorem dX3_report_35 : decode cX3_report 35 = .ok (.goto 4, 3) := dk_167 0 4 (dk_at dksX3_report_1 11 rfl rfl)
theorem dX3_report_38 : decode cX3_report 38 = .ok (.iconst 0, 1) := dk_3 (dk_at dksX3_report_1 14 rfl rfl)
theorem dX3_report_39 : decode cX3_report 39 = .ok (.iconst 2, 1) := dk_5 (dk_at dksX3_report_1 15 rfl rfl)
theorem dX3_report_40 : decode cX3_report 40 = .ok (.invokevirtual 106, 3) := dk_182 0 106 (dk_at dksX3_report_1 16 rfl rfl)
theorem dX3_report_43 : decode cX3_report 43 = .ok (.ifCond .eq 5, 3) := dk_153 0 5 (dk_at dksX3_report_1 19 rfl rfl)
theorem dX3_report_46 : decode cX3_report 46 = .ok (.iconst 0, 1) := dk_3 (dk_at dksX3_report_1 22 rfl rfl)
theorem dX3_report_47 : decode cX3_report 47 = .ok (.ireturn, 1) := dk_172 (dk_at dksX3_report_1 23 rfl rfl)
theorem dX3_report_48 : decode cX3_report 48 = .ok (.aload_n 0, 1) := dk_42 (dk_at dksX3_report_2 0 rfl rfl)
theorem dX3_report_49 : decode cX3_report 49 = .ok (.getfield 65, 3) := dk_180 0 65 (dk_at dksX3_report_2 1 rfl rfl)
theorem dX3_report_52 : decode cX3_report 52 = .ok (.iload_n 1, 1) := dk_27 (dk_at dksX3_report_2 4 rfl rfl)
theorem dX3_report_53 : decode cX3_report 53 = .ok (.iaload, 1) := dk_46 (dk_at dksX3_report_2 5 rfl rfl)
theorem dX3_report_54 : decode cX3_report 54 = .ok (.istore_n 3, 1) := dk_62 (dk_at dksX3_report_2 6 rfl rfl)
theorem dX3_report_55 : decode cX3_report 55 = .ok (.aload_n 0, 1) := dk_42 (dk_at dksX3_report_2 7 rfl rfl)
theorem dX3_report_56 : decode cX3_report 56 = .ok (.getfield 53, 3) := dk_180 0 53 (dk_at dksX3_report_2 8 rfl rfl)
theorem dX3_report_59 : decode cX3_report 59 = .ok (.iconst 3, 1) := dk_6 (dk_at dksX3_report_2 11 rfl rfl)
theorem dX3_report_60 : decode cX3_report 60 = .ok (.iload_n 1, 1) := dk_27 (dk_at dksX3_report_2 12 rfl rfl)
theorem dX3_report_61 : decode cX3_report 61 = .ok (.imul, 1) := dk_104 (dk_at dksX3_report_2 13 rfl rfl)
theorem dX3_report_62 : decode cX3_report 62 = .ok (.iload_n 3, 1) := dk_29 (dk_at dksX3_report_2 14 rfl rfl)
theorem dX3_report_63 : decode cX3_report 63 = .ok (.iadd, 1) := dk_96 (dk_at dksX3_report_2 15 rfl rfl)
theorem dX3_report_64 : decode cX3_report 64 = .ok (.iaload, 1) := dk_46 (dk_at dksX3_report_2 16 rfl rfl)
theorem dX3_report_65 : decode cX3_report 65 = .ok (.istore 4, 2) := dk_54 4 (dk_at dksX3_report_2 17 rfl rfl)
theorem dX3_report_67 : decode cX3_report 67 = .ok (.aload_n 0, 1) := dk_42 (dk_at dksX3_report_2 19 rfl rfl)
theorem dX3_report_68 : decode cX3_report 68 = .ok (.iload_n 2, 1) := dk_28 (dk_at dksX3_report_2 20 rfl rfl)
theorem dX3_report_69 : decode cX3_report 69 = .ok (.iconst 0, 1) := dk_3 (dk_at dksX3_report_2 21 rfl rfl)
theorem dX3_report_70 : decode cX3_report 70 = .ok (.iload 4, 2) := dk_21 4 (dk_at dksX3_report_2 22 rfl rfl)
theorem dX3_report_72 : decode cX3_report 72 = .ok (.invokestatic 102, 3) := dk_184 0 102 (dk_at dksX3_report_3 0 rfl rfl)
theorem dX3_report_75 : decode cX3_report 75 = .ok (.ifCond .ne 7, 3) := dk_154 0 7 (dk_at dksX3_report_3 3 rfl rfl)
theorem dX3_report_78 : decode cX3_report 78 = .ok (.iconst 1, 1) := dk_4 (dk_at dksX3_report_3 6 rfl rfl)
theorem dX3_report_79 : decode cX3_report 79 = .ok (.goto 4, 3) := dk_167 0 4 (dk_at dksX3_report_3 7 rfl rfl)
theorem dX3_report_82 : decode cX3_report 82 = .ok (.iconst 0, 1) := dk_3 (dk_at dksX3_report_3 10 rfl rfl)
theorem dX3_report_83 : decode cX3_report 83 = .ok (.iconst 3, 1) := dk_6 (dk_at dksX3_report_3 11 rfl rfl)
theorem dX3_report_84 : decode cX3_report 84 = .ok (.invokevirtual 106, 3) := dk_182 0 106 (dk_at dksX3_report_3 12 rfl rfl)
theorem dX3_report_87 : decode cX3_report 87 = .ok (.ifCond .eq 5, 3) := dk_153 0 5 (dk_at dksX3_report_3 15 rfl rfl)
theorem dX3_report_90 : decode cX3_report 90 = .ok (.iconst 0, 1) := dk_3 (dk_at dksX3_report_3 18 rfl rfl)
theorem dX3_report_91 : decode cX3_report 91 = .ok (.ireturn, 1) := dk_172 (dk_at dksX3_report_3 19 rfl rfl)
theorem dX3_report_92 : decode cX3_report 92 = .ok (.aload_n 0, 1) := dk_42 (dk_at dksX3_report_3 20 rfl rfl)
theorem dX3_report_93 : decode cX3_report 93 = .ok (.iload_n 1, 1) := dk_27 (dk_at dksX3_report_3 21 rfl rfl)
theorem dX3_report_94 : decode cX3_report 94 = .ok (.iload_n 3, 1) := dk_29 (dk_at dksX3_report_3 22 rfl rfl)
theorem dX3_report_95 : decode cX3_report 95 = .ok (.invokevirtual 119, 3) := dk_182 0 119 (dk_at dksX3_report_4 0 rfl rfl)
theorem dX3_report_98 : decode cX3_report 98 = .ok (.istore 5, 2) := dk_54 5 (dk_at dksX3_report_4 3 rfl rfl)
theorem dX3_report_100 : decode cX3_report 100 = .ok (.aload_n 0, 1) := dk_42 (dk_at dksX3_report_4 5 rfl rfl)
theorem dX3_report_101 : decode cX3_report 101 = .ok (.getfield 16, 3) := dk_180 0 16 (dk_at dksX3_report_4 6 rfl rfl)
theorem dX3_report_104 : decode cX3_report 104 = .ok (.iload 5, 2) := dk_21 5 (dk_at dksX3_report_4 9 rfl rfl)
theorem dX3_report_106 : decode cX3_report 106 = .ok (.dup2, 1) := dk_92 (dk_at dksX3_report_4 11 rfl rfl)
theorem dX3_report_107 : decode cX3_report 107 = .ok (.iaload, 1) := dk_46 (dk_at dksX3_report_4 12 rfl rfl)
theorem dX3_report_108 : decode cX3_report 108 = .ok (.iload 4, 2) := dk_21 4 (dk_at dksX3_report_4 13 rfl rfl)
theorem dX3_report_110 : decode cX3_report 110 = .ok (.isub, 1) := dk_100 (dk_at dksX3_report_4 15 rfl rfl)
theorem dX3_report_111 : decode cX3_report 111 = .ok (.iastore, 1) := dk_79 (dk_at dksX3_report_4 16 rfl rfl)
theorem dX3_report_112 : decode cX3_report 112 = .ok (.aload_n 0, 1) := dk_42 (dk_at dksX3_report_4 17 rfl rfl)
theorem dX3_report_113 : decode cX3_report 113 = .ok (.getfield 19, 3) := dk_180 0 19 (dk_at dksX3_report_4 18 rfl rfl)
theorem dX3_report_116 : decode cX3_report 116 = .ok (.iload 5, 2) := dk_21 5 (dk_at dksX3_report_4 21 rfl rfl)
theorem dX3_report_118 : decode cX3_report 118 = .ok (.dup2, 1) := dk_92 (dk_at dksX3_report_4 23 rfl rfl)
theorem dX3_report_119 : decode cX3_report 119 = .ok (.iaload, 1) := dk_46 (dk_at dksX3_report_5 0 rfl rfl)
theorem dX3_report_120 : decode cX3_report 120 = .ok (.iload_n 2, 1) := dk_28 (dk_at dksX3_report_5 1 rfl rfl)
theorem dX3_report_121 : decode cX3_report 121 = .ok (.iadd, 1) := dk_96 (dk_at dksX3_report_5 2 rfl rfl)
theorem dX3_report_122 : decode cX3_report 122 = .ok (.iastore, 1) := dk_79 (dk_at dksX3_report_5 3 rfl rfl)
theorem dX3_report_123 : decode cX3_report 123 = .ok (.aload_n 0, 1) := dk_42 (dk_at dksX3_report_5 4 rfl rfl)
theorem dX3_report_124 : decode cX3_report 124 = .ok (.getfield 68, 3) := dk_180 0 68 (dk_at dksX3_report_5 5 rfl rfl)
theorem dX3_report_127 : decode cX3_report 127 = .ok (.iload_n 1, 1) := dk_27 (dk_at dksX3_report_5 8 rfl rfl)
theorem dX3_report_128 : decode cX3_report 128 = .ok (.dup2, 1) := dk_92 (dk_at dksX3_report_5 9 rfl rfl)
theorem dX3_report_129 : decode cX3_report 129 = .ok (.iaload, 1) := dk_46 (dk_at dksX3_report_5 10 rfl rfl)
theorem dX3_report_130 : decode cX3_report 130 = .ok (.iload_n 2, 1) := dk_28 (dk_at dksX3_report_5 11 rfl rfl)
theorem dX3_report_131 : decode cX3_report 131 = .ok (.iadd, 1) := dk_96 (dk_at dksX3_report_5 12 rfl rfl)
theorem dX3_report_132 : decode cX3_report 132 = .ok (.iastore, 1) := dk_79 (dk_at dksX3_report_5 13 rfl rfl)
theorem dX3_report_133 : decode cX3_report 133 = .ok (.aload_n 0, 1) := dk_42 (dk_at dksX3_report_5 14 rfl rfl)
theorem dX3_report_134 : decode cX3_report 134 = .ok (.iconst 2, 1) := dk_5 (dk_at dksX3_report_5 15 rfl rfl)
theorem dX3_report_135 : decode cX3_report 135 = .ok (.iload 5, 2) := dk_21 5 (dk_at dksX3_report_5 16 rfl rfl)
theorem dX3_report_137 : decode cX3_report 137 = .ok (.iload_n 2, 1) := dk_28 (dk_at dksX3_report_5 18 rfl rfl)
theorem dX3_report_138 : decode cX3_report 138 = .ok (.invokevirtual 127, 3) := dk_182 0 127 (dk_at dksX3_report_5 19 rfl rfl)
theorem dX3_report_141 : decode cX3_report 141 = .ok (.aload_n 0, 1) := dk_42 (dk_at dksX3_report_5 22 rfl rfl)
theorem dX3_report_142 : decode cX3_report 142 = .ok (.iconst 3, 1) := dk_6 (dk_at dksX3_report_5 23 rfl rfl)
theorem dX3_report_143 : decode cX3_report 143 = .ok (.iload 5, 2) := dk_21 5 (dk_at dksX3_report_6 0 rfl rfl)
theorem dX3_report_145 : decode cX3_report 145 = .ok (.iload 4, 2) := dk_21 4 (dk_at dksX3_report_6 2 rfl rfl)
theorem dX3_report_147 : decode cX3_report 147 = .ok (.iload_n 2, 1) := dk_28 (dk_at dksX3_report_6 4 rfl rfl)
theorem dX3_report_148 : decode cX3_report 148 = .ok (.isub, 1) := dk_100 (dk_at dksX3_report_6 5 rfl rfl)
theorem dX3_report_149 : decode cX3_report 149 = .ok (.invokevirtual 127, 3) := dk_182 0 127 (dk_at dksX3_report_6 6 rfl rfl)
theorem dX3_report_152 : decode cX3_report 152 = .ok (.aload_n 0, 1) := dk_42 (dk_at dksX3_report_6 9 rfl rfl)
theorem dX3_report_153 : decode cX3_report 153 = .ok (.getfield 65, 3) := dk_180 0 65 (dk_at dksX3_report_6 10 rfl rfl)
theorem dX3_report_156 : decode cX3_report 156 = .ok (.iload_n 1, 1) := dk_27 (dk_at dksX3_report_6 13 rfl rfl)
theorem dX3_report_157 : decode cX3_report 157 = .ok (.dup2, 1) := dk_92 (dk_at dksX3_report_6 14 rfl rfl)
theorem dX3_report_158 : decode cX3_report 158 = .ok (.iaload, 1) := dk_46 (dk_at dksX3_report_6 15 rfl rfl)
theorem dX3_report_159 : decode cX3_report 159 = .ok (.iconst 1, 1) := dk_4 (dk_at dksX3_report_6 16 rfl rfl)
theorem dX3_report_160 : decode cX3_report 160 = .ok (.iadd, 1) := dk_96 (dk_at dksX3_report_6 17 rfl rfl)
theorem dX3_report_161 : decode cX3_report 161 = .ok (.iastore, 1) := dk_79 (dk_at dksX3_report_6 18 rfl rfl)
theorem dX3_report_162 : decode cX3_report 162 = .ok (.aload_n 0, 1) := dk_42 (dk_at dksX3_report_6 19 rfl rfl)
theorem dX3_report_163 : decode cX3_report 163 = .ok (.getfield 62, 3) := dk_180 0 62 (dk_at dksX3_report_6 20 rfl rfl)
theorem dX3_report_166 : decode cX3_report 166 = .ok (.iload_n 1, 1) := dk_27 (dk_at dksX3_report_6 23 rfl rfl)
theorem dX3_report_167 : decode cX3_report 167 = .ok (.aload_n 0, 1) := dk_42 (dk_at dksX3_report_7 0 rfl rfl)
theorem dX3_report_168 : decode cX3_report 168 = .ok (.getfield 65, 3) := dk_180 0 65 (dk_at dksX3_report_7 1 rfl rfl)
theorem dX3_report_171 : decode cX3_report 171 = .ok (.iload_n 1, 1) := dk_27 (dk_at dksX3_report_7 4 rfl rfl)
theorem dX3_report_172 : decode cX3_report 172 = .ok (.iaload, 1) := dk_46 (dk_at dksX3_report_7 5 rfl rfl)
theorem dX3_report_173 : decode cX3_report 173 = .ok (.iconst 3, 1) := dk_6 (dk_at dksX3_report_7 6 rfl rfl)
theorem dX3_report_174 : decode cX3_report 174 = .ok (.if_icmp .ne 7, 3) := dk_160 0 7 (dk_at dksX3_report_7 7 rfl rfl)
theorem dX3_report_177 : decode cX3_report 177 = .ok (.iconst 3, 1) := dk_6 (dk_at dksX3_report_7 10 rfl rfl)
theorem dX3_report_178 : decode cX3_report 178 = .ok (.goto 4, 3) := dk_167 0 4 (dk_at dksX3_report_7 11 rfl rfl)
theorem dX3_report_181 : decode cX3_report 181 = .ok (.iconst 2, 1) := dk_5 (dk_at dksX3_report_7 14 rfl rfl)
theorem dX3_report_182 : decode cX3_report 182 = .ok (.iastore, 1) := dk_79 (dk_at dksX3_report_7 15 rfl rfl)
theorem dX3_report_183 : decode cX3_report 183 = .ok (.iload 4, 2) := dk_21 4 (dk_at dksX3_report_7 16 rfl rfl)
theorem dX3_report_185 : decode cX3_report 185 = .ok (.iload_n 2, 1) := dk_28 (dk_at dksX3_report_7 18 rfl rfl)
theorem dX3_report_186 : decode cX3_report 186 = .ok (.if_icmp .le 18, 3) := dk_164 0 18 (dk_at dksX3_report_7 19 rfl rfl)
theorem dX3_report_189 : decode cX3_report 189 = .ok (.aload_n 0, 1) := dk_42 (dk_at dksX3_report_7 22 rfl rfl)
theorem dX3_report_190 : decode cX3_report 190 = .ok (.aload_n 0, 1) := dk_42 (dk_at dksX3_report_7 23 rfl rfl)
theorem dX3_report_191 : decode cX3_report 191 = .ok (.getfield 22, 3) := dk_180 0 22 (dk_at dksX3_report_8 0 rfl rfl)
theorem dX3_report_194 : decode cX3_report 194 = .ok (.aload_n 0, 1) := dk_42 (dk_at dksX3_report_8 3 rfl rfl)
theorem dX3_report_195 : decode cX3_report 195 = .ok (.getfield 44, 3) := dk_180 0 44 (dk_at dksX3_report_8 4 rfl rfl)
theorem dX3_report_198 : decode cX3_report 198 = .ok (.iload_n 1, 1) := dk_27 (dk_at dksX3_report_8 7 rfl rfl)
theorem dX3_report_199 : decode cX3_report 199 = .ok (.iaload, 1) := dk_46 (dk_at dksX3_report_8 8 rfl rfl)
theorem dX3_report_200 : decode cX3_report 200 = .ok (.iaload, 1) := dk_46 (dk_at dksX3_report_8 9 rfl rfl)
theorem dX3_report_201 : decode cX3_report 201 = .ok (.invokevirtual 143, 3) := dk_182 0 143 (dk_at dksX3_report_8 10 rfl rfl)
theorem dX3_report_204 : decode cX3_report 204 = .ok (.iload 4, 2) := dk_21 4 (dk_at dksX3_report_8 13 rfl rfl)
theorem dX3_report_206 : decode cX3_report 206 = .ok (.iload_n 2, 1) := dk_28 (dk_at dksX3_report_8 15 rfl rfl)
theorem dX3_report_207 : decode cX3_report 207 = .ok (.isub, 1) := dk_100 (dk_at dksX3_report_8 16 rfl rfl)
theorem dX3_report_208 : decode cX3_report 208 = .ok (.ireturn, 1) := dk_172 (dk_at dksX3_report_8 17 rfl rfl)
abbrev cX3_end : ByteArray := prog_19_method_33_code
def yX3_end : MethodName := ⟨RX3, "end", "(IZ)I"⟩
def dkwX3_end_8 : List UInt8 := [42, 180, 0, 44, 27, 46, 46, 182, 0, 143, 29, 172]
abbrev dktX3_end_8 : List UInt8 := dkwX3_end_8 ++ []
def dkwX3_end_7 : List UInt8 := [167, 255, 189, 42, 180, 0, 62, 27, 8, 79, 21, 4, 154, 0, 7, 29, 158, 0, 18, 42, 42, 180, 0, 22]
abbrev dktX3_end_7 : List UInt8 := dkwX3_end_7 ++ dktX3_end_8
def dkwX3_end_6 : List UInt8 := [92, 46, 21, 7, 100, 79, 42, 6, 21, 6, 21, 7, 182, 0, 127, 29, 21, 7, 96, 62, 132, 5, 1]
abbrev dktX3_end_6 : List UInt8 := dkwX3_end_6 ++ dktX3_end_7
def dkwX3_end_5 : List UInt8 := [182, 0, 119, 54, 6, 42, 180, 0, 53, 6, 27, 104, 21, 5, 96, 46, 54, 7, 42, 180, 0, 16, 21, 6]
abbrev dktX3_end_5 : List UInt8 := dkwX3_end_5 ++ dktX3_end_6
def dkwX3_end_4 : List UInt8 := [46, 54, 5, 21, 5, 6, 162, 0, 67, 42, 180, 0, 62, 27, 46, 5, 160, 0, 57, 42, 27, 21, 5]
abbrev dktX3_end_4 : List UInt8 := dkwX3_end_4 ++ dktX3_end_5
def dkwX3_end_3 : List UInt8 := [3, 62, 42, 180, 0, 62, 27, 46, 4, 160, 0, 7, 4, 167, 0, 4, 3, 54, 4, 42, 180, 0, 65, 27]
abbrev dktX3_end_3 : List UInt8 := dkwX3_end_3 ++ dktX3_end_4
def dkwX3_end_2 : List UInt8 := [42, 180, 0, 116, 17, 1, 44, 164, 0, 7, 4, 167, 0, 4, 3, 5, 182, 0, 106, 153, 0, 5, 3, 172]
abbrev dktX3_end_2 : List UInt8 := dkwX3_end_2 ++ dktX3_end_3
def dkwX3_end_1 : List UInt8 := [42, 180, 0, 62, 27, 46, 8, 159, 0, 27, 28, 154, 0, 13, 42, 180, 0, 62, 27, 46, 5, 160, 0, 13]
abbrev dktX3_end_1 : List UInt8 := dkwX3_end_1 ++ dktX3_end_2
def dkwX3_end_0 : List UInt8 := [42, 3, 181, 0, 95, 42, 27, 182, 0, 164, 154, 0, 60, 42, 42, 180, 0, 62, 27, 46, 6, 159, 0, 37]
abbrev dktX3_end_0 : List UInt8 := dkwX3_end_0 ++ dktX3_end_1
theorem dksX3_end_0 : cX3_end.data.toList.drop 0 = dktX3_end_0 := by decide +kernel
theorem dksX3_end_1 : cX3_end.data.toList.drop 24 = dktX3_end_1 := dk_seg dksX3_end_0 24 rfl rfl
theorem dksX3_end_2 : cX3_end.data.toList.drop 48 = dktX3_end_2 := dk_seg dksX3_end_1 24 rfl rfl
theorem dksX3_end_3 : cX3_end.data.toList.drop 72 = dktX3_end_3 := dk_seg dksX3_end_2 24 rfl rfl
theorem dksX3_end_4 : cX3_end.data.toList.drop 96 = dktX3_end_4 := dk_seg dksX3_end_3 24 rfl rfl
theorem dksX3_end_5 : cX3_end.data.toList.drop 119 = dktX3_end_5 := dk_seg dksX3_end_4 23 rfl rfl
theorem dksX3_end_6 : cX3_end.data.toList.drop 143 = dktX3_end_6 := dk_seg dksX3_end_5 24 rfl rfl
theorem dksX3_end_7 : cX3_end.data.toList.drop 166 = dktX3_end_7 := dk_seg dksX3_end_6 23 rfl rfl
theorem dksX3_end_8 : cX3_end.data.toList.drop 190 = dktX3_end_8 := dk_seg dksX3_end_7 24 rfl rfl
theorem dX3_end_0 : decode cX3_end 0 = .ok (.aload_n 0, 1) := dk_42 (dk_at dksX3_end_0 0 rfl rfl)
theorem dX3_end_1 : decode cX3_end 1 = .ok (.iconst 0, 1) := dk_3 (dk_at dksX3_end_0 1 rfl rfl)
theorem dX3_end_2 : decode cX3_end 2 = .ok (.putfield 95, 3) := dk_181 0 95 (dk_at dksX3_end_0 2 rfl rfl)
theorem dX3_end_5 : decode cX3_end 5 = .ok (.aload_n 0, 1) := dk_42 (dk_at dksX3_end_0 5 rfl rfl)
theorem dX3_end_6 : decode cX3_end 6 = .ok (.iload_n 1, 1) := dk_27 (dk_at dksX3_end_0 6 rfl rfl)
theorem dX3_end_7 : decode cX3_end 7 = .ok (.invokevirtual 164, 3) := dk_182 0 164 (dk_at dksX3_end_0 7 rfl rfl)
theorem dX3_end_10 : decode cX3_end 10 = .ok (.ifCond .ne 60, 3) := dk_154 0 60 (dk_at dksX3_end_0 10 rfl rfl)
theorem dX3_end_13 : decode cX3_end 13 = .ok (.aload_n 0, 1) := dk_42 (dk_at dksX3_end_0 13 rfl rfl)
theorem dX3_end_14 : decode cX3_end 14 = .ok (.aload_n 0, 1) := dk_42 (dk_at dksX3_end_0 14 rfl rfl)
theorem dX3_end_15 : decode cX3_end 15 = .ok (.getfield 62, 3) := dk_180 0 62 (dk_at dksX3_end_0 15 rfl rfl)
theorem dX3_end_18 : decode cX3_end 18 = .ok (.iload_n 1, 1) := dk_27 (dk_at dksX3_end_0 18 rfl rfl)
theorem dX3_end_19 : decode cX3_end 19 = .ok (.iaload, 1) := dk_46 (dk_at dksX3_end_0 19 rfl rfl)
theorem dX3_end_20 : decode cX3_end 20 = .ok (.iconst 3, 1) := dk_6 (dk_at dksX3_end_0 20 rfl rfl)
theorem dX3_end_21 : decode cX3_end 21 = .ok (.if_icmp .eq 37, 3) := dk_159 0 37 (dk_at dksX3_end_0 21 rfl rfl)
theorem dX3_end_24 : decode cX3_end 24 = .ok (.aload_n 0, 1) := dk_42 (dk_at dksX3_end_1 0 rfl rfl)
theorem dX3_end_25 : decode cX3_end 25 = .ok (.getfield 62, 3) := dk_180 0 62 (dk_at dksX3_end_1 1 rfl rfl)
theorem dX3_end_28 : decode cX3_end 28 = .ok (.iload_n 1, 1) := dk_27 (dk_at dksX3_end_1 4 rfl rfl)
theorem dX3_end_29 : decode cX3_end 29 = .ok (.iaload, 1) := dk_46 (dk_at dksX3_end_1 5 rfl rfl)
theorem dX3_end_30 : decode cX3_end 30 = .ok (.iconst 5, 1) := dk_8 (dk_at dksX3_end_1 6 rfl rfl)
theorem dX3_end_31 : decode cX3_end 31 = .ok (.if_icmp .eq 27, 3) := dk_159 0 27 (dk_at dksX3_end_1 7 rfl rfl)
theorem dX3_end_34 : decode cX3_end 34 = .ok (.iload_n 2, 1) := dk_28 (dk_at dksX3_end_1 10 rfl rfl)
theorem dX3_end_35 : decode cX3_end 35 = .ok (.ifCond .ne 13, 3) := dk_154 0 13 (dk_at dksX3_end_1 11 rfl rfl)
theorem dX3_end_38 : decode cX3_end 38 = .ok (.aload_n 0, 1) := dk_42 (dk_at dksX3_end_1 14 rfl rfl)
theorem dX3_end_39 : decode cX3_end 39 = .ok (.getfield 62, 3) := dk_180 0 62 (dk_at dksX3_end_1 15 rfl rfl)
theorem dX3_end_42 : decode cX3_end 42 = .ok (.iload_n 1, 1) := dk_27 (dk_at dksX3_end_1 18 rfl rfl)
theorem dX3_end_43 : decode cX3_end 43 = .ok (.iaload, 1) := dk_46 (dk_at dksX3_end_1 19 rfl rfl)
theorem dX3_end_44 : decode cX3_end 44 = .ok (.iconst 2, 1) := dk_5 (dk_at dksX3_end_1 20 rfl rfl)
theorem dX3_end_45 : decode cX3_end 45 = .ok (.if_icmp .ne 13, 3) := dk_160 0 13 (dk_at dksX3_end_1 21 rfl rfl)
theorem dX3_end_48 : decode cX3_end 48 = .ok (.aload_n 0, 1) := dk_42 (dk_at dksX3_end_2 0 rfl rfl)
theorem dX3_end_49 : decode cX3_end 49 = .ok (.getfield 116, 3) := dk_180 0 116 (dk_at dksX3_end_2 1 rfl rfl)
theorem dX3_end_52 : decode cX3_end 52 = .ok (.sipush 300, 3) := dk_17 1 44 (dk_at dksX3_end_2 4 rfl rfl)
theorem dX3_end_55 : decode cX3_end 55 = .ok (.if_icmp .le 7, 3) := dk_164 0 7 (dk_at dksX3_end_2 7 rfl rfl)
theorem dX3_end_58 : decode cX3_end 58 = .ok (.iconst 1, 1) := dk_4 (dk_at dksX3_end_2 10 rfl rfl)
theorem dX3_end_59 : decode cX3_end 59 = .ok (.goto 4, 3) := dk_167 0 4 (dk_at dksX3_end_2 11 rfl rfl)
theorem dX3_end_62 : decode cX3_end 62 = .ok (.iconst 0, 1) := dk_3 (dk_at dksX3_end_2 14 rfl rfl)
theorem dX3_end_63 : decode cX3_end 63 = .ok (.iconst 2, 1) := dk_5 (dk_at dksX3_end_2 15 rfl rfl)
theorem dX3_end_64 : decode cX3_end 64 = .ok (.invokevirtual 106, 3) := dk_182 0 106 (dk_at dksX3_end_2 16 rfl rfl)
theorem dX3_end_67 : decode cX3_end 67 = .ok (.ifCond .eq 5, 3) := dk_153 0 5 (dk_at dksX3_end_2 19 rfl rfl)
theorem dX3_end_70 : decode cX3_end 70 = .ok (.iconst 0, 1) := dk_3 (dk_at dksX3_end_2 22 rfl rfl)
theorem dX3_end_71 : decode cX3_end 71 = .ok (.ireturn, 1) := dk_172 (dk_at dksX3_end_2 23 rfl rfl)
theorem dX3_end_72 : decode cX3_end 72 = .ok (.iconst 0, 1) := dk_3 (dk_at dksX3_end_3 0 rfl rfl)
theorem dX3_end_73 : decode cX3_end 73 = .ok (.istore_n 3, 1) := dk_62 (dk_at dksX3_end_3 1 rfl rfl)
theorem dX3_end_74 : decode cX3_end 74 = .ok (.aload_n 0, 1) := dk_42 (dk_at dksX3_end_3 2 rfl rfl)
theorem dX3_end_75 : decode cX3_end 75 = .ok (.getfield 62, 3) := dk_180 0 62 (dk_at dksX3_end_3 3 rfl rfl)
theorem dX3_end_78 : decode cX3_end 78 = .ok (.iload_n 1, 1) := dk_27 (dk_at dksX3_end_3 6 rfl rfl)
theorem dX3_end_79 : decode cX3_end 79 = .ok (.iaload, 1) := dk_46 (dk_at dksX3_end_3 7 rfl rfl)
theorem dX3_end_80 : decode cX3_end 80 = .ok (.iconst 1, 1) := dk_4 (dk_at dksX3_end_3 8 rfl rfl)
theorem dX3_end_81 : decode cX3_end 81 = .ok (.if_icmp .ne 7, 3) := dk_160 0 7 (dk_at dksX3_end_3 9 rfl rfl)
theorem dX3_end_84 : decode cX3_end 84 = .ok (.iconst 1, 1) := dk_4 (dk_at dksX3_end_3 12 rfl rfl)
theorem dX3_end_85 : decode cX3_end 85 = .ok (.goto 4, 3) := dk_167 0 4 (dk_at dksX3_end_3 13 rfl rfl)
theorem dX3_end_88 : decode cX3_end 88 = .ok (.iconst 0, 1) := dk_3 (dk_at dksX3_end_3 16 rfl rfl)
theorem dX3_end_89 : decode cX3_end 89 = .ok (.istore 4, 2) := dk_54 4 (dk_at dksX3_end_3 17 rfl rfl)
theorem dX3_end_91 : decode cX3_end 91 = .ok (.aload_n 0, 1) := dk_42 (dk_at dksX3_end_3 19 rfl rfl)
theorem dX3_end_92 : decode cX3_end 92 = .ok (.getfield 65, 3) := dk_180 0 65 (dk_at dksX3_end_3 20 rfl rfl)
theorem dX3_end_95 : decode cX3_end 95 = .ok (.iload_n 1, 1) := dk_27 (dk_at dksX3_end_3 23 rfl rfl)
theorem dX3_end_96 : decode cX3_end 96 = .ok (.iaload, 1) := dk_46 (dk_at dksX3_end_4 0 rfl rfl)
theorem dX3_end_97 : decode cX3_end 97 = .ok (.istore 5, 2) := dk_54 5 (dk_at dksX3_end_4 1 rfl rfl)
theorem dX3_end_99 : decode cX3_end 99 = .ok (.iload 5, 2) := dk_21 5 (dk_at dksX3_end_4 3 rfl rfl)
theorem dX3_end_101 : decode cX3_end 101 = .ok (.iconst 3, 1) := dk_6 (dk_at dksX3_end_4 5 rfl rfl)
theorem dX3_end_102 : decode cX3_end 102 = .ok (.if_icmp .ge 67, 3) := dk_162 0 67 (dk_at dksX3_end_4 6 rfl rfl)
theorem dX3_end_105 : decode cX3_end 105 = .ok (.aload_n 0, 1) := dk_42 (dk_at dksX3_end_4 9 rfl rfl)
theorem dX3_end_106 : decode cX3_end 106 = .ok (.getfield 62, 3) := dk_180 0 62 (dk_at dksX3_end_4 10 rfl rfl)
theorem dX3_end_109 : decode cX3_end 109 = .ok (.iload_n 1, 1) := dk_27 (dk_at dksX3_end_4 13 rfl rfl)
theorem dX3_end_110 : decode cX3_end 110 = .ok (.iaload, 1) := dk_46 (dk_at dksX3_end_4 14 rfl rfl)
theorem dX3_end_111 : decode cX3_end 111 = .ok (.iconst 2, 1) := dk_5 (dk_at dksX3_end_4 15 rfl rfl)
theorem dX3_end_112 : decode cX3_end 112 = .ok (.if_icmp .ne 57, 3) := dk_160 0 57 (dk_at dksX3_end_4 16 rfl rfl)
theorem dX3_end_115 : decode cX3_end 115 = .ok (.aload_n 0, 1) := dk_42 (dk_at dksX3_end_4 19 rfl rfl)
theorem dX3_end_116 : decode cX3_end 116 = .ok (.iload_n 1, 1) := dk_27 (dk_at dksX3_end_4 20 rfl rfl)
theorem dX3_end_117 : decode cX3_end 117 = .ok (.iload 5, 2) := dk_21 5 (dk_at dksX3_end_4 21 rfl rfl)
theorem dX3_end_119 : decode cX3_end 119 = .ok (.invokevirtual 119, 3) := dk_182 0 119 (dk_at dksX3_end_5 0 rfl rfl)
theorem dX3_end_122 : decode cX3_end 122 = .ok (.istore 6, 2) := dk_54 6 (dk_at dksX3_end_5 3 rfl rfl)
theorem dX3_end_124 : decode cX3_end 124 = .ok (.aload_n 0, 1) := dk_42 (dk_at dksX3_end_5 5 rfl rfl)
theorem dX3_end_125 : decode cX3_end 125 = .ok (.getfield 53, 3) := dk_180 0 53 (dk_at dksX3_end_5 6 rfl rfl)
theorem dX3_end_128 : decode cX3_end 128 = .ok (.iconst 3, 1) := dk_6 (dk_at dksX3_end_5 9 rfl rfl)
theorem dX3_end_129 : decode cX3_end 129 = .ok (.iload_n 1, 1) := dk_27 (dk_at dksX3_end_5 10 rfl rfl)
theorem dX3_end_130 : decode cX3_end 130 = .ok (.imul, 1) := dk_104 (dk_at dksX3_end_5 11 rfl rfl)
theorem dX3_end_131 : decode cX3_end 131 = .ok (.iload 5, 2) := dk_21 5 (dk_at dksX3_end_5 12 rfl rfl)
theorem dX3_end_133 : decode cX3_end 133 = .ok (.iadd, 1) := dk_96 (dk_at dksX3_end_5 14 rfl rfl)
theorem dX3_end_134 : decode cX3_end 134 = .ok (.iaload, 1) := dk_46 (dk_at dksX3_end_5 15 rfl rfl)
theorem dX3_end_135 : decode cX3_end 135 = .ok (.istore 7, 2) := dk_54 7 (dk_at dksX3_end_5 16 rfl rfl)
theorem dX3_end_137 : decode cX3_end 137 = .ok (.aload_n 0, 1) := dk_42 (dk_at dksX3_end_5 18 rfl rfl)
theorem dX3_end_138 : decode cX3_end 138 = .ok (.getfield 16, 3) := dk_180 0 16 (dk_at dksX3_end_5 19 rfl rfl)
theorem dX3_end_141 : decode cX3_end 141 = .ok (.iload 6, 2) := dk_21 6 (dk_at dksX3_end_5 22 rfl rfl)
theorem dX3_end_143 : decode cX3_end 143 = .ok (.dup2, 1) := dk_92 (dk_at dksX3_end_6 0 rfl rfl)
theorem dX3_end_144 : decode cX3_end 144 = .ok (.iaload, 1) := dk_46 (dk_at dksX3_end_6 1 rfl rfl)
theorem dX3_end_145 : decode cX3_end 145 = .ok (.iload 7, 2) := dk_21 7 (dk_at dksX3_end_6 2 rfl rfl)
theorem dX3_end_147 : decode cX3_end 147 = .ok (.isub, 1) := dk_100 (dk_at dksX3_end_6 4 rfl rfl)
theorem dX3_end_148 : decode cX3_end 148 = .ok (.iastore, 1) := dk_79 (dk_at dksX3_end_6 5 rfl rfl)
theorem dX3_end_149 : decode cX3_end 149 = .ok (.aload_n 0, 1) := dk_42 (dk_at dksX3_end_6 6 rfl rfl)
theorem dX3_end_150 : decode cX3_end 150 = .ok (.iconst 3, 1) := dk_6 (dk_at dksX3_end_6 7 rfl rfl)
theorem dX3_end_151 : decode cX3_end 151 = .ok (.iload 6, 2) := dk_21 6 (dk_at dksX3_end_6 8 rfl rfl)
theorem dX3_end_153 : decode cX3_end 153 = .ok (.iload 7, 2) := dk_21 7 (dk_at dksX3_end_6 10 rfl rfl)
theorem dX3_end_155 : decode cX3_end 155 = .ok (.invokevirtual 127, 3) := dk_182 0 127 (dk_at dksX3_end_6 12 rfl rfl)
theorem dX3_end_158 : decode cX3_end 158 = .ok (.iload_n 3, 1) := dk_29 (dk_at dksX3_end_6 15 rfl rfl)
theorem dX3_end_159 : decode cX3_end 159 = .ok (.iload 7, 2) := dk_21 7 (dk_at dksX3_end_6 16 rfl rfl)
theorem dX3_end_161 : decode cX3_end 161 = .ok (.iadd, 1) := dk_96 (dk_at dksX3_end_6 18 rfl rfl)
theorem dX3_end_162 : decode cX3_end 162 = .ok (.istore_n 3, 1) := dk_62 (dk_at dksX3_end_6 19 rfl rfl)
theorem dX3_end_163 : decode cX3_end 163 = .ok (.iinc 5 1, 3) := dk_132 5 1 (dk_at dksX3_end_6 20 rfl rfl)
theorem dX3_end_166 : decode cX3_end 166 = .ok (.goto (-67), 3) := dk_167 255 189 (dk_at dksX3_end_7 0 rfl rfl)
theorem dX3_end_169 : decode cX3_end 169 = .ok (.aload_n 0, 1) := dk_42 (dk_at dksX3_end_7 3 rfl rfl)
theorem dX3_end_170 : decode cX3_end 170 = .ok (.getfield 62, 3) := dk_180 0 62 (dk_at dksX3_end_7 4 rfl rfl)
theorem dX3_end_173 : decode cX3_end 173 = .ok (.iload_n 1, 1) := dk_27 (dk_at dksX3_end_7 7 rfl rfl)
theorem dX3_end_174 : decode cX3_end 174 = .ok (.iconst 5, 1) := dk_8 (dk_at dksX3_end_7 8 rfl rfl)
theorem dX3_end_175 : decode cX3_end 175 = .ok (.iastore, 1) := dk_79 (dk_at dksX3_end_7 9 rfl rfl)
theorem dX3_end_176 : decode cX3_end 176 = .ok (.iload 4, 2) := dk_21 4 (dk_at dksX3_end_7 10 rfl rfl)
theorem dX3_end_178 : decode cX3_end 178 = .ok (.ifCond .ne 7, 3) := dk_154 0 7 (dk_at dksX3_end_7 12 rfl rfl)
theorem dX3_end_181 : decode cX3_end 181 = .ok (.iload_n 3, 1) := dk_29 (dk_at dksX3_end_7 15 rfl rfl)
theorem dX3_end_182 : decode cX3_end 182 = .ok (.ifCond .le 18, 3) := dk_158 0 18 (dk_at dksX3_end_7 16 rfl rfl)
theorem dX3_end_185 : decode cX3_end 185 = .ok (.aload_n 0, 1) := dk_42 (dk_at dksX3_end_7 19 rfl rfl)
theorem dX3_end_186 : decode cX3_end 186 = .ok (.aload_n 0, 1) := dk_42 (dk_at dksX3_end_7 20 rfl rfl)
theorem dX3_end_187 : decode cX3_end 187 = .ok (.getfield 22, 3) := dk_180 0 22 (dk_at dksX3_end_7 21 rfl rfl)
theorem dX3_end_190 : decode cX3_end 190 = .ok (.aload_n 0, 1) := dk_42 (dk_at dksX3_end_8 0 rfl rfl)
theorem dX3_end_191 : decode cX3_end 191 = .ok (.getfield 44, 3) := dk_180 0 44 (dk_at dksX3_end_8 1 rfl rfl)
theorem dX3_end_194 : decode cX3_end 194 = .ok (.iload_n 1, 1) := dk_27 (dk_at dksX3_end_8 4 rfl rfl)
theorem dX3_end_195 : decode cX3_end 195 = .ok (.iaload, 1) := dk_46 (dk_at dksX3_end_8 5 rfl rfl)
theorem dX3_end_196 : decode cX3_end 196 = .ok (.iaload, 1) := dk_46 (dk_at dksX3_end_8 6 rfl rfl)
theorem dX3_end_197 : decode cX3_end 197 = .ok (.invokevirtual 143, 3) := dk_182 0 143 (dk_at dksX3_end_8 7 rfl rfl)
theorem dX3_end_200 : decode cX3_end 200 = .ok (.iload_n 3, 1) := dk_29 (dk_at dksX3_end_8 10 rfl rfl)
theorem dX3_end_201 : decode cX3_end 201 = .ok (.ireturn, 1) := dk_172 (dk_at dksX3_end_8 11 rfl rfl)
abbrev cX3_pass : ByteArray := prog_19_method_34_code
def yX3_pass : MethodName := ⟨RX3, "pass", "(I)I"⟩
def dkwX3_pass_2 : List UInt8 := [5, 182, 0, 106, 153, 0, 5, 3, 172, 42, 89, 180, 0, 147, 27, 96, 181, 0, 147, 42, 180, 0, 147, 172]
abbrev dktX3_pass_2 : List UInt8 := dkwX3_pass_2 ++ []
def dkwX3_pass_1 : List UInt8 := [182, 0, 106, 154, 0, 28, 42, 42, 180, 0, 147, 27, 96, 17, 78, 32, 164, 0, 7, 4, 167, 0, 4, 3]
abbrev dktX3_pass_1 : List UInt8 := dkwX3_pass_1 ++ dktX3_pass_2
def dkwX3_pass_0 : List UInt8 := [42, 3, 181, 0, 95, 42, 27, 4, 17, 3, 232, 184, 0, 102, 154, 0, 7, 4, 167, 0, 4, 3, 4]
abbrev dktX3_pass_0 : List UInt8 := dkwX3_pass_0 ++ dktX3_pass_1
theorem dksX3_pass_0 : cX3_pass.data.toList.drop 0 = dktX3_pass_0 := by decide +kernel
theorem dksX3_pass_1 : cX3_pass.data.toList.drop 23 = dktX3_pass_1 := dk_seg dksX3_pass_0 23 rfl rfl
theorem dksX3_pass_2 : cX3_pass.data.toList.drop 47 = dktX3_pass_2 := dk_seg dksX3_pass_1 24 rfl rfl
theorem dX3_pass_0 : decode cX3_pass 0 = .ok (.aload_n 0, 1) := dk_42 (dk_at dksX3_pass_0 0 rfl rfl)
theorem dX3_pass_1 : decode cX3_pass 1 = .ok (.iconst 0, 1) := dk_3 (dk_at dksX3_pass_0 1 rfl rfl)
theorem dX3_pass_2 : decode cX3_pass 2 = .ok (.putfield 95, 3) := dk_181 0 95 (dk_at dksX3_pass_0 2 rfl rfl)
theorem dX3_pass_5 : decode cX3_pass 5 = .ok (.aload_n 0, 1) := dk_42 (dk_at dksX3_pass_0 5 rfl rfl)
theorem dX3_pass_6 : decode cX3_pass 6 = .ok (.iload_n 1, 1) := dk_27 (dk_at dksX3_pass_0 6 rfl rfl)
theorem dX3_pass_7 : decode cX3_pass 7 = .ok (.iconst 1, 1) := dk_4 (dk_at dksX3_pass_0 7 rfl rfl)
theorem dX3_pass_8 : decode cX3_pass 8 = .ok (.sipush 1000, 3) := dk_17 3 232 (dk_at dksX3_pass_0 8 rfl rfl)
theorem dX3_pass_11 : decode cX3_pass 11 = .ok (.invokestatic 102, 3) := dk_184 0 102 (dk_at dksX3_pass_0 11 rfl rfl)
theorem dX3_pass_14 : decode cX3_pass 14 = .ok (.ifCond .ne 7, 3) := dk_154 0 7 (dk_at dksX3_pass_0 14 rfl rfl)
theorem dX3_pass_17 : decode cX3_pass 17 = .ok (.iconst 1, 1) := dk_4 (dk_at dksX3_pass_0 17 rfl rfl)
theorem dX3_pass_18 : decode cX3_pass 18 = .ok (.goto 4, 3) := dk_167 0 4 (dk_at dksX3_pass_0 18 rfl rfl)
theorem dX3_pass_21 : decode cX3_pass 21 = .ok (.iconst 0, 1) := dk_3 (dk_at dksX3_pass_0 21 rfl rfl)
theorem dX3_pass_22 : decode cX3_pass 22 = .ok (.iconst 1, 1) := dk_4 (dk_at dksX3_pass_0 22 rfl rfl)
theorem dX3_pass_23 : decode cX3_pass 23 = .ok (.invokevirtual 106, 3) := dk_182 0 106 (dk_at dksX3_pass_1 0 rfl rfl)
theorem dX3_pass_26 : decode cX3_pass 26 = .ok (.ifCond .ne 28, 3) := dk_154 0 28 (dk_at dksX3_pass_1 3 rfl rfl)
theorem dX3_pass_29 : decode cX3_pass 29 = .ok (.aload_n 0, 1) := dk_42 (dk_at dksX3_pass_1 6 rfl rfl)
theorem dX3_pass_30 : decode cX3_pass 30 = .ok (.aload_n 0, 1) := dk_42 (dk_at dksX3_pass_1 7 rfl rfl)
theorem dX3_pass_31 : decode cX3_pass 31 = .ok (.getfield 147, 3) := dk_180 0 147 (dk_at dksX3_pass_1 8 rfl rfl)
theorem dX3_pass_34 : decode cX3_pass 34 = .ok (.iload_n 1, 1) := dk_27 (dk_at dksX3_pass_1 11 rfl rfl)
theorem dX3_pass_35 : decode cX3_pass 35 = .ok (.iadd, 1) := dk_96 (dk_at dksX3_pass_1 12 rfl rfl)
theorem dX3_pass_36 : decode cX3_pass 36 = .ok (.sipush 20000, 3) := dk_17 78 32 (dk_at dksX3_pass_1 13 rfl rfl)
theorem dX3_pass_39 : decode cX3_pass 39 = .ok (.if_icmp .le 7, 3) := dk_164 0 7 (dk_at dksX3_pass_1 16 rfl rfl)
theorem dX3_pass_42 : decode cX3_pass 42 = .ok (.iconst 1, 1) := dk_4 (dk_at dksX3_pass_1 19 rfl rfl)
theorem dX3_pass_43 : decode cX3_pass 43 = .ok (.goto 4, 3) := dk_167 0 4 (dk_at dksX3_pass_1 20 rfl rfl)
theorem dX3_pass_46 : decode cX3_pass 46 = .ok (.iconst 0, 1) := dk_3 (dk_at dksX3_pass_1 23 rfl rfl)
theorem dX3_pass_47 : decode cX3_pass 47 = .ok (.iconst 2, 1) := dk_5 (dk_at dksX3_pass_2 0 rfl rfl)
theorem dX3_pass_48 : decode cX3_pass 48 = .ok (.invokevirtual 106, 3) := dk_182 0 106 (dk_at dksX3_pass_2 1 rfl rfl)
theorem dX3_pass_51 : decode cX3_pass 51 = .ok (.ifCond .eq 5, 3) := dk_153 0 5 (dk_at dksX3_pass_2 4 rfl rfl)
theorem dX3_pass_54 : decode cX3_pass 54 = .ok (.iconst 0, 1) := dk_3 (dk_at dksX3_pass_2 7 rfl rfl)
theorem dX3_pass_55 : decode cX3_pass 55 = .ok (.ireturn, 1) := dk_172 (dk_at dksX3_pass_2 8 rfl rfl)
theorem dX3_pass_56 : decode cX3_pass 56 = .ok (.aload_n 0, 1) := dk_42 (dk_at dksX3_pass_2 9 rfl rfl)
theorem dX3_pass_57 : decode cX3_pass 57 = .ok (.dup, 1) := dk_89 (dk_at dksX3_pass_2 10 rfl rfl)
theorem dX3_pass_58 : decode cX3_pass 58 = .ok (.getfield 147, 3) := dk_180 0 147 (dk_at dksX3_pass_2 11 rfl rfl)
theorem dX3_pass_61 : decode cX3_pass 61 = .ok (.iload_n 1, 1) := dk_27 (dk_at dksX3_pass_2 14 rfl rfl)
theorem dX3_pass_62 : decode cX3_pass 62 = .ok (.iadd, 1) := dk_96 (dk_at dksX3_pass_2 15 rfl rfl)
theorem dX3_pass_63 : decode cX3_pass 63 = .ok (.putfield 147, 3) := dk_181 0 147 (dk_at dksX3_pass_2 16 rfl rfl)
theorem dX3_pass_66 : decode cX3_pass 66 = .ok (.aload_n 0, 1) := dk_42 (dk_at dksX3_pass_2 19 rfl rfl)
theorem dX3_pass_67 : decode cX3_pass 67 = .ok (.getfield 147, 3) := dk_180 0 147 (dk_at dksX3_pass_2 20 rfl rfl)
theorem dX3_pass_70 : decode cX3_pass 70 = .ok (.ireturn, 1) := dk_172 (dk_at dksX3_pass_2 23 rfl rfl)
abbrev cX3_about : ByteArray := prog_19_method_36_code
def yX3_about : MethodName := ⟨RX3, "about", "(II)I"⟩
def dkwX3_about_5 : List UInt8 := [42, 27, 182, 0, 188, 172, 42, 180, 0, 53, 6, 27, 104, 28, 96, 16, 8, 100, 46, 172]
abbrev dktX3_about_5 : List UInt8 := dkwX3_about_5 ++ []
def dkwX3_about_4 : List UInt8 := [182, 0, 177, 172, 42, 27, 182, 0, 174, 172, 42, 180, 0, 65, 27, 46, 172, 42, 180, 0, 68, 27, 46, 172]
abbrev dktX3_about_4 : List UInt8 := dkwX3_about_4 ++ dktX3_about_5
def dkwX3_about_3 : List UInt8 := [42, 180, 0, 62, 27, 46, 172, 42, 180, 0, 56, 27, 46, 172, 42, 180, 0, 59, 27, 46, 172, 42, 27]
abbrev dktX3_about_3 : List UInt8 := dkwX3_about_3 ++ dktX3_about_4
def dkwX3_about_2 : List UInt8 := [170, 0, 0, 0, 98, 0, 0, 0, 0, 0, 0, 0, 7, 0, 0, 0, 45, 0, 0, 0, 52, 0, 0, 0, 59, 0, 0, 0, 66, 0, 0, 0, 72, 0, 0, 0, 78, 0, 0, 0, 85, 0, 0, 0, 92]
abbrev dktX3_about_2 : List UInt8 := dkwX3_about_2 ++ dktX3_about_3
def dkwX3_about_1 : List UInt8 := [4, 167, 0, 4, 3, 5, 182, 0, 106, 153, 0, 5, 3, 172, 28]
abbrev dktX3_about_1 : List UInt8 := dkwX3_about_1 ++ dktX3_about_2
def dkwX3_about_0 : List UInt8 := [42, 3, 181, 0, 95, 42, 27, 182, 0, 164, 154, 0, 26, 42, 28, 3, 16, 10, 184, 0, 102, 154, 0, 7]
abbrev dktX3_about_0 : List UInt8 := dkwX3_about_0 ++ dktX3_about_1
theorem dksX3_about_0 : cX3_about.data.toList.drop 0 = dktX3_about_0 := by decide +kernel
theorem dksX3_about_1 : cX3_about.data.toList.drop 24 = dktX3_about_1 := dk_seg dksX3_about_0 24 rfl rfl
theorem dksX3_about_2 : cX3_about.data.toList.drop 39 = dktX3_about_2 := dk_seg dksX3_about_1 15 rfl rfl
theorem dksX3_about_3 : cX3_about.data.toList.drop 84 = dktX3_about_3 := dk_seg dksX3_about_2 45 rfl rfl
theorem dksX3_about_4 : cX3_about.data.toList.drop 107 = dktX3_about_4 := dk_seg dksX3_about_3 23 rfl rfl
theorem dksX3_about_5 : cX3_about.data.toList.drop 131 = dktX3_about_5 := dk_seg dksX3_about_4 24 rfl rfl
theorem dX3_about_0 : decode cX3_about 0 = .ok (.aload_n 0, 1) := dk_42 (dk_at dksX3_about_0 0 rfl rfl)
theorem dX3_about_1 : decode cX3_about 1 = .ok (.iconst 0, 1) := dk_3 (dk_at dksX3_about_0 1 rfl rfl)
theorem dX3_about_2 : decode cX3_about 2 = .ok (.putfield 95, 3) := dk_181 0 95 (dk_at dksX3_about_0 2 rfl rfl)
theorem dX3_about_5 : decode cX3_about 5 = .ok (.aload_n 0, 1) := dk_42 (dk_at dksX3_about_0 5 rfl rfl)
theorem dX3_about_6 : decode cX3_about 6 = .ok (.iload_n 1, 1) := dk_27 (dk_at dksX3_about_0 6 rfl rfl)
theorem dX3_about_7 : decode cX3_about 7 = .ok (.invokevirtual 164, 3) := dk_182 0 164 (dk_at dksX3_about_0 7 rfl rfl)
theorem dX3_about_10 : decode cX3_about 10 = .ok (.ifCond .ne 26, 3) := dk_154 0 26 (dk_at dksX3_about_0 10 rfl rfl)
theorem dX3_about_13 : decode cX3_about 13 = .ok (.aload_n 0, 1) := dk_42 (dk_at dksX3_about_0 13 rfl rfl)
theorem dX3_about_14 : decode cX3_about 14 = .ok (.iload_n 2, 1) := dk_28 (dk_at dksX3_about_0 14 rfl rfl)
theorem dX3_about_15 : decode cX3_about 15 = .ok (.iconst 0, 1) := dk_3 (dk_at dksX3_about_0 15 rfl rfl)
theorem dX3_about_16 : decode cX3_about 16 = .ok (.bipush 10, 2) := dk_16 10 (dk_at dksX3_about_0 16 rfl rfl)
theorem dX3_about_18 : decode cX3_about 18 = .ok (.invokestatic 102, 3) := dk_184 0 102 (dk_at dksX3_about_0 18 rfl rfl)
theorem dX3_about_21 : decode cX3_about 21 = .ok (.ifCond .ne 7, 3) := dk_154 0 7 (dk_at dksX3_about_0 21 rfl rfl)
theorem dX3_about_24 : decode cX3_about 24 = .ok (.iconst 1, 1) := dk_4 (dk_at dksX3_about_1 0 rfl rfl)
theorem dX3_about_25 : decode cX3_about 25 = .ok (.goto 4, 3) := dk_167 0 4 (dk_at dksX3_about_1 1 rfl rfl)
theorem dX3_about_28 : decode cX3_about 28 = .ok (.iconst 0, 1) := dk_3 (dk_at dksX3_about_1 4 rfl rfl)
theorem dX3_about_29 : decode cX3_about 29 = .ok (.iconst 2, 1) := dk_5 (dk_at dksX3_about_1 5 rfl rfl)
theorem dX3_about_30 : decode cX3_about 30 = .ok (.invokevirtual 106, 3) := dk_182 0 106 (dk_at dksX3_about_1 6 rfl rfl)
theorem dX3_about_33 : decode cX3_about 33 = .ok (.ifCond .eq 5, 3) := dk_153 0 5 (dk_at dksX3_about_1 9 rfl rfl)
theorem dX3_about_36 : decode cX3_about 36 = .ok (.iconst 0, 1) := dk_3 (dk_at dksX3_about_1 12 rfl rfl)
theorem dX3_about_37 : decode cX3_about 37 = .ok (.ireturn, 1) := dk_172 (dk_at dksX3_about_1 13 rfl rfl)
theorem dX3_about_38 : decode cX3_about 38 = .ok (.iload_n 2, 1) := dk_28 (dk_at dksX3_about_1 14 rfl rfl)
theorem dX3_about_39 : decode cX3_about 39 = .ok (.tableswitch 98 0 7 #[45, 52, 59, 66, 72, 78, 85, 92], 45) := by decide +kernel
theorem dX3_about_84 : decode cX3_about 84 = .ok (.aload_n 0, 1) := dk_42 (dk_at dksX3_about_3 0 rfl rfl)
theorem dX3_about_85 : decode cX3_about 85 = .ok (.getfield 62, 3) := dk_180 0 62 (dk_at dksX3_about_3 1 rfl rfl)
theorem dX3_about_88 : decode cX3_about 88 = .ok (.iload_n 1, 1) := dk_27 (dk_at dksX3_about_3 4 rfl rfl)
theorem dX3_about_89 : decode cX3_about 89 = .ok (.iaload, 1) := dk_46 (dk_at dksX3_about_3 5 rfl rfl)
theorem dX3_about_90 : decode cX3_about 90 = .ok (.ireturn, 1) := dk_172 (dk_at dksX3_about_3 6 rfl rfl)
theorem dX3_about_91 : decode cX3_about 91 = .ok (.aload_n 0, 1) := dk_42 (dk_at dksX3_about_3 7 rfl rfl)
theorem dX3_about_92 : decode cX3_about 92 = .ok (.getfield 56, 3) := dk_180 0 56 (dk_at dksX3_about_3 8 rfl rfl)
theorem dX3_about_95 : decode cX3_about 95 = .ok (.iload_n 1, 1) := dk_27 (dk_at dksX3_about_3 11 rfl rfl)
theorem dX3_about_96 : decode cX3_about 96 = .ok (.iaload, 1) := dk_46 (dk_at dksX3_about_3 12 rfl rfl)
theorem dX3_about_97 : decode cX3_about 97 = .ok (.ireturn, 1) := dk_172 (dk_at dksX3_about_3 13 rfl rfl)
theorem dX3_about_98 : decode cX3_about 98 = .ok (.aload_n 0, 1) := dk_42 (dk_at dksX3_about_3 14 rfl rfl)
theorem dX3_about_99 : decode cX3_about 99 = .ok (.getfield 59, 3) := dk_180 0 59 (dk_at dksX3_about_3 15 rfl rfl)
theorem dX3_about_102 : decode cX3_about 102 = .ok (.iload_n 1, 1) := dk_27 (dk_at dksX3_about_3 18 rfl rfl)
theorem dX3_about_103 : decode cX3_about 103 = .ok (.iaload, 1) := dk_46 (dk_at dksX3_about_3 19 rfl rfl)
theorem dX3_about_104 : decode cX3_about 104 = .ok (.ireturn, 1) := dk_172 (dk_at dksX3_about_3 20 rfl rfl)
theorem dX3_about_105 : decode cX3_about 105 = .ok (.aload_n 0, 1) := dk_42 (dk_at dksX3_about_3 21 rfl rfl)
theorem dX3_about_106 : decode cX3_about 106 = .ok (.iload_n 1, 1) := dk_27 (dk_at dksX3_about_3 22 rfl rfl)
theorem dX3_about_107 : decode cX3_about 107 = .ok (.invokevirtual 177, 3) := dk_182 0 177 (dk_at dksX3_about_4 0 rfl rfl)
theorem dX3_about_110 : decode cX3_about 110 = .ok (.ireturn, 1) := dk_172 (dk_at dksX3_about_4 3 rfl rfl)
theorem dX3_about_111 : decode cX3_about 111 = .ok (.aload_n 0, 1) := dk_42 (dk_at dksX3_about_4 4 rfl rfl)
theorem dX3_about_112 : decode cX3_about 112 = .ok (.iload_n 1, 1) := dk_27 (dk_at dksX3_about_4 5 rfl rfl)
theorem dX3_about_113 : decode cX3_about 113 = .ok (.invokevirtual 174, 3) := dk_182 0 174 (dk_at dksX3_about_4 6 rfl rfl)
theorem dX3_about_116 : decode cX3_about 116 = .ok (.ireturn, 1) := dk_172 (dk_at dksX3_about_4 9 rfl rfl)
theorem dX3_about_117 : decode cX3_about 117 = .ok (.aload_n 0, 1) := dk_42 (dk_at dksX3_about_4 10 rfl rfl)
theorem dX3_about_118 : decode cX3_about 118 = .ok (.getfield 65, 3) := dk_180 0 65 (dk_at dksX3_about_4 11 rfl rfl)
theorem dX3_about_121 : decode cX3_about 121 = .ok (.iload_n 1, 1) := dk_27 (dk_at dksX3_about_4 14 rfl rfl)
theorem dX3_about_122 : decode cX3_about 122 = .ok (.iaload, 1) := dk_46 (dk_at dksX3_about_4 15 rfl rfl)
theorem dX3_about_123 : decode cX3_about 123 = .ok (.ireturn, 1) := dk_172 (dk_at dksX3_about_4 16 rfl rfl)
theorem dX3_about_124 : decode cX3_about 124 = .ok (.aload_n 0, 1) := dk_42 (dk_at dksX3_about_4 17 rfl rfl)
theorem dX3_about_125 : decode cX3_about 125 = .ok (.getfield 68, 3) := dk_180 0 68 (dk_at dksX3_about_4 18 rfl rfl)
theorem dX3_about_128 : decode cX3_about 128 = .ok (.iload_n 1, 1) := dk_27 (dk_at dksX3_about_4 21 rfl rfl)
theorem dX3_about_129 : decode cX3_about 129 = .ok (.iaload, 1) := dk_46 (dk_at dksX3_about_4 22 rfl rfl)
theorem dX3_about_130 : decode cX3_about 130 = .ok (.ireturn, 1) := dk_172 (dk_at dksX3_about_4 23 rfl rfl)
theorem dX3_about_131 : decode cX3_about 131 = .ok (.aload_n 0, 1) := dk_42 (dk_at dksX3_about_5 0 rfl rfl)
theorem dX3_about_132 : decode cX3_about 132 = .ok (.iload_n 1, 1) := dk_27 (dk_at dksX3_about_5 1 rfl rfl)
theorem dX3_about_133 : decode cX3_about 133 = .ok (.invokevirtual 188, 3) := dk_182 0 188 (dk_at dksX3_about_5 2 rfl rfl)
theorem dX3_about_136 : decode cX3_about 136 = .ok (.ireturn, 1) := dk_172 (dk_at dksX3_about_5 5 rfl rfl)
theorem dX3_about_137 : decode cX3_about 137 = .ok (.aload_n 0, 1) := dk_42 (dk_at dksX3_about_5 6 rfl rfl)
theorem dX3_about_138 : decode cX3_about 138 = .ok (.getfield 53, 3) := dk_180 0 53 (dk_at dksX3_about_5 7 rfl rfl)
theorem dX3_about_141 : decode cX3_about 141 = .ok (.iconst 3, 1) := dk_6 (dk_at dksX3_about_5 10 rfl rfl)
theorem dX3_about_142 : decode cX3_about 142 = .ok (.iload_n 1, 1) := dk_27 (dk_at dksX3_about_5 11 rfl rfl)
theorem dX3_about_143 : decode cX3_about 143 = .ok (.imul, 1) := dk_104 (dk_at dksX3_about_5 12 rfl rfl)
theorem dX3_about_144 : decode cX3_about 144 = .ok (.iload_n 2, 1) := dk_28 (dk_at dksX3_about_5 13 rfl rfl)
theorem dX3_about_145 : decode cX3_about 145 = .ok (.iadd, 1) := dk_96 (dk_at dksX3_about_5 14 rfl rfl)
theorem dX3_about_146 : decode cX3_about 146 = .ok (.bipush 8, 2) := dk_16 8 (dk_at dksX3_about_5 15 rfl rfl)
theorem dX3_about_148 : decode cX3_about 148 = .ok (.isub, 1) := dk_100 (dk_at dksX3_about_5 17 rfl rfl)
theorem dX3_about_149 : decode cX3_about 149 = .ok (.iaload, 1) := dk_46 (dk_at dksX3_about_5 18 rfl rfl)
theorem dX3_about_150 : decode cX3_about 150 = .ok (.ireturn, 1) := dk_172 (dk_at dksX3_about_5 19 rfl rfl)
abbrev cX3_reservedFor : ByteArray := prog_19_method_35_code
def yX3_reservedFor : MethodName := ⟨RX3, "reservedFor", "(I)I"⟩
def dkwX3_reservedFor_1 : List UInt8 := [28, 42, 180, 0, 53, 6, 27, 104, 29, 96, 46, 96, 61, 132, 3, 1, 167, 255, 225, 28, 172]
abbrev dktX3_reservedFor_1 : List UInt8 := dkwX3_reservedFor_1 ++ []
def dkwX3_reservedFor_0 : List UInt8 := [3, 61, 42, 180, 0, 65, 27, 46, 62, 29, 6, 162, 0, 32, 42, 180, 0, 62, 27, 46, 5, 160, 0, 22]
abbrev dktX3_reservedFor_0 : List UInt8 := dkwX3_reservedFor_0 ++ dktX3_reservedFor_1
theorem dksX3_reservedFor_0 : cX3_reservedFor.data.toList.drop 0 = dktX3_reservedFor_0 := by decide +kernel
theorem dksX3_reservedFor_1 : cX3_reservedFor.data.toList.drop 24 = dktX3_reservedFor_1 := dk_seg dksX3_reservedFor_0 24 rfl rfl
theorem dX3_reservedFor_0 : decode cX3_reservedFor 0 = .ok (.iconst 0, 1) := dk_3 (dk_at dksX3_reservedFor_0 0 rfl rfl)
theorem dX3_reservedFor_1 : decode cX3_reservedFor 1 = .ok (.istore_n 2, 1) := dk_61 (dk_at dksX3_reservedFor_0 1 rfl rfl)
theorem dX3_reservedFor_2 : decode cX3_reservedFor 2 = .ok (.aload_n 0, 1) := dk_42 (dk_at dksX3_reservedFor_0 2 rfl rfl)
theorem dX3_reservedFor_3 : decode cX3_reservedFor 3 = .ok (.getfield 65, 3) := dk_180 0 65 (dk_at dksX3_reservedFor_0 3 rfl rfl)
theorem dX3_reservedFor_6 : decode cX3_reservedFor 6 = .ok (.iload_n 1, 1) := dk_27 (dk_at dksX3_reservedFor_0 6 rfl rfl)
theorem dX3_reservedFor_7 : decode cX3_reservedFor 7 = .ok (.iaload, 1) := dk_46 (dk_at dksX3_reservedFor_0 7 rfl rfl)
theorem dX3_reservedFor_8 : decode cX3_reservedFor 8 = .ok (.istore_n 3, 1) := dk_62 (dk_at dksX3_reservedFor_0 8 rfl rfl)
theorem dX3_reservedFor_9 : decode cX3_reservedFor 9 = .ok (.iload_n 3, 1) := dk_29 (dk_at dksX3_reservedFor_0 9 rfl rfl)
theorem dX3_reservedFor_10 : decode cX3_reservedFor 10 = .ok (.iconst 3, 1) := dk_6 (dk_at dksX3_reservedFor_0 10 rfl rfl)
theorem dX3_reservedFor_11 : decode cX3_reservedFor 11 = .ok (.if_icmp .ge 32, 3) := dk_162 0 32 (dk_at dksX3_reservedFor_0 11 rfl rfl)
theorem dX3_reservedFor_14 : decode cX3_reservedFor 14 = .ok (.aload_n 0, 1) := dk_42 (dk_at dksX3_reservedFor_0 14 rfl rfl)
theorem dX3_reservedFor_15 : decode cX3_reservedFor 15 = .ok (.getfield 62, 3) := dk_180 0 62 (dk_at dksX3_reservedFor_0 15 rfl rfl)
theorem dX3_reservedFor_18 : decode cX3_reservedFor 18 = .ok (.iload_n 1, 1) := dk_27 (dk_at dksX3_reservedFor_0 18 rfl rfl)
theorem dX3_reservedFor_19 : decode cX3_reservedFor 19 = .ok (.iaload, 1) := dk_46 (dk_at dksX3_reservedFor_0 19 rfl rfl)
theorem dX3_reservedFor_20 : decode cX3_reservedFor 20 = .ok (.iconst 2, 1) := dk_5 (dk_at dksX3_reservedFor_0 20 rfl rfl)
theorem dX3_reservedFor_21 : decode cX3_reservedFor 21 = .ok (.if_icmp .ne 22, 3) := dk_160 0 22 (dk_at dksX3_reservedFor_0 21 rfl rfl)
theorem dX3_reservedFor_24 : decode cX3_reservedFor 24 = .ok (.iload_n 2, 1) := dk_28 (dk_at dksX3_reservedFor_1 0 rfl rfl)
theorem dX3_reservedFor_25 : decode cX3_reservedFor 25 = .ok (.aload_n 0, 1) := dk_42 (dk_at dksX3_reservedFor_1 1 rfl rfl)
theorem dX3_reservedFor_26 : decode cX3_reservedFor 26 = .ok (.getfield 53, 3) := dk_180 0 53 (dk_at dksX3_reservedFor_1 2 rfl rfl)
theorem dX3_reservedFor_29 : decode cX3_reservedFor 29 = .ok (.iconst 3, 1) := dk_6 (dk_at dksX3_reservedFor_1 5 rfl rfl)
theorem dX3_reservedFor_30 : decode cX3_reservedFor 30 = .ok (.iload_n 1, 1) := dk_27 (dk_at dksX3_reservedFor_1 6 rfl rfl)
theorem dX3_reservedFor_31 : decode cX3_reservedFor 31 = .ok (.imul, 1) := dk_104 (dk_at dksX3_reservedFor_1 7 rfl rfl)
theorem dX3_reservedFor_32 : decode cX3_reservedFor 32 = .ok (.iload_n 3, 1) := dk_29 (dk_at dksX3_reservedFor_1 8 rfl rfl)
theorem dX3_reservedFor_33 : decode cX3_reservedFor 33 = .ok (.iadd, 1) := dk_96 (dk_at dksX3_reservedFor_1 9 rfl rfl)
theorem dX3_reservedFor_34 : decode cX3_reservedFor 34 = .ok (.iaload, 1) := dk_46 (dk_at dksX3_reservedFor_1 10 rfl rfl)
theorem dX3_reservedFor_35 : decode cX3_reservedFor 35 = .ok (.iadd, 1) := dk_96 (dk_at dksX3_reservedFor_1 11 rfl rfl)
theorem dX3_reservedFor_36 : decode cX3_reservedFor 36 = .ok (.istore_n 2, 1) := dk_61 (dk_at dksX3_reservedFor_1 12 rfl rfl)
theorem dX3_reservedFor_37 : decode cX3_reservedFor 37 = .ok (.iinc 3 1, 3) := dk_132 3 1 (dk_at dksX3_reservedFor_1 13 rfl rfl)
theorem dX3_reservedFor_40 : decode cX3_reservedFor 40 = .ok (.goto (-31), 3) := dk_167 255 225 (dk_at dksX3_reservedFor_1 16 rfl rfl)
theorem dX3_reservedFor_43 : decode cX3_reservedFor 43 = .ok (.iload_n 2, 1) := dk_28 (dk_at dksX3_reservedFor_1 19 rfl rfl)
theorem dX3_reservedFor_44 : decode cX3_reservedFor 44 = .ok (.ireturn, 1) := dk_172 (dk_at dksX3_reservedFor_1 20 rfl rfl)
abbrev cX3_account : ByteArray := prog_19_method_37_code
def yX3_account : MethodName := ⟨RX3, "account", "(III)I"⟩
def dkwX3_account_5 : List UInt8 := [42, 21, 4, 182, 0, 123, 167, 0, 10, 42, 180, 0, 7, 21, 4, 46, 172]
abbrev dktX3_account_5 : List UInt8 := dkwX3_account_5 ++ []
def dkwX3_account_4 : List UInt8 := [46, 167, 0, 39, 29, 5, 160, 0, 13, 42, 180, 0, 19, 21, 4, 46, 167, 0, 24, 29, 6, 160, 0, 12]
abbrev dktX3_account_4 : List UInt8 := dkwX3_account_4 ++ dktX3_account_5
def dkwX3_account_3 : List UInt8 := [154, 0, 13, 42, 180, 0, 13, 21, 4, 46, 167, 0, 54, 29, 4, 160, 0, 13, 42, 180, 0, 16, 21, 4]
abbrev dktX3_account_3 : List UInt8 := dkwX3_account_3 ++ dktX3_account_4
def dkwX3_account_2 : List UInt8 := [3, 172, 16, 12, 27, 104, 28, 96, 54, 4, 42, 180, 0, 7, 21, 4, 46, 2, 160, 0, 5, 2, 172, 29]
abbrev dktX3_account_2 : List UInt8 := dkwX3_account_2 ++ dktX3_account_3
def dkwX3_account_1 : List UInt8 := [153, 0, 12, 29, 3, 7, 184, 0, 102, 154, 0, 7, 4, 167, 0, 4, 3, 4, 182, 0, 106, 153, 0, 5]
abbrev dktX3_account_1 : List UInt8 := dkwX3_account_1 ++ dktX3_account_2
def dkwX3_account_0 : List UInt8 := [42, 3, 181, 0, 95, 42, 27, 3, 6, 184, 0, 102, 153, 0, 22, 28, 3, 16, 11, 184, 0, 102]
abbrev dktX3_account_0 : List UInt8 := dkwX3_account_0 ++ dktX3_account_1
theorem dksX3_account_0 : cX3_account.data.toList.drop 0 = dktX3_account_0 := by decide +kernel
theorem dksX3_account_1 : cX3_account.data.toList.drop 22 = dktX3_account_1 := dk_seg dksX3_account_0 22 rfl rfl
theorem dksX3_account_2 : cX3_account.data.toList.drop 46 = dktX3_account_2 := dk_seg dksX3_account_1 24 rfl rfl
theorem dksX3_account_3 : cX3_account.data.toList.drop 70 = dktX3_account_3 := dk_seg dksX3_account_2 24 rfl rfl
theorem dksX3_account_4 : cX3_account.data.toList.drop 94 = dktX3_account_4 := dk_seg dksX3_account_3 24 rfl rfl
theorem dksX3_account_5 : cX3_account.data.toList.drop 118 = dktX3_account_5 := dk_seg dksX3_account_4 24 rfl rfl
theorem dX3_account_0 : decode cX3_account 0 = .ok (.aload_n 0, 1) := dk_42 (dk_at dksX3_account_0 0 rfl rfl)
theorem dX3_account_1 : decode cX3_account 1 = .ok (.iconst 0, 1) := dk_3 (dk_at dksX3_account_0 1 rfl rfl)
theorem dX3_account_2 : decode cX3_account 2 = .ok (.putfield 95, 3) := dk_181 0 95 (dk_at dksX3_account_0 2 rfl rfl)
theorem dX3_account_5 : decode cX3_account 5 = .ok (.aload_n 0, 1) := dk_42 (dk_at dksX3_account_0 5 rfl rfl)
theorem dX3_account_6 : decode cX3_account 6 = .ok (.iload_n 1, 1) := dk_27 (dk_at dksX3_account_0 6 rfl rfl)
theorem dX3_account_7 : decode cX3_account 7 = .ok (.iconst 0, 1) := dk_3 (dk_at dksX3_account_0 7 rfl rfl)
theorem dX3_account_8 : decode cX3_account 8 = .ok (.iconst 3, 1) := dk_6 (dk_at dksX3_account_0 8 rfl rfl)
theorem dX3_account_9 : decode cX3_account 9 = .ok (.invokestatic 102, 3) := dk_184 0 102 (dk_at dksX3_account_0 9 rfl rfl)
theorem dX3_account_12 : decode cX3_account 12 = .ok (.ifCond .eq 22, 3) := dk_153 0 22 (dk_at dksX3_account_0 12 rfl rfl)
theorem dX3_account_15 : decode cX3_account 15 = .ok (.iload_n 2, 1) := dk_28 (dk_at dksX3_account_0 15 rfl rfl)
theorem dX3_account_16 : decode cX3_account 16 = .ok (.iconst 0, 1) := dk_3 (dk_at dksX3_account_0 16 rfl rfl)
theorem dX3_account_17 : decode cX3_account 17 = .ok (.bipush 11, 2) := dk_16 11 (dk_at dksX3_account_0 17 rfl rfl)
theorem dX3_account_19 : decode cX3_account 19 = .ok (.invokestatic 102, 3) := dk_184 0 102 (dk_at dksX3_account_0 19 rfl rfl)
theorem dX3_account_22 : decode cX3_account 22 = .ok (.ifCond .eq 12, 3) := dk_153 0 12 (dk_at dksX3_account_1 0 rfl rfl)
theorem dX3_account_25 : decode cX3_account 25 = .ok (.iload_n 3, 1) := dk_29 (dk_at dksX3_account_1 3 rfl rfl)
theorem dX3_account_26 : decode cX3_account 26 = .ok (.iconst 0, 1) := dk_3 (dk_at dksX3_account_1 4 rfl rfl)
theorem dX3_account_27 : decode cX3_account 27 = .ok (.iconst 4, 1) := dk_7 (dk_at dksX3_account_1 5 rfl rfl)
theorem dX3_account_28 : decode cX3_account 28 = .ok (.invokestatic 102, 3) := dk_184 0 102 (dk_at dksX3_account_1 6 rfl rfl)
theorem dX3_account_31 : decode cX3_account 31 = .ok (.ifCond .ne 7, 3) := dk_154 0 7 (dk_at dksX3_account_1 9 rfl rfl)
theorem dX3_account_34 : decode cX3_account 34 = .ok (.iconst 1, 1) := dk_4 (dk_at dksX3_account_1 12 rfl rfl)
theorem dX3_account_35 : decode cX3_account 35 = .ok (.goto 4, 3) := dk_167 0 4 (dk_at dksX3_account_1 13 rfl rfl)
theorem dX3_account_38 : decode cX3_account 38 = .ok (.iconst 0, 1) := dk_3 (dk_at dksX3_account_1 16 rfl rfl)
theorem dX3_account_39 : decode cX3_account 39 = .ok (.iconst 1, 1) := dk_4 (dk_at dksX3_account_1 17 rfl rfl)
theorem dX3_account_40 : decode cX3_account 40 = .ok (.invokevirtual 106, 3) := dk_182 0 106 (dk_at dksX3_account_1 18 rfl rfl)
theorem dX3_account_43 : decode cX3_account 43 = .ok (.ifCond .eq 5, 3) := dk_153 0 5 (dk_at dksX3_account_1 21 rfl rfl)
theorem dX3_account_46 : decode cX3_account 46 = .ok (.iconst 0, 1) := dk_3 (dk_at dksX3_account_2 0 rfl rfl)
theorem dX3_account_47 : decode cX3_account 47 = .ok (.ireturn, 1) := dk_172 (dk_at dksX3_account_2 1 rfl rfl)
theorem dX3_account_48 : decode cX3_account 48 = .ok (.bipush 12, 2) := dk_16 12 (dk_at dksX3_account_2 2 rfl rfl)
theorem dX3_account_50 : decode cX3_account 50 = .ok (.iload_n 1, 1) := dk_27 (dk_at dksX3_account_2 4 rfl rfl)
theorem dX3_account_51 : decode cX3_account 51 = .ok (.imul, 1) := dk_104 (dk_at dksX3_account_2 5 rfl rfl)
theorem dX3_account_52 : decode cX3_account 52 = .ok (.iload_n 2, 1) := dk_28 (dk_at dksX3_account_2 6 rfl rfl)
theorem dX3_account_53 : decode cX3_account 53 = .ok (.iadd, 1) := dk_96 (dk_at dksX3_account_2 7 rfl rfl)
theorem dX3_account_54 : decode cX3_account 54 = .ok (.istore 4, 2) := dk_54 4 (dk_at dksX3_account_2 8 rfl rfl)
theorem dX3_account_56 : decode cX3_account 56 = .ok (.aload_n 0, 1) := dk_42 (dk_at dksX3_account_2 10 rfl rfl)
theorem dX3_account_57 : decode cX3_account 57 = .ok (.getfield 7, 3) := dk_180 0 7 (dk_at dksX3_account_2 11 rfl rfl)
theorem dX3_account_60 : decode cX3_account 60 = .ok (.iload 4, 2) := dk_21 4 (dk_at dksX3_account_2 14 rfl rfl)
theorem dX3_account_62 : decode cX3_account 62 = .ok (.iaload, 1) := dk_46 (dk_at dksX3_account_2 16 rfl rfl)
theorem dX3_account_63 : decode cX3_account 63 = .ok (.iconst (-1), 1) := dk_2 (dk_at dksX3_account_2 17 rfl rfl)
theorem dX3_account_64 : decode cX3_account 64 = .ok (.if_icmp .ne 5, 3) := dk_160 0 5 (dk_at dksX3_account_2 18 rfl rfl)
theorem dX3_account_67 : decode cX3_account 67 = .ok (.iconst (-1), 1) := dk_2 (dk_at dksX3_account_2 21 rfl rfl)
theorem dX3_account_68 : decode cX3_account 68 = .ok (.ireturn, 1) := dk_172 (dk_at dksX3_account_2 22 rfl rfl)
theorem dX3_account_69 : decode cX3_account 69 = .ok (.iload_n 3, 1) := dk_29 (dk_at dksX3_account_2 23 rfl rfl)
theorem dX3_account_70 : decode cX3_account 70 = .ok (.ifCond .ne 13, 3) := dk_154 0 13 (dk_at dksX3_account_3 0 rfl rfl)
theorem dX3_account_73 : decode cX3_account 73 = .ok (.aload_n 0, 1) := dk_42 (dk_at dksX3_account_3 3 rfl rfl)
theorem dX3_account_74 : decode cX3_account 74 = .ok (.getfield 13, 3) := dk_180 0 13 (dk_at dksX3_account_3 4 rfl rfl)
theorem dX3_account_77 : decode cX3_account 77 = .ok (.iload 4, 2) := dk_21 4 (dk_at dksX3_account_3 7 rfl rfl)
theorem dX3_account_79 : decode cX3_account 79 = .ok (.iaload, 1) := dk_46 (dk_at dksX3_account_3 9 rfl rfl)
theorem dX3_account_80 : decode cX3_account 80 = .ok (.goto 54, 3) := dk_167 0 54 (dk_at dksX3_account_3 10 rfl rfl)
theorem dX3_account_83 : decode cX3_account 83 = .ok (.iload_n 3, 1) := dk_29 (dk_at dksX3_account_3 13 rfl rfl)
theorem dX3_account_84 : decode cX3_account 84 = .ok (.iconst 1, 1) := dk_4 (dk_at dksX3_account_3 14 rfl rfl)
theorem dX3_account_85 : decode cX3_account 85 = .ok (.if_icmp .ne 13, 3) := dk_160 0 13 (dk_at dksX3_account_3 15 rfl rfl)
theorem dX3_account_88 : decode cX3_account 88 = .ok (.aload_n 0, 1) := dk_42 (dk_at dksX3_account_3 18 rfl rfl)
theorem dX3_account_89 : decode cX3_account 89 = .ok (.getfield 16, 3) := dk_180 0 16 (dk_at dksX3_account_3 19 rfl rfl)
theorem dX3_account_92 : decode cX3_account 92 = .ok (.iload 4, 2) := dk_21 4 (dk_at dksX3_account_3 22 rfl rfl)
theorem dX3_account_94 : decode cX3_account 94 = .ok (.iaload, 1) := dk_46 (dk_at dksX3_account_4 0 rfl rfl)
theorem dX3_account_95 : decode cX3_account 95 = .ok (.goto 39, 3) := dk_167 0 39 (dk_at dksX3_account_4 1 rfl rfl)
theorem dX3_account_98 : decode cX3_account 98 = .ok (.iload_n 3, 1) := dk_29 (dk_at dksX3_account_4 4 rfl rfl)
theorem dX3_account_99 : decode cX3_account 99 = .ok (.iconst 2, 1) := dk_5 (dk_at dksX3_account_4 5 rfl rfl)
theorem dX3_account_100 : decode cX3_account 100 = .ok (.if_icmp .ne 13, 3) := dk_160 0 13 (dk_at dksX3_account_4 6 rfl rfl)
theorem dX3_account_103 : decode cX3_account 103 = .ok (.aload_n 0, 1) := dk_42 (dk_at dksX3_account_4 9 rfl rfl)
theorem dX3_account_104 : decode cX3_account 104 = .ok (.getfield 19, 3) := dk_180 0 19 (dk_at dksX3_account_4 10 rfl rfl)
theorem dX3_account_107 : decode cX3_account 107 = .ok (.iload 4, 2) := dk_21 4 (dk_at dksX3_account_4 13 rfl rfl)
theorem dX3_account_109 : decode cX3_account 109 = .ok (.iaload, 1) := dk_46 (dk_at dksX3_account_4 15 rfl rfl)
theorem dX3_account_110 : decode cX3_account 110 = .ok (.goto 24, 3) := dk_167 0 24 (dk_at dksX3_account_4 16 rfl rfl)
theorem dX3_account_113 : decode cX3_account 113 = .ok (.iload_n 3, 1) := dk_29 (dk_at dksX3_account_4 19 rfl rfl)
theorem dX3_account_114 : decode cX3_account 114 = .ok (.iconst 3, 1) := dk_6 (dk_at dksX3_account_4 20 rfl rfl)
theorem dX3_account_115 : decode cX3_account 115 = .ok (.if_icmp .ne 12, 3) := dk_160 0 12 (dk_at dksX3_account_4 21 rfl rfl)
theorem dX3_account_118 : decode cX3_account 118 = .ok (.aload_n 0, 1) := dk_42 (dk_at dksX3_account_5 0 rfl rfl)
theorem dX3_account_119 : decode cX3_account 119 = .ok (.iload 4, 2) := dk_21 4 (dk_at dksX3_account_5 1 rfl rfl)
theorem dX3_account_121 : decode cX3_account 121 = .ok (.invokevirtual 123, 3) := dk_182 0 123 (dk_at dksX3_account_5 3 rfl rfl)
theorem dX3_account_124 : decode cX3_account 124 = .ok (.goto 10, 3) := dk_167 0 10 (dk_at dksX3_account_5 6 rfl rfl)
theorem dX3_account_127 : decode cX3_account 127 = .ok (.aload_n 0, 1) := dk_42 (dk_at dksX3_account_5 9 rfl rfl)
theorem dX3_account_128 : decode cX3_account 128 = .ok (.getfield 7, 3) := dk_180 0 7 (dk_at dksX3_account_5 10 rfl rfl)
theorem dX3_account_131 : decode cX3_account 131 = .ok (.iload 4, 2) := dk_21 4 (dk_at dksX3_account_5 13 rfl rfl)
theorem dX3_account_133 : decode cX3_account 133 = .ok (.iaload, 1) := dk_46 (dk_at dksX3_account_5 15 rfl rfl)
theorem dX3_account_134 : decode cX3_account 134 = .ok (.ireturn, 1) := dk_172 (dk_at dksX3_account_5 16 rfl rfl)
abbrev cX3_waiting : ByteArray := prog_19_method_38_code
def yX3_waiting : MethodName := ⟨RX3, "waiting", "(II)I"⟩
def dkwX3_waiting_5 : List UInt8 := [29, 167, 0, 5, 21, 4, 172]
abbrev dktX3_waiting_5 : List UInt8 := dkwX3_waiting_5 ++ []
def dkwX3_waiting_4 : List UInt8 := [154, 0, 7, 4, 167, 0, 4, 3, 5, 182, 0, 106, 153, 0, 7, 3, 167, 0, 14, 28, 2, 160, 0, 7]
abbrev dktX3_waiting_4 : List UInt8 := dkwX3_waiting_4 ++ dktX3_waiting_5
def dkwX3_waiting_3 : List UInt8 := [21, 4, 54, 4, 132, 3, 1, 132, 5, 1, 167, 255, 200, 42, 28, 2, 29, 4, 100, 184, 0, 102]
abbrev dktX3_waiting_3 : List UInt8 := dkwX3_waiting_3 ++ dktX3_waiting_4
def dkwX3_waiting_2 : List UInt8 := [54, 6, 42, 180, 0, 62, 21, 6, 46, 4, 160, 0, 20, 29, 28, 160, 0, 8, 21, 6, 167, 0, 5]
abbrev dktX3_waiting_2 : List UInt8 := dkwX3_waiting_2 ++ dktX3_waiting_3
def dkwX3_waiting_1 : List UInt8 := [21, 5, 42, 180, 0, 38, 27, 46, 162, 0, 51, 42, 180, 0, 41, 16, 24, 27, 104, 21, 5, 96, 46]
abbrev dktX3_waiting_1 : List UInt8 := dkwX3_waiting_1 ++ dktX3_waiting_2
def dkwX3_waiting_0 : List UInt8 := [42, 3, 181, 0, 95, 42, 27, 182, 0, 151, 153, 0, 5, 3, 172, 3, 62, 2, 54, 4, 3, 54, 5]
abbrev dktX3_waiting_0 : List UInt8 := dkwX3_waiting_0 ++ dktX3_waiting_1
theorem dksX3_waiting_0 : cX3_waiting.data.toList.drop 0 = dktX3_waiting_0 := by decide +kernel
theorem dksX3_waiting_1 : cX3_waiting.data.toList.drop 23 = dktX3_waiting_1 := dk_seg dksX3_waiting_0 23 rfl rfl
theorem dksX3_waiting_2 : cX3_waiting.data.toList.drop 46 = dktX3_waiting_2 := dk_seg dksX3_waiting_1 23 rfl rfl
theorem dksX3_waiting_3 : cX3_waiting.data.toList.drop 69 = dktX3_waiting_3 := dk_seg dksX3_waiting_2 23 rfl rfl
theorem dksX3_waiting_4 : cX3_waiting.data.toList.drop 91 = dktX3_waiting_4 := dk_seg dksX3_waiting_3 22 rfl rfl
theorem dksX3_waiting_5 : cX3_waiting.data.toList.drop 115 = dktX3_waiting_5 := dk_seg dksX3_waiting_4 24 rfl rfl
theorem dX3_waiting_0 : decode cX3_waiting 0 = .ok (.aload_n 0, 1) := dk_42 (dk_at dksX3_waiting_0 0 rfl rfl)
theorem dX3_waiting_1 : decode cX3_waiting 1 = .ok (.iconst 0, 1) := dk_3 (dk_at dksX3_waiting_0 1 rfl rfl)
theorem dX3_waiting_2 : decode cX3_waiting 2 = .ok (.putfield 95, 3) := dk_181 0 95 (dk_at dksX3_waiting_0 2 rfl rfl)
theorem dX3_waiting_5 : decode cX3_waiting 5 = .ok (.aload_n 0, 1) := dk_42 (dk_at dksX3_waiting_0 5 rfl rfl)
theorem dX3_waiting_6 : decode cX3_waiting 6 = .ok (.iload_n 1, 1) := dk_27 (dk_at dksX3_waiting_0 6 rfl rfl)
theorem dX3_waiting_7 : decode cX3_waiting 7 = .ok (.invokevirtual 151, 3) := dk_182 0 151 (dk_at dksX3_waiting_0 7 rfl rfl)
theorem dX3_waiting_10 : decode cX3_waiting 10 = .ok (.ifCond .eq 5, 3) := dk_153 0 5 (dk_at dksX3_waiting_0 10 rfl rfl)
theorem dX3_waiting_13 : decode cX3_waiting 13 = .ok (.iconst 0, 1) := dk_3 (dk_at dksX3_waiting_0 13 rfl rfl)
theorem dX3_waiting_14 : decode cX3_waiting 14 = .ok (.ireturn, 1) := dk_172 (dk_at dksX3_waiting_0 14 rfl rfl)
theorem dX3_waiting_15 : decode cX3_waiting 15 = .ok (.iconst 0, 1) := dk_3 (dk_at dksX3_waiting_0 15 rfl rfl)
theorem dX3_waiting_16 : decode cX3_waiting 16 = .ok (.istore_n 3, 1) := dk_62 (dk_at dksX3_waiting_0 16 rfl rfl)
theorem dX3_waiting_17 : decode cX3_waiting 17 = .ok (.iconst (-1), 1) := dk_2 (dk_at dksX3_waiting_0 17 rfl rfl)
theorem dX3_waiting_18 : decode cX3_waiting 18 = .ok (.istore 4, 2) := dk_54 4 (dk_at dksX3_waiting_0 18 rfl rfl)
theorem dX3_waiting_20 : decode cX3_waiting 20 = .ok (.iconst 0, 1) := dk_3 (dk_at dksX3_waiting_0 20 rfl rfl)
theorem dX3_waiting_21 : decode cX3_waiting 21 = .ok (.istore 5, 2) := dk_54 5 (dk_at dksX3_waiting_0 21 rfl rfl)
theorem dX3_waiting_23 : decode cX3_waiting 23 = .ok (.iload 5, 2) := dk_21 5 (dk_at dksX3_waiting_1 0 rfl rfl)
theorem dX3_waiting_25 : decode cX3_waiting 25 = .ok (.aload_n 0, 1) := dk_42 (dk_at dksX3_waiting_1 2 rfl rfl)
theorem dX3_waiting_26 : decode cX3_waiting 26 = .ok (.getfield 38, 3) := dk_180 0 38 (dk_at dksX3_waiting_1 3 rfl rfl)
theorem dX3_waiting_29 : decode cX3_waiting 29 = .ok (.iload_n 1, 1) := dk_27 (dk_at dksX3_waiting_1 6 rfl rfl)
theorem dX3_waiting_30 : decode cX3_waiting 30 = .ok (.iaload, 1) := dk_46 (dk_at dksX3_waiting_1 7 rfl rfl)
theorem dX3_waiting_31 : decode cX3_waiting 31 = .ok (.if_icmp .ge 51, 3) := dk_162 0 51 (dk_at dksX3_waiting_1 8 rfl rfl)
theorem dX3_waiting_34 : decode cX3_waiting 34 = .ok (.aload_n 0, 1) := dk_42 (dk_at dksX3_waiting_1 11 rfl rfl)
theorem dX3_waiting_35 : decode cX3_waiting 35 = .ok (.getfield 41, 3) := dk_180 0 41 (dk_at dksX3_waiting_1 12 rfl rfl)
theorem dX3_waiting_38 : decode cX3_waiting 38 = .ok (.bipush 24, 2) := dk_16 24 (dk_at dksX3_waiting_1 15 rfl rfl)
theorem dX3_waiting_40 : decode cX3_waiting 40 = .ok (.iload_n 1, 1) := dk_27 (dk_at dksX3_waiting_1 17 rfl rfl)
theorem dX3_waiting_41 : decode cX3_waiting 41 = .ok (.imul, 1) := dk_104 (dk_at dksX3_waiting_1 18 rfl rfl)
theorem dX3_waiting_42 : decode cX3_waiting 42 = .ok (.iload 5, 2) := dk_21 5 (dk_at dksX3_waiting_1 19 rfl rfl)
theorem dX3_waiting_44 : decode cX3_waiting 44 = .ok (.iadd, 1) := dk_96 (dk_at dksX3_waiting_1 21 rfl rfl)
theorem dX3_waiting_45 : decode cX3_waiting 45 = .ok (.iaload, 1) := dk_46 (dk_at dksX3_waiting_1 22 rfl rfl)
theorem dX3_waiting_46 : decode cX3_waiting 46 = .ok (.istore 6, 2) := dk_54 6 (dk_at dksX3_waiting_2 0 rfl rfl)
theorem dX3_waiting_48 : decode cX3_waiting 48 = .ok (.aload_n 0, 1) := dk_42 (dk_at dksX3_waiting_2 2 rfl rfl)
theorem dX3_waiting_49 : decode cX3_waiting 49 = .ok (.getfield 62, 3) := dk_180 0 62 (dk_at dksX3_waiting_2 3 rfl rfl)
theorem dX3_waiting_52 : decode cX3_waiting 52 = .ok (.iload 6, 2) := dk_21 6 (dk_at dksX3_waiting_2 6 rfl rfl)
theorem dX3_waiting_54 : decode cX3_waiting 54 = .ok (.iaload, 1) := dk_46 (dk_at dksX3_waiting_2 8 rfl rfl)
theorem dX3_waiting_55 : decode cX3_waiting 55 = .ok (.iconst 1, 1) := dk_4 (dk_at dksX3_waiting_2 9 rfl rfl)
theorem dX3_waiting_56 : decode cX3_waiting 56 = .ok (.if_icmp .ne 20, 3) := dk_160 0 20 (dk_at dksX3_waiting_2 10 rfl rfl)
theorem dX3_waiting_59 : decode cX3_waiting 59 = .ok (.iload_n 3, 1) := dk_29 (dk_at dksX3_waiting_2 13 rfl rfl)
theorem dX3_waiting_60 : decode cX3_waiting 60 = .ok (.iload_n 2, 1) := dk_28 (dk_at dksX3_waiting_2 14 rfl rfl)
theorem dX3_waiting_61 : decode cX3_waiting 61 = .ok (.if_icmp .ne 8, 3) := dk_160 0 8 (dk_at dksX3_waiting_2 15 rfl rfl)
theorem dX3_waiting_64 : decode cX3_waiting 64 = .ok (.iload 6, 2) := dk_21 6 (dk_at dksX3_waiting_2 18 rfl rfl)
theorem dX3_waiting_66 : decode cX3_waiting 66 = .ok (.goto 5, 3) := dk_167 0 5 (dk_at dksX3_waiting_2 20 rfl rfl)
theorem dX3_waiting_69 : decode cX3_waiting 69 = .ok (.iload 4, 2) := dk_21 4 (dk_at dksX3_waiting_3 0 rfl rfl)
theorem dX3_waiting_71 : decode cX3_waiting 71 = .ok (.istore 4, 2) := dk_54 4 (dk_at dksX3_waiting_3 2 rfl rfl)
theorem dX3_waiting_73 : decode cX3_waiting 73 = .ok (.iinc 3 1, 3) := dk_132 3 1 (dk_at dksX3_waiting_3 4 rfl rfl)
theorem dX3_waiting_76 : decode cX3_waiting 76 = .ok (.iinc 5 1, 3) := dk_132 5 1 (dk_at dksX3_waiting_3 7 rfl rfl)
theorem dX3_waiting_79 : decode cX3_waiting 79 = .ok (.goto (-56), 3) := dk_167 255 200 (dk_at dksX3_waiting_3 10 rfl rfl)
theorem dX3_waiting_82 : decode cX3_waiting 82 = .ok (.aload_n 0, 1) := dk_42 (dk_at dksX3_waiting_3 13 rfl rfl)
theorem dX3_waiting_83 : decode cX3_waiting 83 = .ok (.iload_n 2, 1) := dk_28 (dk_at dksX3_waiting_3 14 rfl rfl)
theorem dX3_waiting_84 : decode cX3_waiting 84 = .ok (.iconst (-1), 1) := dk_2 (dk_at dksX3_waiting_3 15 rfl rfl)
theorem dX3_waiting_85 : decode cX3_waiting 85 = .ok (.iload_n 3, 1) := dk_29 (dk_at dksX3_waiting_3 16 rfl rfl)
theorem dX3_waiting_86 : decode cX3_waiting 86 = .ok (.iconst 1, 1) := dk_4 (dk_at dksX3_waiting_3 17 rfl rfl)
theorem dX3_waiting_87 : decode cX3_waiting 87 = .ok (.isub, 1) := dk_100 (dk_at dksX3_waiting_3 18 rfl rfl)
theorem dX3_waiting_88 : decode cX3_waiting 88 = .ok (.invokestatic 102, 3) := dk_184 0 102 (dk_at dksX3_waiting_3 19 rfl rfl)
theorem dX3_waiting_91 : decode cX3_waiting 91 = .ok (.ifCond .ne 7, 3) := dk_154 0 7 (dk_at dksX3_waiting_4 0 rfl rfl)
theorem dX3_waiting_94 : decode cX3_waiting 94 = .ok (.iconst 1, 1) := dk_4 (dk_at dksX3_waiting_4 3 rfl rfl)
theorem dX3_waiting_95 : decode cX3_waiting 95 = .ok (.goto 4, 3) := dk_167 0 4 (dk_at dksX3_waiting_4 4 rfl rfl)
theorem dX3_waiting_98 : decode cX3_waiting 98 = .ok (.iconst 0, 1) := dk_3 (dk_at dksX3_waiting_4 7 rfl rfl)
theorem dX3_waiting_99 : decode cX3_waiting 99 = .ok (.iconst 2, 1) := dk_5 (dk_at dksX3_waiting_4 8 rfl rfl)
theorem dX3_waiting_100 : decode cX3_waiting 100 = .ok (.invokevirtual 106, 3) := dk_182 0 106 (dk_at dksX3_waiting_4 9 rfl rfl)
theorem dX3_waiting_103 : decode cX3_waiting 103 = .ok (.ifCond .eq 7, 3) := dk_153 0 7 (dk_at dksX3_waiting_4 12 rfl rfl)
theorem dX3_waiting_106 : decode cX3_waiting 106 = .ok (.iconst 0, 1) := dk_3 (dk_at dksX3_waiting_4 15 rfl rfl)
theorem dX3_waiting_107 : decode cX3_waiting 107 = .ok (.goto 14, 3) := dk_167 0 14 (dk_at dksX3_waiting_4 16 rfl rfl)
theorem dX3_waiting_110 : decode cX3_waiting 110 = .ok (.iload_n 2, 1) := dk_28 (dk_at dksX3_waiting_4 19 rfl rfl)
theorem dX3_waiting_111 : decode cX3_waiting 111 = .ok (.iconst (-1), 1) := dk_2 (dk_at dksX3_waiting_4 20 rfl rfl)
theorem dX3_waiting_112 : decode cX3_waiting 112 = .ok (.if_icmp .ne 7, 3) := dk_160 0 7 (dk_at dksX3_waiting_4 21 rfl rfl)
theorem dX3_waiting_115 : decode cX3_waiting 115 = .ok (.iload_n 3, 1) := dk_29 (dk_at dksX3_waiting_5 0 rfl rfl)
theorem dX3_waiting_116 : decode cX3_waiting 116 = .ok (.goto 5, 3) := dk_167 0 5 (dk_at dksX3_waiting_5 1 rfl rfl)
theorem dX3_waiting_119 : decode cX3_waiting 119 = .ok (.iload 4, 2) := dk_21 4 (dk_at dksX3_waiting_5 4 rfl rfl)
theorem dX3_waiting_121 : decode cX3_waiting 121 = .ok (.ireturn, 1) := dk_172 (dk_at dksX3_waiting_5 6 rfl rfl)
abbrev cX3_ledger : ByteArray := prog_19_method_39_code
def yX3_ledger : MethodName := ⟨RX3, "ledger", "(II)I"⟩
def dkwX3_ledger_5 : List UInt8 := [27, 46, 172]
abbrev dktX3_ledger_5 : List UInt8 := dkwX3_ledger_5 ++ []
def dkwX3_ledger_4 : List UInt8 := [167, 0, 26, 28, 5, 160, 0, 15, 42, 180, 0, 89, 27, 46, 16, 12, 112, 167, 0, 9, 42, 180, 0, 92]
abbrev dktX3_ledger_4 : List UInt8 := dkwX3_ledger_4 ++ dktX3_ledger_5
def dkwX3_ledger_3 : List UInt8 := [42, 180, 0, 86, 27, 46, 167, 0, 43, 28, 4, 160, 0, 15, 42, 180, 0, 89, 27, 46, 16, 12, 108]
abbrev dktX3_ledger_3 : List UInt8 := dkwX3_ledger_3 ++ dktX3_ledger_4
def dkwX3_ledger_2 : List UInt8 := [184, 0, 102, 154, 0, 7, 4, 167, 0, 4, 3, 5, 182, 0, 106, 153, 0, 5, 3, 172, 28, 154, 0, 12]
abbrev dktX3_ledger_2 : List UInt8 := dkwX3_ledger_2 ++ dktX3_ledger_3
def dkwX3_ledger_1 : List UInt8 := [184, 0, 102, 154, 0, 7, 4, 167, 0, 4, 3, 4, 182, 0, 106, 154, 0, 25, 42, 28, 3, 6]
abbrev dktX3_ledger_1 : List UInt8 := dkwX3_ledger_1 ++ dktX3_ledger_2
def dkwX3_ledger_0 : List UInt8 := [42, 3, 181, 0, 95, 27, 2, 160, 0, 8, 42, 180, 0, 116, 172, 42, 27, 3, 42, 180, 0, 116, 4, 100]
abbrev dktX3_ledger_0 : List UInt8 := dkwX3_ledger_0 ++ dktX3_ledger_1
theorem dksX3_ledger_0 : cX3_ledger.data.toList.drop 0 = dktX3_ledger_0 := by decide +kernel
theorem dksX3_ledger_1 : cX3_ledger.data.toList.drop 24 = dktX3_ledger_1 := dk_seg dksX3_ledger_0 24 rfl rfl
theorem dksX3_ledger_2 : cX3_ledger.data.toList.drop 46 = dktX3_ledger_2 := dk_seg dksX3_ledger_1 22 rfl rfl
theorem dksX3_ledger_3 : cX3_ledger.data.toList.drop 70 = dktX3_ledger_3 := dk_seg dksX3_ledger_2 24 rfl rfl
theorem dksX3_ledger_4 : cX3_ledger.data.toList.drop 93 = dktX3_ledger_4 := dk_seg dksX3_ledger_3 23 rfl rfl
theorem dksX3_ledger_5 : cX3_ledger.data.toList.drop 117 = dktX3_ledger_5 := dk_seg dksX3_ledger_4 24 rfl rfl
theorem dX3_ledger_0 : decode cX3_ledger 0 = .ok (.aload_n 0, 1) := dk_42 (dk_at dksX3_ledger_0 0 rfl rfl)
theorem dX3_ledger_1 : decode cX3_ledger 1 = .ok (.iconst 0, 1) := dk_3 (dk_at dksX3_ledger_0 1 rfl rfl)
theorem dX3_ledger_2 : decode cX3_ledger 2 = .ok (.putfield 95, 3) := dk_181 0 95 (dk_at dksX3_ledger_0 2 rfl rfl)
theorem dX3_ledger_5 : decode cX3_ledger 5 = .ok (.iload_n 1, 1) := dk_27 (dk_at dksX3_ledger_0 5 rfl rfl)
theorem dX3_ledger_6 : decode cX3_ledger 6 = .ok (.iconst (-1), 1) := dk_2 (dk_at dksX3_ledger_0 6 rfl rfl)
theorem dX3_ledger_7 : decode cX3_ledger 7 = .ok (.if_icmp .ne 8, 3) := dk_160 0 8 (dk_at dksX3_ledger_0 7 rfl rfl)
theorem dX3_ledger_10 : decode cX3_ledger 10 = .ok (.aload_n 0, 1) := dk_42 (dk_at dksX3_ledger_0 10 rfl rfl)
theorem dX3_ledger_11 : decode cX3_ledger 11 = .ok (.getfield 116, 3) := dk_180 0 116 (dk_at dksX3_ledger_0 11 rfl rfl)
theorem dX3_ledger_14 : decode cX3_ledger 14 = .ok (.ireturn, 1) := dk_172 (dk_at dksX3_ledger_0 14 rfl rfl)
theorem dX3_ledger_15 : decode cX3_ledger 15 = .ok (.aload_n 0, 1) := dk_42 (dk_at dksX3_ledger_0 15 rfl rfl)
theorem dX3_ledger_16 : decode cX3_ledger 16 = .ok (.iload_n 1, 1) := dk_27 (dk_at dksX3_ledger_0 16 rfl rfl)
theorem dX3_ledger_17 : decode cX3_ledger 17 = .ok (.iconst 0, 1) := dk_3 (dk_at dksX3_ledger_0 17 rfl rfl)
theorem dX3_ledger_18 : decode cX3_ledger 18 = .ok (.aload_n 0, 1) := dk_42 (dk_at dksX3_ledger_0 18 rfl rfl)
theorem dX3_ledger_19 : decode cX3_ledger 19 = .ok (.getfield 116, 3) := dk_180 0 116 (dk_at dksX3_ledger_0 19 rfl rfl)
theorem dX3_ledger_22 : decode cX3_ledger 22 = .ok (.iconst 1, 1) := dk_4 (dk_at dksX3_ledger_0 22 rfl rfl)
theorem dX3_ledger_23 : decode cX3_ledger 23 = .ok (.isub, 1) := dk_100 (dk_at dksX3_ledger_0 23 rfl rfl)
theorem dX3_ledger_24 : decode cX3_ledger 24 = .ok (.invokestatic 102, 3) := dk_184 0 102 (dk_at dksX3_ledger_1 0 rfl rfl)
theorem dX3_ledger_27 : decode cX3_ledger 27 = .ok (.ifCond .ne 7, 3) := dk_154 0 7 (dk_at dksX3_ledger_1 3 rfl rfl)
theorem dX3_ledger_30 : decode cX3_ledger 30 = .ok (.iconst 1, 1) := dk_4 (dk_at dksX3_ledger_1 6 rfl rfl)
theorem dX3_ledger_31 : decode cX3_ledger 31 = .ok (.goto 4, 3) := dk_167 0 4 (dk_at dksX3_ledger_1 7 rfl rfl)
theorem dX3_ledger_34 : decode cX3_ledger 34 = .ok (.iconst 0, 1) := dk_3 (dk_at dksX3_ledger_1 10 rfl rfl)
theorem dX3_ledger_35 : decode cX3_ledger 35 = .ok (.iconst 1, 1) := dk_4 (dk_at dksX3_ledger_1 11 rfl rfl)
theorem dX3_ledger_36 : decode cX3_ledger 36 = .ok (.invokevirtual 106, 3) := dk_182 0 106 (dk_at dksX3_ledger_1 12 rfl rfl)
theorem dX3_ledger_39 : decode cX3_ledger 39 = .ok (.ifCond .ne 25, 3) := dk_154 0 25 (dk_at dksX3_ledger_1 15 rfl rfl)
theorem dX3_ledger_42 : decode cX3_ledger 42 = .ok (.aload_n 0, 1) := dk_42 (dk_at dksX3_ledger_1 18 rfl rfl)
theorem dX3_ledger_43 : decode cX3_ledger 43 = .ok (.iload_n 2, 1) := dk_28 (dk_at dksX3_ledger_1 19 rfl rfl)
theorem dX3_ledger_44 : decode cX3_ledger 44 = .ok (.iconst 0, 1) := dk_3 (dk_at dksX3_ledger_1 20 rfl rfl)
theorem dX3_ledger_45 : decode cX3_ledger 45 = .ok (.iconst 3, 1) := dk_6 (dk_at dksX3_ledger_1 21 rfl rfl)
theorem dX3_ledger_46 : decode cX3_ledger 46 = .ok (.invokestatic 102, 3) := dk_184 0 102 (dk_at dksX3_ledger_2 0 rfl rfl)
theorem dX3_ledger_49 : decode cX3_ledger 49 = .ok (.ifCond .ne 7, 3) := dk_154 0 7 (dk_at dksX3_ledger_2 3 rfl rfl)
theorem dX3_ledger_52 : decode cX3_ledger 52 = .ok (.iconst 1, 1) := dk_4 (dk_at dksX3_ledger_2 6 rfl rfl)
theorem dX3_ledger_53 : decode cX3_ledger 53 = .ok (.goto 4, 3) := dk_167 0 4 (dk_at dksX3_ledger_2 7 rfl rfl)
theorem dX3_ledger_56 : decode cX3_ledger 56 = .ok (.iconst 0, 1) := dk_3 (dk_at dksX3_ledger_2 10 rfl rfl)
theorem dX3_ledger_57 : decode cX3_ledger 57 = .ok (.iconst 2, 1) := dk_5 (dk_at dksX3_ledger_2 11 rfl rfl)
theorem dX3_ledger_58 : decode cX3_ledger 58 = .ok (.invokevirtual 106, 3) := dk_182 0 106 (dk_at dksX3_ledger_2 12 rfl rfl)
theorem dX3_ledger_61 : decode cX3_ledger 61 = .ok (.ifCond .eq 5, 3) := dk_153 0 5 (dk_at dksX3_ledger_2 15 rfl rfl)
theorem dX3_ledger_64 : decode cX3_ledger 64 = .ok (.iconst 0, 1) := dk_3 (dk_at dksX3_ledger_2 18 rfl rfl)
theorem dX3_ledger_65 : decode cX3_ledger 65 = .ok (.ireturn, 1) := dk_172 (dk_at dksX3_ledger_2 19 rfl rfl)
theorem dX3_ledger_66 : decode cX3_ledger 66 = .ok (.iload_n 2, 1) := dk_28 (dk_at dksX3_ledger_2 20 rfl rfl)
theorem dX3_ledger_67 : decode cX3_ledger 67 = .ok (.ifCond .ne 12, 3) := dk_154 0 12 (dk_at dksX3_ledger_2 21 rfl rfl)
theorem dX3_ledger_70 : decode cX3_ledger 70 = .ok (.aload_n 0, 1) := dk_42 (dk_at dksX3_ledger_3 0 rfl rfl)
theorem dX3_ledger_71 : decode cX3_ledger 71 = .ok (.getfield 86, 3) := dk_180 0 86 (dk_at dksX3_ledger_3 1 rfl rfl)
theorem dX3_ledger_74 : decode cX3_ledger 74 = .ok (.iload_n 1, 1) := dk_27 (dk_at dksX3_ledger_3 4 rfl rfl)
theorem dX3_ledger_75 : decode cX3_ledger 75 = .ok (.iaload, 1) := dk_46 (dk_at dksX3_ledger_3 5 rfl rfl)
theorem dX3_ledger_76 : decode cX3_ledger 76 = .ok (.goto 43, 3) := dk_167 0 43 (dk_at dksX3_ledger_3 6 rfl rfl)
theorem dX3_ledger_79 : decode cX3_ledger 79 = .ok (.iload_n 2, 1) := dk_28 (dk_at dksX3_ledger_3 9 rfl rfl)
theorem dX3_ledger_80 : decode cX3_ledger 80 = .ok (.iconst 1, 1) := dk_4 (dk_at dksX3_ledger_3 10 rfl rfl)
theorem dX3_ledger_81 : decode cX3_ledger 81 = .ok (.if_icmp .ne 15, 3) := dk_160 0 15 (dk_at dksX3_ledger_3 11 rfl rfl)
theorem dX3_ledger_84 : decode cX3_ledger 84 = .ok (.aload_n 0, 1) := dk_42 (dk_at dksX3_ledger_3 14 rfl rfl)
theorem dX3_ledger_85 : decode cX3_ledger 85 = .ok (.getfield 89, 3) := dk_180 0 89 (dk_at dksX3_ledger_3 15 rfl rfl)
theorem dX3_ledger_88 : decode cX3_ledger 88 = .ok (.iload_n 1, 1) := dk_27 (dk_at dksX3_ledger_3 18 rfl rfl)
theorem dX3_ledger_89 : decode cX3_ledger 89 = .ok (.iaload, 1) := dk_46 (dk_at dksX3_ledger_3 19 rfl rfl)
theorem dX3_ledger_90 : decode cX3_ledger 90 = .ok (.bipush 12, 2) := dk_16 12 (dk_at dksX3_ledger_3 20 rfl rfl)
theorem dX3_ledger_92 : decode cX3_ledger 92 = .ok (.idiv, 1) := dk_108 (dk_at dksX3_ledger_3 22 rfl rfl)
theorem dX3_ledger_93 : decode cX3_ledger 93 = .ok (.goto 26, 3) := dk_167 0 26 (dk_at dksX3_ledger_4 0 rfl rfl)
theorem dX3_ledger_96 : decode cX3_ledger 96 = .ok (.iload_n 2, 1) := dk_28 (dk_at dksX3_ledger_4 3 rfl rfl)
theorem dX3_ledger_97 : decode cX3_ledger 97 = .ok (.iconst 2, 1) := dk_5 (dk_at dksX3_ledger_4 4 rfl rfl)
theorem dX3_ledger_98 : decode cX3_ledger 98 = .ok (.if_icmp .ne 15, 3) := dk_160 0 15 (dk_at dksX3_ledger_4 5 rfl rfl)
theorem dX3_ledger_101 : decode cX3_ledger 101 = .ok (.aload_n 0, 1) := dk_42 (dk_at dksX3_ledger_4 8 rfl rfl)
theorem dX3_ledger_102 : decode cX3_ledger 102 = .ok (.getfield 89, 3) := dk_180 0 89 (dk_at dksX3_ledger_4 9 rfl rfl)
theorem dX3_ledger_105 : decode cX3_ledger 105 = .ok (.iload_n 1, 1) := dk_27 (dk_at dksX3_ledger_4 12 rfl rfl)
theorem dX3_ledger_106 : decode cX3_ledger 106 = .ok (.iaload, 1) := dk_46 (dk_at dksX3_ledger_4 13 rfl rfl)
theorem dX3_ledger_107 : decode cX3_ledger 107 = .ok (.bipush 12, 2) := dk_16 12 (dk_at dksX3_ledger_4 14 rfl rfl)
theorem dX3_ledger_109 : decode cX3_ledger 109 = .ok (.irem, 1) := dk_112 (dk_at dksX3_ledger_4 16 rfl rfl)
theorem dX3_ledger_110 : decode cX3_ledger 110 = .ok (.goto 9, 3) := dk_167 0 9 (dk_at dksX3_ledger_4 17 rfl rfl)
theorem dX3_ledger_113 : decode cX3_ledger 113 = .ok (.aload_n 0, 1) := dk_42 (dk_at dksX3_ledger_4 20 rfl rfl)
theorem dX3_ledger_114 : decode cX3_ledger 114 = .ok (.getfield 92, 3) := dk_180 0 92 (dk_at dksX3_ledger_4 21 rfl rfl)
theorem dX3_ledger_117 : decode cX3_ledger 117 = .ok (.iload_n 1, 1) := dk_27 (dk_at dksX3_ledger_5 0 rfl rfl)
theorem dX3_ledger_118 : decode cX3_ledger 118 = .ok (.iaload, 1) := dk_46 (dk_at dksX3_ledger_5 1 rfl rfl)
theorem dX3_ledger_119 : decode cX3_ledger 119 = .ok (.ireturn, 1) := dk_172 (dk_at dksX3_ledger_5 2 rfl rfl)
abbrev cX3_count : ByteArray := prog_19_method_40_code
def yX3_count : MethodName := ⟨RX3, "count", "(I)I"⟩
def dkwX3_count_2 : List UInt8 := [27, 160, 0, 7, 4, 167, 0, 4, 3, 96, 61, 132, 3, 1, 167, 255, 227, 28, 172]
abbrev dktX3_count_2 : List UInt8 := dkwX3_count_2 ++ []
def dkwX3_count_1 : List UInt8 := [153, 0, 5, 3, 172, 3, 61, 3, 62, 29, 42, 180, 0, 110, 162, 0, 27, 28, 42, 180, 0, 62, 29, 46]
abbrev dktX3_count_1 : List UInt8 := dkwX3_count_1 ++ dktX3_count_2
def dkwX3_count_0 : List UInt8 := [42, 3, 181, 0, 95, 42, 27, 3, 8, 184, 0, 102, 154, 0, 7, 4, 167, 0, 4, 3, 4, 182, 0, 106]
abbrev dktX3_count_0 : List UInt8 := dkwX3_count_0 ++ dktX3_count_1
theorem dksX3_count_0 : cX3_count.data.toList.drop 0 = dktX3_count_0 := by decide +kernel
theorem dksX3_count_1 : cX3_count.data.toList.drop 24 = dktX3_count_1 := dk_seg dksX3_count_0 24 rfl rfl
theorem dksX3_count_2 : cX3_count.data.toList.drop 48 = dktX3_count_2 := dk_seg dksX3_count_1 24 rfl rfl
theorem dX3_count_0 : decode cX3_count 0 = .ok (.aload_n 0, 1) := dk_42 (dk_at dksX3_count_0 0 rfl rfl)
theorem dX3_count_1 : decode cX3_count 1 = .ok (.iconst 0, 1) := dk_3 (dk_at dksX3_count_0 1 rfl rfl)
theorem dX3_count_2 : decode cX3_count 2 = .ok (.putfield 95, 3) := dk_181 0 95 (dk_at dksX3_count_0 2 rfl rfl)
theorem dX3_count_5 : decode cX3_count 5 = .ok (.aload_n 0, 1) := dk_42 (dk_at dksX3_count_0 5 rfl rfl)
theorem dX3_count_6 : decode cX3_count 6 = .ok (.iload_n 1, 1) := dk_27 (dk_at dksX3_count_0 6 rfl rfl)
theorem dX3_count_7 : decode cX3_count 7 = .ok (.iconst 0, 1) := dk_3 (dk_at dksX3_count_0 7 rfl rfl)
theorem dX3_count_8 : decode cX3_count 8 = .ok (.iconst 5, 1) := dk_8 (dk_at dksX3_count_0 8 rfl rfl)
theorem dX3_count_9 : decode cX3_count 9 = .ok (.invokestatic 102, 3) := dk_184 0 102 (dk_at dksX3_count_0 9 rfl rfl)
theorem dX3_count_12 : decode cX3_count 12 = .ok (.ifCond .ne 7, 3) := dk_154 0 7 (dk_at dksX3_count_0 12 rfl rfl)
theorem dX3_count_15 : decode cX3_count 15 = .ok (.iconst 1, 1) := dk_4 (dk_at dksX3_count_0 15 rfl rfl)
theorem dX3_count_16 : decode cX3_count 16 = .ok (.goto 4, 3) := dk_167 0 4 (dk_at dksX3_count_0 16 rfl rfl)
theorem dX3_count_19 : decode cX3_count 19 = .ok (.iconst 0, 1) := dk_3 (dk_at dksX3_count_0 19 rfl rfl)
theorem dX3_count_20 : decode cX3_count 20 = .ok (.iconst 1, 1) := dk_4 (dk_at dksX3_count_0 20 rfl rfl)
theorem dX3_count_21 : decode cX3_count 21 = .ok (.invokevirtual 106, 3) := dk_182 0 106 (dk_at dksX3_count_0 21 rfl rfl)
theorem dX3_count_24 : decode cX3_count 24 = .ok (.ifCond .eq 5, 3) := dk_153 0 5 (dk_at dksX3_count_1 0 rfl rfl)
theorem dX3_count_27 : decode cX3_count 27 = .ok (.iconst 0, 1) := dk_3 (dk_at dksX3_count_1 3 rfl rfl)
theorem dX3_count_28 : decode cX3_count 28 = .ok (.ireturn, 1) := dk_172 (dk_at dksX3_count_1 4 rfl rfl)
theorem dX3_count_29 : decode cX3_count 29 = .ok (.iconst 0, 1) := dk_3 (dk_at dksX3_count_1 5 rfl rfl)
theorem dX3_count_30 : decode cX3_count 30 = .ok (.istore_n 2, 1) := dk_61 (dk_at dksX3_count_1 6 rfl rfl)
theorem dX3_count_31 : decode cX3_count 31 = .ok (.iconst 0, 1) := dk_3 (dk_at dksX3_count_1 7 rfl rfl)
theorem dX3_count_32 : decode cX3_count 32 = .ok (.istore_n 3, 1) := dk_62 (dk_at dksX3_count_1 8 rfl rfl)
theorem dX3_count_33 : decode cX3_count 33 = .ok (.iload_n 3, 1) := dk_29 (dk_at dksX3_count_1 9 rfl rfl)
theorem dX3_count_34 : decode cX3_count 34 = .ok (.aload_n 0, 1) := dk_42 (dk_at dksX3_count_1 10 rfl rfl)
theorem dX3_count_35 : decode cX3_count 35 = .ok (.getfield 110, 3) := dk_180 0 110 (dk_at dksX3_count_1 11 rfl rfl)
theorem dX3_count_38 : decode cX3_count 38 = .ok (.if_icmp .ge 27, 3) := dk_162 0 27 (dk_at dksX3_count_1 14 rfl rfl)
theorem dX3_count_41 : decode cX3_count 41 = .ok (.iload_n 2, 1) := dk_28 (dk_at dksX3_count_1 17 rfl rfl)
theorem dX3_count_42 : decode cX3_count 42 = .ok (.aload_n 0, 1) := dk_42 (dk_at dksX3_count_1 18 rfl rfl)
theorem dX3_count_43 : decode cX3_count 43 = .ok (.getfield 62, 3) := dk_180 0 62 (dk_at dksX3_count_1 19 rfl rfl)
theorem dX3_count_46 : decode cX3_count 46 = .ok (.iload_n 3, 1) := dk_29 (dk_at dksX3_count_1 22 rfl rfl)
theorem dX3_count_47 : decode cX3_count 47 = .ok (.iaload, 1) := dk_46 (dk_at dksX3_count_1 23 rfl rfl)
theorem dX3_count_48 : decode cX3_count 48 = .ok (.iload_n 1, 1) := dk_27 (dk_at dksX3_count_2 0 rfl rfl)
theorem dX3_count_49 : decode cX3_count 49 = .ok (.if_icmp .ne 7, 3) := dk_160 0 7 (dk_at dksX3_count_2 1 rfl rfl)
theorem dX3_count_52 : decode cX3_count 52 = .ok (.iconst 1, 1) := dk_4 (dk_at dksX3_count_2 4 rfl rfl)
theorem dX3_count_53 : decode cX3_count 53 = .ok (.goto 4, 3) := dk_167 0 4 (dk_at dksX3_count_2 5 rfl rfl)
theorem dX3_count_56 : decode cX3_count 56 = .ok (.iconst 0, 1) := dk_3 (dk_at dksX3_count_2 8 rfl rfl)
theorem dX3_count_57 : decode cX3_count 57 = .ok (.iadd, 1) := dk_96 (dk_at dksX3_count_2 9 rfl rfl)
theorem dX3_count_58 : decode cX3_count 58 = .ok (.istore_n 2, 1) := dk_61 (dk_at dksX3_count_2 10 rfl rfl)
theorem dX3_count_59 : decode cX3_count 59 = .ok (.iinc 3 1, 3) := dk_132 3 1 (dk_at dksX3_count_2 11 rfl rfl)
theorem dX3_count_62 : decode cX3_count 62 = .ok (.goto (-29), 3) := dk_167 255 227 (dk_at dksX3_count_2 14 rfl rfl)
theorem dX3_count_65 : decode cX3_count 65 = .ok (.iload_n 2, 1) := dk_28 (dk_at dksX3_count_2 17 rfl rfl)
theorem dX3_count_66 : decode cX3_count 66 = .ok (.ireturn, 1) := dk_172 (dk_at dksX3_count_2 18 rfl rfl)
abbrev cX3_ledgerErrors : ByteArray := prog_19_method_41_code
def yX3_ledgerErrors : MethodName := ⟨RX3, "ledgerErrors", "()I"⟩
def dkwX3_ledgerErrors_0 : List UInt8 := [42, 3, 181, 0, 95, 3, 172]
abbrev dktX3_ledgerErrors_0 : List UInt8 := dkwX3_ledgerErrors_0 ++ []
theorem dksX3_ledgerErrors_0 : cX3_ledgerErrors.data.toList.drop 0 = dktX3_ledgerErrors_0 := by decide +kernel
theorem dX3_ledgerErrors_0 : decode cX3_ledgerErrors 0 = .ok (.aload_n 0, 1) := dk_42 (dk_at dksX3_ledgerErrors_0 0 rfl rfl)
theorem dX3_ledgerErrors_1 : decode cX3_ledgerErrors 1 = .ok (.iconst 0, 1) := dk_3 (dk_at dksX3_ledgerErrors_0 1 rfl rfl)
theorem dX3_ledgerErrors_2 : decode cX3_ledgerErrors 2 = .ok (.putfield 95, 3) := dk_181 0 95 (dk_at dksX3_ledgerErrors_0 2 rfl rfl)
theorem dX3_ledgerErrors_5 : decode cX3_ledgerErrors 5 = .ok (.iconst 0, 1) := dk_3 (dk_at dksX3_ledgerErrors_0 5 rfl rfl)
theorem dX3_ledgerErrors_6 : decode cX3_ledgerErrors 6 = .ok (.ireturn, 1) := dk_172 (dk_at dksX3_ledgerErrors_0 6 rfl rfl)
abbrev cX3_paidShare : ByteArray := prog_19_method_42_code
def yX3_paidShare : MethodName := ⟨RX3, "paidShare", "()D"⟩
def dkwX3_paidShare_2 : List UInt8 := [9, 148, 154, 0, 7, 14, 167, 0, 8, 33, 138, 31, 138, 111, 175]
abbrev dktX3_paidShare_2 : List UInt8 := dkwX3_paidShare_2 ++ []
def dkwX3_paidShare_1 : List UInt8 := [21, 5, 46, 133, 97, 64, 33, 42, 180, 0, 19, 21, 5, 46, 133, 97, 66, 132, 5, 1, 167, 255, 224, 31]
abbrev dktX3_paidShare_1 : List UInt8 := dkwX3_paidShare_1 ++ dktX3_paidShare_2
def dkwX3_paidShare_0 : List UInt8 := [42, 3, 181, 0, 95, 9, 64, 9, 66, 3, 54, 5, 21, 5, 16, 48, 162, 0, 31, 31, 42, 180, 0, 13]
abbrev dktX3_paidShare_0 : List UInt8 := dkwX3_paidShare_0 ++ dktX3_paidShare_1
theorem dksX3_paidShare_0 : cX3_paidShare.data.toList.drop 0 = dktX3_paidShare_0 := by decide +kernel
theorem dksX3_paidShare_1 : cX3_paidShare.data.toList.drop 24 = dktX3_paidShare_1 := dk_seg dksX3_paidShare_0 24 rfl rfl
theorem dksX3_paidShare_2 : cX3_paidShare.data.toList.drop 48 = dktX3_paidShare_2 := dk_seg dksX3_paidShare_1 24 rfl rfl
theorem dX3_paidShare_0 : decode cX3_paidShare 0 = .ok (.aload_n 0, 1) := dk_42 (dk_at dksX3_paidShare_0 0 rfl rfl)
theorem dX3_paidShare_1 : decode cX3_paidShare 1 = .ok (.iconst 0, 1) := dk_3 (dk_at dksX3_paidShare_0 1 rfl rfl)
theorem dX3_paidShare_2 : decode cX3_paidShare 2 = .ok (.putfield 95, 3) := dk_181 0 95 (dk_at dksX3_paidShare_0 2 rfl rfl)
theorem dX3_paidShare_5 : decode cX3_paidShare 5 = .ok (.lconst 0, 1) := dk_9 (dk_at dksX3_paidShare_0 5 rfl rfl)
theorem dX3_paidShare_6 : decode cX3_paidShare 6 = .ok (.lstore_n 1, 1) := dk_64 (dk_at dksX3_paidShare_0 6 rfl rfl)
theorem dX3_paidShare_7 : decode cX3_paidShare 7 = .ok (.lconst 0, 1) := dk_9 (dk_at dksX3_paidShare_0 7 rfl rfl)
theorem dX3_paidShare_8 : decode cX3_paidShare 8 = .ok (.lstore_n 3, 1) := dk_66 (dk_at dksX3_paidShare_0 8 rfl rfl)
theorem dX3_paidShare_9 : decode cX3_paidShare 9 = .ok (.iconst 0, 1) := dk_3 (dk_at dksX3_paidShare_0 9 rfl rfl)
theorem dX3_paidShare_10 : decode cX3_paidShare 10 = .ok (.istore 5, 2) := dk_54 5 (dk_at dksX3_paidShare_0 10 rfl rfl)
theorem dX3_paidShare_12 : decode cX3_paidShare 12 = .ok (.iload 5, 2) := dk_21 5 (dk_at dksX3_paidShare_0 12 rfl rfl)
theorem dX3_paidShare_14 : decode cX3_paidShare 14 = .ok (.bipush 48, 2) := dk_16 48 (dk_at dksX3_paidShare_0 14 rfl rfl)
theorem dX3_paidShare_16 : decode cX3_paidShare 16 = .ok (.if_icmp .ge 31, 3) := dk_162 0 31 (dk_at dksX3_paidShare_0 16 rfl rfl)
theorem dX3_paidShare_19 : decode cX3_paidShare 19 = .ok (.lload_n 1, 1) := dk_31 (dk_at dksX3_paidShare_0 19 rfl rfl)
theorem dX3_paidShare_20 : decode cX3_paidShare 20 = .ok (.aload_n 0, 1) := dk_42 (dk_at dksX3_paidShare_0 20 rfl rfl)
theorem dX3_paidShare_21 : decode cX3_paidShare 21 = .ok (.getfield 13, 3) := dk_180 0 13 (dk_at dksX3_paidShare_0 21 rfl rfl)
theorem dX3_paidShare_24 : decode cX3_paidShare 24 = .ok (.iload 5, 2) := dk_21 5 (dk_at dksX3_paidShare_1 0 rfl rfl)
theorem dX3_paidShare_26 : decode cX3_paidShare 26 = .ok (.iaload, 1) := dk_46 (dk_at dksX3_paidShare_1 2 rfl rfl)
theorem dX3_paidShare_27 : decode cX3_paidShare 27 = .ok (.i2l, 1) := dk_133 (dk_at dksX3_paidShare_1 3 rfl rfl)
theorem dX3_paidShare_28 : decode cX3_paidShare 28 = .ok (.ladd, 1) := dk_97 (dk_at dksX3_paidShare_1 4 rfl rfl)
theorem dX3_paidShare_29 : decode cX3_paidShare 29 = .ok (.lstore_n 1, 1) := dk_64 (dk_at dksX3_paidShare_1 5 rfl rfl)
theorem dX3_paidShare_30 : decode cX3_paidShare 30 = .ok (.lload_n 3, 1) := dk_33 (dk_at dksX3_paidShare_1 6 rfl rfl)
theorem dX3_paidShare_31 : decode cX3_paidShare 31 = .ok (.aload_n 0, 1) := dk_42 (dk_at dksX3_paidShare_1 7 rfl rfl)
theorem dX3_paidShare_32 : decode cX3_paidShare 32 = .ok (.getfield 19, 3) := dk_180 0 19 (dk_at dksX3_paidShare_1 8 rfl rfl)
theorem dX3_paidShare_35 : decode cX3_paidShare 35 = .ok (.iload 5, 2) := dk_21 5 (dk_at dksX3_paidShare_1 11 rfl rfl)
theorem dX3_paidShare_37 : decode cX3_paidShare 37 = .ok (.iaload, 1) := dk_46 (dk_at dksX3_paidShare_1 13 rfl rfl)
theorem dX3_paidShare_38 : decode cX3_paidShare 38 = .ok (.i2l, 1) := dk_133 (dk_at dksX3_paidShare_1 14 rfl rfl)
theorem dX3_paidShare_39 : decode cX3_paidShare 39 = .ok (.ladd, 1) := dk_97 (dk_at dksX3_paidShare_1 15 rfl rfl)
theorem dX3_paidShare_40 : decode cX3_paidShare 40 = .ok (.lstore_n 3, 1) := dk_66 (dk_at dksX3_paidShare_1 16 rfl rfl)
theorem dX3_paidShare_41 : decode cX3_paidShare 41 = .ok (.iinc 5 1, 3) := dk_132 5 1 (dk_at dksX3_paidShare_1 17 rfl rfl)
theorem dX3_paidShare_44 : decode cX3_paidShare 44 = .ok (.goto (-32), 3) := dk_167 255 224 (dk_at dksX3_paidShare_1 20 rfl rfl)
theorem dX3_paidShare_47 : decode cX3_paidShare 47 = .ok (.lload_n 1, 1) := dk_31 (dk_at dksX3_paidShare_1 23 rfl rfl)
theorem dX3_paidShare_48 : decode cX3_paidShare 48 = .ok (.lconst 0, 1) := dk_9 (dk_at dksX3_paidShare_2 0 rfl rfl)
theorem dX3_paidShare_49 : decode cX3_paidShare 49 = .ok (.lcmp, 1) := dk_148 (dk_at dksX3_paidShare_2 1 rfl rfl)
theorem dX3_paidShare_50 : decode cX3_paidShare 50 = .ok (.ifCond .ne 7, 3) := dk_154 0 7 (dk_at dksX3_paidShare_2 2 rfl rfl)
theorem dX3_paidShare_53 : decode cX3_paidShare 53 = .ok (.dconst 0, 1) := dk_14 (dk_at dksX3_paidShare_2 5 rfl rfl)
theorem dX3_paidShare_54 : decode cX3_paidShare 54 = .ok (.goto 8, 3) := dk_167 0 8 (dk_at dksX3_paidShare_2 6 rfl rfl)
theorem dX3_paidShare_57 : decode cX3_paidShare 57 = .ok (.lload_n 3, 1) := dk_33 (dk_at dksX3_paidShare_2 9 rfl rfl)
theorem dX3_paidShare_58 : decode cX3_paidShare 58 = .ok (.l2d, 1) := dk_138 (dk_at dksX3_paidShare_2 10 rfl rfl)
theorem dX3_paidShare_59 : decode cX3_paidShare 59 = .ok (.lload_n 1, 1) := dk_31 (dk_at dksX3_paidShare_2 11 rfl rfl)
theorem dX3_paidShare_60 : decode cX3_paidShare 60 = .ok (.l2d, 1) := dk_138 (dk_at dksX3_paidShare_2 12 rfl rfl)
theorem dX3_paidShare_61 : decode cX3_paidShare 61 = .ok (.ddiv, 1) := dk_111 (dk_at dksX3_paidShare_2 13 rfl rfl)
theorem dX3_paidShare_62 : decode cX3_paidShare 62 = .ok (.dreturn, 1) := dk_175 (dk_at dksX3_paidShare_2 14 rfl rfl)
theorem q44 : (Jvm.Cond.initialized "GrantworksModel") ∈ lw_all := lw_g (lw_at lw_m1 3 rfl) rfl
theorem q863 : (Jvm.Cond.instantiable "GrantworksModel" (35 : Nat)) ∈ lw_all := lw_g (lw_at lw_m4 102 rfl) rfl
theorem q865 : (Jvm.Cond.instanceMethod ({ cls := "GrantworksModel", name := "<init>", desc := "()V" } : Jvm.MethodName)) ∈ lw_all := lw_g (lw_at lw_m4 104 rfl) rfl
theorem q866 : (Jvm.Cond.code ({ cls := "GrantworksModel", name := "<init>", desc := "()V" } : Jvm.MethodName) prog_19_method_1_code (2 : Nat) (Option.none : Option Jvm.ClassFile.FieldType)) ∈ lw_all := lw_g (lw_at lw_m4 105 rfl) rfl
theorem q867 : (Jvm.Cond.methodLink "GrantworksModel" (1 : Nat) ({ cls := "java/lang/Object", name := "<init>", desc := "()V" } : Jvm.MethodName)) ∈ lw_all := lw_g (lw_at lw_m4 106 rfl) rfl
theorem q868 : (Jvm.Cond.fieldLink "GrantworksModel" (95 : Nat) "GrantworksModel" "thrown" "I") ∈ lw_all := lw_g (lw_at lw_m4 107 rfl) rfl
theorem q869 : (Jvm.Cond.fieldLink "GrantworksModel" (147 : Nat) "GrantworksModel" "day" "I") ∈ lw_all := lw_g (lw_at lw_m4 108 rfl) rfl
theorem q870 : (Jvm.Cond.fieldLink "GrantworksModel" (140 : Nat) "GrantworksModel" "accounts" "I") ∈ lw_all := lw_g (lw_at lw_m4 109 rfl) rfl
theorem q871 : (Jvm.Cond.fieldLink "GrantworksModel" (7 : Nat) "GrantworksModel" "accountPlace" "[I") ∈ lw_all := lw_g (lw_at lw_m4 110 rfl) rfl
theorem q872 : (Jvm.Cond.fieldLink "GrantworksModel" (13 : Nat) "GrantworksModel" "budget" "[I") ∈ lw_all := lw_g (lw_at lw_m4 111 rfl) rfl
theorem q873 : (Jvm.Cond.fieldLink "GrantworksModel" (16 : Nat) "GrantworksModel" "reserved" "[I") ∈ lw_all := lw_g (lw_at lw_m4 112 rfl) rfl
theorem q874 : (Jvm.Cond.fieldLink "GrantworksModel" (19 : Nat) "GrantworksModel" "paid" "[I") ∈ lw_all := lw_g (lw_at lw_m4 113 rfl) rfl
theorem q875 : (Jvm.Cond.fieldLink "GrantworksModel" (99 : Nat) "GrantworksModel" "calls" "I") ∈ lw_all := lw_g (lw_at lw_m4 114 rfl) rfl
theorem q876 : (Jvm.Cond.fieldLink "GrantworksModel" (22 : Nat) "GrantworksModel" "field" "[I") ∈ lw_all := lw_g (lw_at lw_m4 115 rfl) rfl
theorem q877 : (Jvm.Cond.fieldLink "GrantworksModel" (25 : Nat) "GrantworksModel" "opens" "[I") ∈ lw_all := lw_g (lw_at lw_m4 116 rfl) rfl
theorem q878 : (Jvm.Cond.fieldLink "GrantworksModel" (28 : Nat) "GrantworksModel" "deadline" "[I") ∈ lw_all := lw_g (lw_at lw_m4 117 rfl) rfl
theorem q879 : (Jvm.Cond.fieldLink "GrantworksModel" (31 : Nat) "GrantworksModel" "firstYear" "[I") ∈ lw_all := lw_g (lw_at lw_m4 118 rfl) rfl
theorem q880 : (Jvm.Cond.fieldLink "GrantworksModel" (34 : Nat) "GrantworksModel" "isAwarded" "[Z") ∈ lw_all := lw_g (lw_at lw_m4 119 rfl) rfl
theorem q881 : (Jvm.Cond.fieldLink "GrantworksModel" (38 : Nat) "GrantworksModel" "listed" "[I") ∈ lw_all := lw_g (lw_at lw_m4 120 rfl) rfl
theorem q882 : (Jvm.Cond.fieldLink "GrantworksModel" (41 : Nat) "GrantworksModel" "list" "[I") ∈ lw_all := lw_g (lw_at lw_m4 121 rfl) rfl
theorem q883 : (Jvm.Cond.fieldLink "GrantworksModel" (110 : Nat) "GrantworksModel" "applications" "I") ∈ lw_all := lw_g (lw_at lw_m4 122 rfl) rfl
theorem q884 : (Jvm.Cond.fieldLink "GrantworksModel" (44 : Nat) "GrantworksModel" "callOf" "[I") ∈ lw_all := lw_g (lw_at lw_m4 123 rfl) rfl
theorem q885 : (Jvm.Cond.fieldLink "GrantworksModel" (47 : Nat) "GrantworksModel" "person" "[I") ∈ lw_all := lw_g (lw_at lw_m4 124 rfl) rfl
theorem q886 : (Jvm.Cond.fieldLink "GrantworksModel" (50 : Nat) "GrantworksModel" "house" "[I") ∈ lw_all := lw_g (lw_at lw_m4 125 rfl) rfl
theorem q887 : (Jvm.Cond.fieldLink "GrantworksModel" (53 : Nat) "GrantworksModel" "asked" "[I") ∈ lw_all := lw_g (lw_at lw_m4 126 rfl) rfl
theorem q888 : (Jvm.Cond.fieldLink "GrantworksModel" (56 : Nat) "GrantworksModel" "version" "[I") ∈ lw_all := lw_g (lw_at lw_m4 127 rfl) rfl
theorem q889 : (Jvm.Cond.fieldLink "GrantworksModel" (59 : Nat) "GrantworksModel" "told" "[I") ∈ lw_all := lw_g (lw_at lw_m4 128 rfl) rfl
theorem q890 : (Jvm.Cond.fieldLink "GrantworksModel" (62 : Nat) "GrantworksModel" "state" "[I") ∈ lw_all := lw_g (lw_at lw_m4 129 rfl) rfl
theorem q891 : (Jvm.Cond.fieldLink "GrantworksModel" (65 : Nat) "GrantworksModel" "reports" "[I") ∈ lw_all := lw_g (lw_at lw_m4 130 rfl) rfl
theorem q892 : (Jvm.Cond.fieldLink "GrantworksModel" (68 : Nat) "GrantworksModel" "spent" "[I") ∈ lw_all := lw_g (lw_at lw_m4 131 rfl) rfl
theorem q893 : (Jvm.Cond.fieldLink "GrantworksModel" (113 : Nat) "GrantworksModel" "reviewers" "I") ∈ lw_all := lw_g (lw_at lw_m4 132 rfl) rfl
theorem q894 : (Jvm.Cond.fieldLink "GrantworksModel" (71 : Nat) "GrantworksModel" "reviewerPerson" "[I") ∈ lw_all := lw_g (lw_at lw_m4 133 rfl) rfl
theorem q895 : (Jvm.Cond.fieldLink "GrantworksModel" (74 : Nat) "GrantworksModel" "reviewerHouse" "[I") ∈ lw_all := lw_g (lw_at lw_m4 134 rfl) rfl
theorem q896 : (Jvm.Cond.fieldLink "GrantworksModel" (77 : Nat) "GrantworksModel" "hasConflict" "[Z") ∈ lw_all := lw_g (lw_at lw_m4 135 rfl) rfl
theorem q897 : (Jvm.Cond.fieldLink "GrantworksModel" (80 : Nat) "GrantworksModel" "sits" "[Z") ∈ lw_all := lw_g (lw_at lw_m4 136 rfl) rfl
theorem q898 : (Jvm.Cond.fieldLink "GrantworksModel" (83 : Nat) "GrantworksModel" "score" "[I") ∈ lw_all := lw_g (lw_at lw_m4 137 rfl) rfl
theorem q899 : (Jvm.Cond.fieldLink "GrantworksModel" (116 : Nat) "GrantworksModel" "entries" "I") ∈ lw_all := lw_g (lw_at lw_m4 138 rfl) rfl
theorem q900 : (Jvm.Cond.fieldLink "GrantworksModel" (86 : Nat) "GrantworksModel" "entryKind" "[I") ∈ lw_all := lw_g (lw_at lw_m4 139 rfl) rfl
theorem q901 : (Jvm.Cond.fieldLink "GrantworksModel" (89 : Nat) "GrantworksModel" "entryAt" "[I") ∈ lw_all := lw_g (lw_at lw_m4 140 rfl) rfl
theorem q902 : (Jvm.Cond.fieldLink "GrantworksModel" (92 : Nat) "GrantworksModel" "entryMoney" "[I") ∈ lw_all := lw_g (lw_at lw_m4 141 rfl) rfl
theorem q903 : (Jvm.Cond.lays "GrantworksModel" "GrantworksModel" "thrown" "I") ∈ lw_all := lw_g (lw_at lw_m4 142 rfl) rfl
theorem q904 : (Jvm.Cond.soleField "GrantworksModel" "thrown") ∈ lw_all := lw_g (lw_at lw_m4 143 rfl) rfl
theorem q905 : (Jvm.Cond.lays "GrantworksModel" "GrantworksModel" "day" "I") ∈ lw_all := lw_g (lw_at lw_m4 144 rfl) rfl
theorem q906 : (Jvm.Cond.soleField "GrantworksModel" "day") ∈ lw_all := lw_g (lw_at lw_m4 145 rfl) rfl
theorem q907 : (Jvm.Cond.lays "GrantworksModel" "GrantworksModel" "accounts" "I") ∈ lw_all := lw_g (lw_at lw_m4 146 rfl) rfl
theorem q908 : (Jvm.Cond.soleField "GrantworksModel" "accounts") ∈ lw_all := lw_g (lw_at lw_m4 147 rfl) rfl
theorem q909 : (Jvm.Cond.laysFinal "GrantworksModel" "GrantworksModel" "accountPlace" "[I") ∈ lw_all := lw_g (lw_at lw_m4 148 rfl) rfl
theorem q910 : (Jvm.Cond.soleField "GrantworksModel" "accountPlace") ∈ lw_all := lw_g (lw_at lw_m4 149 rfl) rfl
theorem q911 : (Jvm.Cond.laysFinal "GrantworksModel" "GrantworksModel" "budget" "[I") ∈ lw_all := lw_g (lw_at lw_m4 150 rfl) rfl
theorem q912 : (Jvm.Cond.soleField "GrantworksModel" "budget") ∈ lw_all := lw_g (lw_at lw_m4 151 rfl) rfl
theorem q913 : (Jvm.Cond.laysFinal "GrantworksModel" "GrantworksModel" "reserved" "[I") ∈ lw_all := lw_g (lw_at lw_m4 152 rfl) rfl
theorem q914 : (Jvm.Cond.soleField "GrantworksModel" "reserved") ∈ lw_all := lw_g (lw_at lw_m4 153 rfl) rfl
theorem q915 : (Jvm.Cond.laysFinal "GrantworksModel" "GrantworksModel" "paid" "[I") ∈ lw_all := lw_g (lw_at lw_m4 154 rfl) rfl
theorem q916 : (Jvm.Cond.soleField "GrantworksModel" "paid") ∈ lw_all := lw_g (lw_at lw_m4 155 rfl) rfl
theorem q917 : (Jvm.Cond.lays "GrantworksModel" "GrantworksModel" "calls" "I") ∈ lw_all := lw_g (lw_at lw_m4 156 rfl) rfl
theorem q918 : (Jvm.Cond.soleField "GrantworksModel" "calls") ∈ lw_all := lw_g (lw_at lw_m4 157 rfl) rfl
theorem q919 : (Jvm.Cond.laysFinal "GrantworksModel" "GrantworksModel" "field" "[I") ∈ lw_all := lw_g (lw_at lw_m4 158 rfl) rfl
theorem q920 : (Jvm.Cond.soleField "GrantworksModel" "field") ∈ lw_all := lw_g (lw_at lw_m4 159 rfl) rfl
theorem q921 : (Jvm.Cond.laysFinal "GrantworksModel" "GrantworksModel" "opens" "[I") ∈ lw_all := lw_g (lw_at lw_m4 160 rfl) rfl
theorem q922 : (Jvm.Cond.soleField "GrantworksModel" "opens") ∈ lw_all := lw_g (lw_at lw_m4 161 rfl) rfl
theorem q923 : (Jvm.Cond.laysFinal "GrantworksModel" "GrantworksModel" "deadline" "[I") ∈ lw_all := lw_g (lw_at lw_m4 162 rfl) rfl
theorem q924 : (Jvm.Cond.soleField "GrantworksModel" "deadline") ∈ lw_all := lw_g (lw_at lw_m4 163 rfl) rfl
theorem q925 : (Jvm.Cond.laysFinal "GrantworksModel" "GrantworksModel" "firstYear" "[I") ∈ lw_all := lw_g (lw_at lw_m4 164 rfl) rfl
theorem q926 : (Jvm.Cond.soleField "GrantworksModel" "firstYear") ∈ lw_all := lw_g (lw_at lw_m4 165 rfl) rfl
theorem q927 : (Jvm.Cond.laysFinal "GrantworksModel" "GrantworksModel" "isAwarded" "[Z") ∈ lw_all := lw_g (lw_at lw_m4 166 rfl) rfl
theorem q928 : (Jvm.Cond.soleField "GrantworksModel" "isAwarded") ∈ lw_all := lw_g (lw_at lw_m4 167 rfl) rfl
theorem q929 : (Jvm.Cond.laysFinal "GrantworksModel" "GrantworksModel" "listed" "[I") ∈ lw_all := lw_g (lw_at lw_m4 168 rfl) rfl
theorem q930 : (Jvm.Cond.soleField "GrantworksModel" "listed") ∈ lw_all := lw_g (lw_at lw_m4 169 rfl) rfl
theorem q931 : (Jvm.Cond.laysFinal "GrantworksModel" "GrantworksModel" "list" "[I") ∈ lw_all := lw_g (lw_at lw_m4 170 rfl) rfl
theorem q932 : (Jvm.Cond.soleField "GrantworksModel" "list") ∈ lw_all := lw_g (lw_at lw_m4 171 rfl) rfl
theorem q933 : (Jvm.Cond.lays "GrantworksModel" "GrantworksModel" "applications" "I") ∈ lw_all := lw_g (lw_at lw_m4 172 rfl) rfl
theorem q934 : (Jvm.Cond.soleField "GrantworksModel" "applications") ∈ lw_all := lw_g (lw_at lw_m4 173 rfl) rfl
theorem q935 : (Jvm.Cond.laysFinal "GrantworksModel" "GrantworksModel" "callOf" "[I") ∈ lw_all := lw_g (lw_at lw_m4 174 rfl) rfl
theorem q936 : (Jvm.Cond.soleField "GrantworksModel" "callOf") ∈ lw_all := lw_g (lw_at lw_m4 175 rfl) rfl
theorem q937 : (Jvm.Cond.laysFinal "GrantworksModel" "GrantworksModel" "person" "[I") ∈ lw_all := lw_g (lw_at lw_m4 176 rfl) rfl
theorem q938 : (Jvm.Cond.soleField "GrantworksModel" "person") ∈ lw_all := lw_g (lw_at lw_m4 177 rfl) rfl
theorem q939 : (Jvm.Cond.laysFinal "GrantworksModel" "GrantworksModel" "house" "[I") ∈ lw_all := lw_g (lw_at lw_m4 178 rfl) rfl
theorem q940 : (Jvm.Cond.soleField "GrantworksModel" "house") ∈ lw_all := lw_g (lw_at lw_m4 179 rfl) rfl
theorem q941 : (Jvm.Cond.laysFinal "GrantworksModel" "GrantworksModel" "asked" "[I") ∈ lw_all := lw_g (lw_at lw_m4 180 rfl) rfl
theorem q942 : (Jvm.Cond.soleField "GrantworksModel" "asked") ∈ lw_all := lw_g (lw_at lw_m4 181 rfl) rfl
theorem q943 : (Jvm.Cond.laysFinal "GrantworksModel" "GrantworksModel" "version" "[I") ∈ lw_all := lw_g (lw_at lw_m4 182 rfl) rfl
theorem q944 : (Jvm.Cond.soleField "GrantworksModel" "version") ∈ lw_all := lw_g (lw_at lw_m4 183 rfl) rfl
theorem q945 : (Jvm.Cond.laysFinal "GrantworksModel" "GrantworksModel" "told" "[I") ∈ lw_all := lw_g (lw_at lw_m4 184 rfl) rfl
theorem q946 : (Jvm.Cond.soleField "GrantworksModel" "told") ∈ lw_all := lw_g (lw_at lw_m4 185 rfl) rfl
theorem q947 : (Jvm.Cond.laysFinal "GrantworksModel" "GrantworksModel" "state" "[I") ∈ lw_all := lw_g (lw_at lw_m4 186 rfl) rfl
theorem q948 : (Jvm.Cond.soleField "GrantworksModel" "state") ∈ lw_all := lw_g (lw_at lw_m4 187 rfl) rfl
theorem q949 : (Jvm.Cond.laysFinal "GrantworksModel" "GrantworksModel" "reports" "[I") ∈ lw_all := lw_g (lw_at lw_m4 188 rfl) rfl
theorem q950 : (Jvm.Cond.soleField "GrantworksModel" "reports") ∈ lw_all := lw_g (lw_at lw_m4 189 rfl) rfl
theorem q951 : (Jvm.Cond.laysFinal "GrantworksModel" "GrantworksModel" "spent" "[I") ∈ lw_all := lw_g (lw_at lw_m4 190 rfl) rfl
theorem q952 : (Jvm.Cond.soleField "GrantworksModel" "spent") ∈ lw_all := lw_g (lw_at lw_m4 191 rfl) rfl
theorem q953 : (Jvm.Cond.lays "GrantworksModel" "GrantworksModel" "reviewers" "I") ∈ lw_all := lw_g (lw_at lw_m4 192 rfl) rfl
theorem q954 : (Jvm.Cond.soleField "GrantworksModel" "reviewers") ∈ lw_all := lw_g (lw_at lw_m4 193 rfl) rfl
theorem q955 : (Jvm.Cond.laysFinal "GrantworksModel" "GrantworksModel" "reviewerPerson" "[I") ∈ lw_all := lw_g (lw_at lw_m4 194 rfl) rfl
theorem q956 : (Jvm.Cond.soleField "GrantworksModel" "reviewerPerson") ∈ lw_all := lw_g (lw_at lw_m4 195 rfl) rfl
theorem q957 : (Jvm.Cond.laysFinal "GrantworksModel" "GrantworksModel" "reviewerHouse" "[I") ∈ lw_all := lw_g (lw_at lw_m4 196 rfl) rfl
theorem q958 : (Jvm.Cond.soleField "GrantworksModel" "reviewerHouse") ∈ lw_all := lw_g (lw_at lw_m4 197 rfl) rfl
theorem q959 : (Jvm.Cond.laysFinal "GrantworksModel" "GrantworksModel" "hasConflict" "[Z") ∈ lw_all := lw_g (lw_at lw_m4 198 rfl) rfl
theorem q960 : (Jvm.Cond.soleField "GrantworksModel" "hasConflict") ∈ lw_all := lw_g (lw_at lw_m4 199 rfl) rfl
theorem q961 : (Jvm.Cond.laysFinal "GrantworksModel" "GrantworksModel" "sits" "[Z") ∈ lw_all := lw_g (lw_at lw_m4 200 rfl) rfl
theorem q962 : (Jvm.Cond.soleField "GrantworksModel" "sits") ∈ lw_all := lw_g (lw_at lw_m4 201 rfl) rfl
theorem q963 : (Jvm.Cond.laysFinal "GrantworksModel" "GrantworksModel" "score" "[I") ∈ lw_all := lw_g (lw_at lw_m4 202 rfl) rfl
theorem q964 : (Jvm.Cond.soleField "GrantworksModel" "score") ∈ lw_all := lw_g (lw_at lw_m4 203 rfl) rfl
theorem q965 : (Jvm.Cond.lays "GrantworksModel" "GrantworksModel" "entries" "I") ∈ lw_all := lw_g (lw_at lw_m4 204 rfl) rfl
theorem q966 : (Jvm.Cond.soleField "GrantworksModel" "entries") ∈ lw_all := lw_g (lw_at lw_m4 205 rfl) rfl
theorem q967 : (Jvm.Cond.laysFinal "GrantworksModel" "GrantworksModel" "entryKind" "[I") ∈ lw_all := lw_g (lw_at lw_m4 206 rfl) rfl
theorem q968 : (Jvm.Cond.soleField "GrantworksModel" "entryKind") ∈ lw_all := lw_g (lw_at lw_m4 207 rfl) rfl
theorem q969 : (Jvm.Cond.laysFinal "GrantworksModel" "GrantworksModel" "entryAt" "[I") ∈ lw_all := lw_g (lw_at lw_m4 208 rfl) rfl
theorem q970 : (Jvm.Cond.soleField "GrantworksModel" "entryAt") ∈ lw_all := lw_g (lw_at lw_m4 209 rfl) rfl
theorem q971 : (Jvm.Cond.laysFinal "GrantworksModel" "GrantworksModel" "entryMoney" "[I") ∈ lw_all := lw_g (lw_at lw_m4 210 rfl) rfl
theorem q972 : (Jvm.Cond.soleField "GrantworksModel" "entryMoney") ∈ lw_all := lw_g (lw_at lw_m4 211 rfl) rfl
theorem q973 : (Jvm.Cond.superclass "GrantworksModel" "java/lang/Object") ∈ lw_all := lw_g (lw_at lw_m4 212 rfl) rfl
theorem q975 : (Jvm.Cond.instanceMethod ({ cls := "GrantworksModel", name := "thrown", desc := "()I" } : Jvm.MethodName)) ∈ lw_all := lw_g (lw_at lw_m4 214 rfl) rfl
theorem q976 : (Jvm.Cond.selects "GrantworksModel" ({ cls := "GrantworksModel", name := "thrown", desc := "()I" } : Jvm.MethodName) ({ cls := "GrantworksModel", name := "thrown", desc := "()I" } : Jvm.MethodName)) ∈ lw_all := lw_g (lw_at lw_m4 215 rfl) rfl
theorem q977 : (Jvm.Cond.code ({ cls := "GrantworksModel", name := "thrown", desc := "()I" } : Jvm.MethodName) prog_19_method_2_code (1 : Nat) (Option.some Jvm.ClassFile.FieldType.int)) ∈ lw_all := lw_g (lw_at lw_m4 216 rfl) rfl
theorem q979 : (Jvm.Cond.instanceMethod ({ cls := "GrantworksModel", name := "tell", desc := "(III)I" } : Jvm.MethodName)) ∈ lw_all := lw_g (lw_at lw_m4 218 rfl) rfl
theorem q980 : (Jvm.Cond.selects "GrantworksModel" ({ cls := "GrantworksModel", name := "tell", desc := "(III)I" } : Jvm.MethodName) ({ cls := "GrantworksModel", name := "tell", desc := "(III)I" } : Jvm.MethodName)) ∈ lw_all := lw_g (lw_at lw_m4 219 rfl) rfl
theorem q981 : (Jvm.Cond.code ({ cls := "GrantworksModel", name := "tell", desc := "(III)I" } : Jvm.MethodName) prog_19_method_14_code (5 : Nat) (Option.some Jvm.ClassFile.FieldType.int)) ∈ lw_all := lw_g (lw_at lw_m4 220 rfl) rfl
theorem q982 : (Jvm.Cond.methodLink "GrantworksModel" (102 : Nat) ({ cls := "GrantworksModel", name := "within", desc := "(III)Z" } : Jvm.MethodName)) ∈ lw_all := lw_g (lw_at lw_m4 221 rfl) rfl
theorem q983 : (Jvm.Cond.static ({ cls := "GrantworksModel", name := "within", desc := "(III)Z" } : Jvm.MethodName)) ∈ lw_all := lw_g (lw_at lw_m4 222 rfl) rfl
theorem q984 : (Jvm.Cond.code ({ cls := "GrantworksModel", name := "within", desc := "(III)Z" } : Jvm.MethodName) prog_19_method_3_code (3 : Nat) (Option.some Jvm.ClassFile.FieldType.boolean)) ∈ lw_all := lw_g (lw_at lw_m4 223 rfl) rfl
theorem q985 : (Jvm.Cond.constant "GrantworksModel" (138 : Nat) (1000000 : Int32)) ∈ lw_all := lw_g (lw_at lw_m4 224 rfl) rfl
theorem q986 : (Jvm.Cond.methodLink "GrantworksModel" (106 : Nat) ({ cls := "GrantworksModel", name := "fails", desc := "(ZI)Z" } : Jvm.MethodName)) ∈ lw_all := lw_g (lw_at lw_m4 225 rfl) rfl
theorem q987 : (Jvm.Cond.privateMethod ({ cls := "GrantworksModel", name := "fails", desc := "(ZI)Z" } : Jvm.MethodName)) ∈ lw_tbl := lw_at lw_m4 226 rfl
theorem q988 : (Jvm.Cond.instanceMethod ({ cls := "GrantworksModel", name := "fails", desc := "(ZI)Z" } : Jvm.MethodName)) ∈ lw_all := lw_g (lw_at lw_m4 227 rfl) rfl
theorem q989 : (Jvm.Cond.code ({ cls := "GrantworksModel", name := "fails", desc := "(ZI)Z" } : Jvm.MethodName) prog_19_method_4_code (3 : Nat) (Option.some Jvm.ClassFile.FieldType.boolean)) ∈ lw_all := lw_g (lw_at lw_m4 228 rfl) rfl
theorem q990 : (Jvm.Cond.constant "GrantworksModel" (139 : Nat) (100000000 : Int32)) ∈ lw_all := lw_g (lw_at lw_m4 229 rfl) rfl
theorem q991 : (Jvm.Cond.methodLink "GrantworksModel" (127 : Nat) ({ cls := "GrantworksModel", name := "enters", desc := "(III)V" } : Jvm.MethodName)) ∈ lw_all := lw_g (lw_at lw_m4 230 rfl) rfl
theorem q992 : (Jvm.Cond.privateMethod ({ cls := "GrantworksModel", name := "enters", desc := "(III)V" } : Jvm.MethodName)) ∈ lw_tbl := lw_at lw_m4 231 rfl
theorem q993 : (Jvm.Cond.instanceMethod ({ cls := "GrantworksModel", name := "enters", desc := "(III)V" } : Jvm.MethodName)) ∈ lw_all := lw_g (lw_at lw_m4 232 rfl) rfl
theorem q994 : (Jvm.Cond.code ({ cls := "GrantworksModel", name := "enters", desc := "(III)V" } : Jvm.MethodName) prog_19_method_8_code (4 : Nat) (Option.none : Option Jvm.ClassFile.FieldType)) ∈ lw_all := lw_g (lw_at lw_m4 233 rfl) rfl
theorem q995 : (Jvm.Cond.methodLink "GrantworksModel" (143 : Nat) ({ cls := "GrantworksModel", name := "goesThrough", desc := "(I)V" } : Jvm.MethodName)) ∈ lw_all := lw_g (lw_at lw_m4 234 rfl) rfl
theorem q996 : (Jvm.Cond.privateMethod ({ cls := "GrantworksModel", name := "goesThrough", desc := "(I)V" } : Jvm.MethodName)) ∈ lw_tbl := lw_at lw_m4 235 rfl
theorem q997 : (Jvm.Cond.instanceMethod ({ cls := "GrantworksModel", name := "goesThrough", desc := "(I)V" } : Jvm.MethodName)) ∈ lw_all := lw_g (lw_at lw_m4 236 rfl) rfl
theorem q998 : (Jvm.Cond.code ({ cls := "GrantworksModel", name := "goesThrough", desc := "(I)V" } : Jvm.MethodName) prog_19_method_13_code (4 : Nat) (Option.none : Option Jvm.ClassFile.FieldType)) ∈ lw_all := lw_g (lw_at lw_m4 237 rfl) rfl
theorem q999 : (Jvm.Cond.methodLink "GrantworksModel" (135 : Nat) ({ cls := "GrantworksModel", name := "goesOn", desc := "(I)I" } : Jvm.MethodName)) ∈ lw_all := lw_g (lw_at lw_m4 238 rfl) rfl
theorem q1000 : (Jvm.Cond.privateMethod ({ cls := "GrantworksModel", name := "goesOn", desc := "(I)I" } : Jvm.MethodName)) ∈ lw_tbl := lw_at lw_m4 239 rfl
theorem q1001 : (Jvm.Cond.instanceMethod ({ cls := "GrantworksModel", name := "goesOn", desc := "(I)I" } : Jvm.MethodName)) ∈ lw_all := lw_g (lw_at lw_m5 0 rfl) rfl
theorem q1002 : (Jvm.Cond.code ({ cls := "GrantworksModel", name := "goesOn", desc := "(I)I" } : Jvm.MethodName) prog_19_method_12_code (6 : Nat) (Option.some Jvm.ClassFile.FieldType.int)) ∈ lw_all := lw_g (lw_at lw_m5 1 rfl) rfl
theorem q1003 : (Jvm.Cond.methodLink "GrantworksModel" (131 : Nat) ({ cls := "GrantworksModel", name := "comesIn", desc := "(I)Z" } : Jvm.MethodName)) ∈ lw_all := lw_g (lw_at lw_m5 2 rfl) rfl
theorem q1004 : (Jvm.Cond.privateMethod ({ cls := "GrantworksModel", name := "comesIn", desc := "(I)Z" } : Jvm.MethodName)) ∈ lw_tbl := lw_at lw_m5 3 rfl
theorem q1005 : (Jvm.Cond.instanceMethod ({ cls := "GrantworksModel", name := "comesIn", desc := "(I)Z" } : Jvm.MethodName)) ∈ lw_all := lw_g (lw_at lw_m5 4 rfl) rfl
theorem q1006 : (Jvm.Cond.code ({ cls := "GrantworksModel", name := "comesIn", desc := "(I)Z" } : Jvm.MethodName) prog_19_method_11_code (4 : Nat) (Option.some Jvm.ClassFile.FieldType.boolean)) ∈ lw_all := lw_g (lw_at lw_m5 5 rfl) rfl
theorem q1007 : (Jvm.Cond.methodLink "GrantworksModel" (119 : Nat) ({ cls := "GrantworksModel", name := "accountOf", desc := "(II)I" } : Jvm.MethodName)) ∈ lw_all := lw_g (lw_at lw_m5 6 rfl) rfl
theorem q1008 : (Jvm.Cond.privateMethod ({ cls := "GrantworksModel", name := "accountOf", desc := "(II)I" } : Jvm.MethodName)) ∈ lw_tbl := lw_at lw_m5 7 rfl
theorem q1009 : (Jvm.Cond.instanceMethod ({ cls := "GrantworksModel", name := "accountOf", desc := "(II)I" } : Jvm.MethodName)) ∈ lw_all := lw_g (lw_at lw_m5 8 rfl) rfl
theorem q1010 : (Jvm.Cond.code ({ cls := "GrantworksModel", name := "accountOf", desc := "(II)I" } : Jvm.MethodName) prog_19_method_10_code (4 : Nat) (Option.some Jvm.ClassFile.FieldType.int)) ∈ lw_all := lw_g (lw_at lw_m5 9 rfl) rfl
theorem q1011 : (Jvm.Cond.methodLink "GrantworksModel" (123 : Nat) ({ cls := "GrantworksModel", name := "free", desc := "(I)I" } : Jvm.MethodName)) ∈ lw_all := lw_g (lw_at lw_m5 10 rfl) rfl
theorem q1012 : (Jvm.Cond.privateMethod ({ cls := "GrantworksModel", name := "free", desc := "(I)I" } : Jvm.MethodName)) ∈ lw_tbl := lw_at lw_m5 11 rfl
theorem q1013 : (Jvm.Cond.instanceMethod ({ cls := "GrantworksModel", name := "free", desc := "(I)I" } : Jvm.MethodName)) ∈ lw_all := lw_g (lw_at lw_m5 12 rfl) rfl
theorem q1014 : (Jvm.Cond.code ({ cls := "GrantworksModel", name := "free", desc := "(I)I" } : Jvm.MethodName) prog_19_method_9_code (2 : Nat) (Option.some Jvm.ClassFile.FieldType.int)) ∈ lw_all := lw_g (lw_at lw_m5 13 rfl) rfl
theorem q1016 : (Jvm.Cond.instanceMethod ({ cls := "GrantworksModel", name := "call", desc := "(IIII)I" } : Jvm.MethodName)) ∈ lw_all := lw_g (lw_at lw_m5 15 rfl) rfl
theorem q1017 : (Jvm.Cond.selects "GrantworksModel" ({ cls := "GrantworksModel", name := "call", desc := "(IIII)I" } : Jvm.MethodName) ({ cls := "GrantworksModel", name := "call", desc := "(IIII)I" } : Jvm.MethodName)) ∈ lw_all := lw_g (lw_at lw_m5 16 rfl) rfl
theorem q1018 : (Jvm.Cond.code ({ cls := "GrantworksModel", name := "call", desc := "(IIII)I" } : Jvm.MethodName) prog_19_method_15_code (5 : Nat) (Option.some Jvm.ClassFile.FieldType.int)) ∈ lw_all := lw_g (lw_at lw_m5 17 rfl) rfl
theorem q1020 : (Jvm.Cond.instanceMethod ({ cls := "GrantworksModel", name := "apply", desc := "(IIIIII)I" } : Jvm.MethodName)) ∈ lw_all := lw_g (lw_at lw_m5 19 rfl) rfl
theorem q1021 : (Jvm.Cond.selects "GrantworksModel" ({ cls := "GrantworksModel", name := "apply", desc := "(IIIIII)I" } : Jvm.MethodName) ({ cls := "GrantworksModel", name := "apply", desc := "(IIIIII)I" } : Jvm.MethodName)) ∈ lw_all := lw_g (lw_at lw_m5 20 rfl) rfl
theorem q1022 : (Jvm.Cond.code ({ cls := "GrantworksModel", name := "apply", desc := "(IIIIII)I" } : Jvm.MethodName) prog_19_method_19_code (7 : Nat) (Option.some Jvm.ClassFile.FieldType.int)) ∈ lw_all := lw_g (lw_at lw_m5 21 rfl) rfl
theorem q1023 : (Jvm.Cond.methodLink "GrantworksModel" (151 : Nat) ({ cls := "GrantworksModel", name := "noCall", desc := "(I)Z" } : Jvm.MethodName)) ∈ lw_all := lw_g (lw_at lw_m5 22 rfl) rfl
theorem q1024 : (Jvm.Cond.privateMethod ({ cls := "GrantworksModel", name := "noCall", desc := "(I)Z" } : Jvm.MethodName)) ∈ lw_tbl := lw_at lw_m5 23 rfl
theorem q1025 : (Jvm.Cond.instanceMethod ({ cls := "GrantworksModel", name := "noCall", desc := "(I)Z" } : Jvm.MethodName)) ∈ lw_all := lw_g (lw_at lw_m5 24 rfl) rfl
theorem q1026 : (Jvm.Cond.code ({ cls := "GrantworksModel", name := "noCall", desc := "(I)Z" } : Jvm.MethodName) prog_19_method_5_code (2 : Nat) (Option.some Jvm.ClassFile.FieldType.boolean)) ∈ lw_all := lw_g (lw_at lw_m5 25 rfl) rfl
theorem q1027 : (Jvm.Cond.methodLink "GrantworksModel" (154 : Nat) ({ cls := "GrantworksModel", name := "areRight", desc := "(III)Z" } : Jvm.MethodName)) ∈ lw_all := lw_g (lw_at lw_m5 26 rfl) rfl
theorem q1028 : (Jvm.Cond.static ({ cls := "GrantworksModel", name := "areRight", desc := "(III)Z" } : Jvm.MethodName)) ∈ lw_all := lw_g (lw_at lw_m5 27 rfl) rfl
theorem q1029 : (Jvm.Cond.code ({ cls := "GrantworksModel", name := "areRight", desc := "(III)Z" } : Jvm.MethodName) prog_19_method_17_code (3 : Nat) (Option.some Jvm.ClassFile.FieldType.boolean)) ∈ lw_all := lw_g (lw_at lw_m5 28 rfl) rfl
theorem q1030 : (Jvm.Cond.constant "GrantworksModel" (150 : Nat) (100000 : Int32)) ∈ lw_all := lw_g (lw_at lw_m5 29 rfl) rfl
theorem q1031 : (Jvm.Cond.methodLink "GrantworksModel" (157 : Nat) ({ cls := "GrantworksModel", name := "isOpen", desc := "(I)Z" } : Jvm.MethodName)) ∈ lw_all := lw_g (lw_at lw_m5 30 rfl) rfl
theorem q1032 : (Jvm.Cond.privateMethod ({ cls := "GrantworksModel", name := "isOpen", desc := "(I)Z" } : Jvm.MethodName)) ∈ lw_tbl := lw_at lw_m5 31 rfl
theorem q1033 : (Jvm.Cond.instanceMethod ({ cls := "GrantworksModel", name := "isOpen", desc := "(I)Z" } : Jvm.MethodName)) ∈ lw_all := lw_g (lw_at lw_m5 32 rfl) rfl
theorem q1034 : (Jvm.Cond.code ({ cls := "GrantworksModel", name := "isOpen", desc := "(I)Z" } : Jvm.MethodName) prog_19_method_16_code (2 : Nat) (Option.some Jvm.ClassFile.FieldType.boolean)) ∈ lw_all := lw_g (lw_at lw_m5 33 rfl) rfl
theorem q1035 : (Jvm.Cond.methodLink "GrantworksModel" (160 : Nat) ({ cls := "GrantworksModel", name := "asks", desc := "(IIII)V" } : Jvm.MethodName)) ∈ lw_all := lw_g (lw_at lw_m5 34 rfl) rfl
theorem q1036 : (Jvm.Cond.privateMethod ({ cls := "GrantworksModel", name := "asks", desc := "(IIII)V" } : Jvm.MethodName)) ∈ lw_tbl := lw_at lw_m5 35 rfl
theorem q1037 : (Jvm.Cond.instanceMethod ({ cls := "GrantworksModel", name := "asks", desc := "(IIII)V" } : Jvm.MethodName)) ∈ lw_all := lw_g (lw_at lw_m5 36 rfl) rfl
theorem q1038 : (Jvm.Cond.code ({ cls := "GrantworksModel", name := "asks", desc := "(IIII)V" } : Jvm.MethodName) prog_19_method_18_code (5 : Nat) (Option.none : Option Jvm.ClassFile.FieldType)) ∈ lw_all := lw_g (lw_at lw_m5 37 rfl) rfl
theorem q1040 : (Jvm.Cond.instanceMethod ({ cls := "GrantworksModel", name := "revise", desc := "(IIII)I" } : Jvm.MethodName)) ∈ lw_all := lw_g (lw_at lw_m5 39 rfl) rfl
theorem q1041 : (Jvm.Cond.selects "GrantworksModel" ({ cls := "GrantworksModel", name := "revise", desc := "(IIII)I" } : Jvm.MethodName) ({ cls := "GrantworksModel", name := "revise", desc := "(IIII)I" } : Jvm.MethodName)) ∈ lw_all := lw_g (lw_at lw_m5 40 rfl) rfl
theorem q1042 : (Jvm.Cond.code ({ cls := "GrantworksModel", name := "revise", desc := "(IIII)I" } : Jvm.MethodName) prog_19_method_20_code (5 : Nat) (Option.some Jvm.ClassFile.FieldType.int)) ∈ lw_all := lw_g (lw_at lw_m5 41 rfl) rfl
theorem q1043 : (Jvm.Cond.methodLink "GrantworksModel" (164 : Nat) ({ cls := "GrantworksModel", name := "noApplication", desc := "(I)Z" } : Jvm.MethodName)) ∈ lw_all := lw_g (lw_at lw_m5 42 rfl) rfl
theorem q1044 : (Jvm.Cond.privateMethod ({ cls := "GrantworksModel", name := "noApplication", desc := "(I)Z" } : Jvm.MethodName)) ∈ lw_tbl := lw_at lw_m5 43 rfl
theorem q1045 : (Jvm.Cond.instanceMethod ({ cls := "GrantworksModel", name := "noApplication", desc := "(I)Z" } : Jvm.MethodName)) ∈ lw_all := lw_g (lw_at lw_m5 44 rfl) rfl
theorem q1046 : (Jvm.Cond.code ({ cls := "GrantworksModel", name := "noApplication", desc := "(I)Z" } : Jvm.MethodName) prog_19_method_6_code (2 : Nat) (Option.some Jvm.ClassFile.FieldType.boolean)) ∈ lw_all := lw_g (lw_at lw_m5 45 rfl) rfl
theorem q1048 : (Jvm.Cond.instanceMethod ({ cls := "GrantworksModel", name := "reviewer", desc := "(II)I" } : Jvm.MethodName)) ∈ lw_all := lw_g (lw_at lw_m5 47 rfl) rfl
theorem q1049 : (Jvm.Cond.selects "GrantworksModel" ({ cls := "GrantworksModel", name := "reviewer", desc := "(II)I" } : Jvm.MethodName) ({ cls := "GrantworksModel", name := "reviewer", desc := "(II)I" } : Jvm.MethodName)) ∈ lw_all := lw_g (lw_at lw_m5 48 rfl) rfl
theorem q1050 : (Jvm.Cond.code ({ cls := "GrantworksModel", name := "reviewer", desc := "(II)I" } : Jvm.MethodName) prog_19_method_21_code (3 : Nat) (Option.some Jvm.ClassFile.FieldType.int)) ∈ lw_all := lw_g (lw_at lw_m5 49 rfl) rfl
theorem q1052 : (Jvm.Cond.instanceMethod ({ cls := "GrantworksModel", name := "conflict", desc := "(IIZ)Z" } : Jvm.MethodName)) ∈ lw_all := lw_g (lw_at lw_m5 51 rfl) rfl
theorem q1053 : (Jvm.Cond.selects "GrantworksModel" ({ cls := "GrantworksModel", name := "conflict", desc := "(IIZ)Z" } : Jvm.MethodName) ({ cls := "GrantworksModel", name := "conflict", desc := "(IIZ)Z" } : Jvm.MethodName)) ∈ lw_all := lw_g (lw_at lw_m5 52 rfl) rfl
theorem q1054 : (Jvm.Cond.code ({ cls := "GrantworksModel", name := "conflict", desc := "(IIZ)Z" } : Jvm.MethodName) prog_19_method_22_code (5 : Nat) (Option.some Jvm.ClassFile.FieldType.boolean)) ∈ lw_all := lw_g (lw_at lw_m5 53 rfl) rfl
theorem q1055 : (Jvm.Cond.methodLink "GrantworksModel" (167 : Nat) ({ cls := "GrantworksModel", name := "noReviewer", desc := "(I)Z" } : Jvm.MethodName)) ∈ lw_all := lw_g (lw_at lw_m5 54 rfl) rfl
theorem q1056 : (Jvm.Cond.privateMethod ({ cls := "GrantworksModel", name := "noReviewer", desc := "(I)Z" } : Jvm.MethodName)) ∈ lw_tbl := lw_at lw_m5 55 rfl
theorem q1057 : (Jvm.Cond.instanceMethod ({ cls := "GrantworksModel", name := "noReviewer", desc := "(I)Z" } : Jvm.MethodName)) ∈ lw_all := lw_g (lw_at lw_m5 56 rfl) rfl
theorem q1058 : (Jvm.Cond.code ({ cls := "GrantworksModel", name := "noReviewer", desc := "(I)Z" } : Jvm.MethodName) prog_19_method_7_code (2 : Nat) (Option.some Jvm.ClassFile.FieldType.boolean)) ∈ lw_all := lw_g (lw_at lw_m5 57 rfl) rfl
theorem q1060 : (Jvm.Cond.instanceMethod ({ cls := "GrantworksModel", name := "seat", desc := "(IIZ)Z" } : Jvm.MethodName)) ∈ lw_all := lw_g (lw_at lw_m5 59 rfl) rfl
theorem q1061 : (Jvm.Cond.selects "GrantworksModel" ({ cls := "GrantworksModel", name := "seat", desc := "(IIZ)Z" } : Jvm.MethodName) ({ cls := "GrantworksModel", name := "seat", desc := "(IIZ)Z" } : Jvm.MethodName)) ∈ lw_all := lw_g (lw_at lw_m5 60 rfl) rfl
theorem q1062 : (Jvm.Cond.code ({ cls := "GrantworksModel", name := "seat", desc := "(IIZ)Z" } : Jvm.MethodName) prog_19_method_23_code (5 : Nat) (Option.some Jvm.ClassFile.FieldType.boolean)) ∈ lw_all := lw_g (lw_at lw_m5 61 rfl) rfl
theorem q1064 : (Jvm.Cond.instanceMethod ({ cls := "GrantworksModel", name := "review", desc := "(III)I" } : Jvm.MethodName)) ∈ lw_all := lw_g (lw_at lw_m5 63 rfl) rfl
theorem q1065 : (Jvm.Cond.selects "GrantworksModel" ({ cls := "GrantworksModel", name := "review", desc := "(III)I" } : Jvm.MethodName) ({ cls := "GrantworksModel", name := "review", desc := "(III)I" } : Jvm.MethodName)) ∈ lw_all := lw_g (lw_at lw_m5 64 rfl) rfl
theorem q1066 : (Jvm.Cond.code ({ cls := "GrantworksModel", name := "review", desc := "(III)I" } : Jvm.MethodName) prog_19_method_24_code (5 : Nat) (Option.some Jvm.ClassFile.FieldType.int)) ∈ lw_all := lw_g (lw_at lw_m5 65 rfl) rfl
theorem q1068 : (Jvm.Cond.instanceMethod ({ cls := "GrantworksModel", name := "alike", desc := "(II)I" } : Jvm.MethodName)) ∈ lw_all := lw_g (lw_at lw_m5 67 rfl) rfl
theorem q1069 : (Jvm.Cond.selects "GrantworksModel" ({ cls := "GrantworksModel", name := "alike", desc := "(II)I" } : Jvm.MethodName) ({ cls := "GrantworksModel", name := "alike", desc := "(II)I" } : Jvm.MethodName)) ∈ lw_all := lw_g (lw_at lw_m5 68 rfl) rfl
theorem q1070 : (Jvm.Cond.code ({ cls := "GrantworksModel", name := "alike", desc := "(II)I" } : Jvm.MethodName) prog_19_method_26_code (3 : Nat) (Option.some Jvm.ClassFile.FieldType.int)) ∈ lw_all := lw_g (lw_at lw_m5 69 rfl) rfl
theorem q1071 : (Jvm.Cond.methodLink "GrantworksModel" (171 : Nat) ({ cls := "GrantworksModel", name := "alikeOf", desc := "(II)I" } : Jvm.MethodName)) ∈ lw_all := lw_g (lw_at lw_m5 70 rfl) rfl
theorem q1072 : (Jvm.Cond.privateMethod ({ cls := "GrantworksModel", name := "alikeOf", desc := "(II)I" } : Jvm.MethodName)) ∈ lw_tbl := lw_at lw_m5 71 rfl
theorem q1073 : (Jvm.Cond.instanceMethod ({ cls := "GrantworksModel", name := "alikeOf", desc := "(II)I" } : Jvm.MethodName)) ∈ lw_all := lw_g (lw_at lw_m5 72 rfl) rfl
theorem q1074 : (Jvm.Cond.code ({ cls := "GrantworksModel", name := "alikeOf", desc := "(II)I" } : Jvm.MethodName) prog_19_method_25_code (10 : Nat) (Option.some Jvm.ClassFile.FieldType.int)) ∈ lw_all := lw_g (lw_at lw_m5 73 rfl) rfl
theorem q1075 : (Jvm.Cond.constant "GrantworksModel" (170 : Nat) (-1000000 : Int32)) ∈ lw_all := lw_g (lw_at lw_m5 74 rfl) rfl
theorem q1077 : (Jvm.Cond.instanceMethod ({ cls := "GrantworksModel", name := "award", desc := "(I)I" } : Jvm.MethodName)) ∈ lw_all := lw_g (lw_at lw_m5 76 rfl) rfl
theorem q1078 : (Jvm.Cond.selects "GrantworksModel" ({ cls := "GrantworksModel", name := "award", desc := "(I)I" } : Jvm.MethodName) ({ cls := "GrantworksModel", name := "award", desc := "(I)I" } : Jvm.MethodName)) ∈ lw_all := lw_g (lw_at lw_m5 77 rfl) rfl
theorem q1079 : (Jvm.Cond.code ({ cls := "GrantworksModel", name := "award", desc := "(I)I" } : Jvm.MethodName) prog_19_method_30_code (3 : Nat) (Option.some Jvm.ClassFile.FieldType.int)) ∈ lw_all := lw_g (lw_at lw_m5 78 rfl) rfl
theorem q1080 : (Jvm.Cond.methodLink "GrantworksModel" (177 : Nat) ({ cls := "GrantworksModel", name := "scoreOf", desc := "(I)I" } : Jvm.MethodName)) ∈ lw_all := lw_g (lw_at lw_m5 79 rfl) rfl
theorem q1081 : (Jvm.Cond.privateMethod ({ cls := "GrantworksModel", name := "scoreOf", desc := "(I)I" } : Jvm.MethodName)) ∈ lw_tbl := lw_at lw_m5 80 rfl
theorem q1082 : (Jvm.Cond.instanceMethod ({ cls := "GrantworksModel", name := "scoreOf", desc := "(I)I" } : Jvm.MethodName)) ∈ lw_all := lw_g (lw_at lw_m5 81 rfl) rfl
theorem q1083 : (Jvm.Cond.code ({ cls := "GrantworksModel", name := "scoreOf", desc := "(I)I" } : Jvm.MethodName) prog_19_method_28_code (5 : Nat) (Option.some Jvm.ClassFile.FieldType.int)) ∈ lw_all := lw_g (lw_at lw_m5 82 rfl) rfl
theorem q1084 : (Jvm.Cond.methodLink "GrantworksModel" (174 : Nat) ({ cls := "GrantworksModel", name := "reviews", desc := "(I)I" } : Jvm.MethodName)) ∈ lw_all := lw_g (lw_at lw_m5 83 rfl) rfl
theorem q1085 : (Jvm.Cond.privateMethod ({ cls := "GrantworksModel", name := "reviews", desc := "(I)I" } : Jvm.MethodName)) ∈ lw_tbl := lw_at lw_m5 84 rfl
theorem q1086 : (Jvm.Cond.instanceMethod ({ cls := "GrantworksModel", name := "reviews", desc := "(I)I" } : Jvm.MethodName)) ∈ lw_all := lw_g (lw_at lw_m5 85 rfl) rfl
theorem q1087 : (Jvm.Cond.code ({ cls := "GrantworksModel", name := "reviews", desc := "(I)I" } : Jvm.MethodName) prog_19_method_27_code (4 : Nat) (Option.some Jvm.ClassFile.FieldType.int)) ∈ lw_all := lw_g (lw_at lw_m5 86 rfl) rfl
theorem q1088 : (Jvm.Cond.methodLink "GrantworksModel" (180 : Nat) ({ cls := "GrantworksModel", name := "puts", desc := "(II)V" } : Jvm.MethodName)) ∈ lw_all := lw_g (lw_at lw_m5 87 rfl) rfl
theorem q1089 : (Jvm.Cond.privateMethod ({ cls := "GrantworksModel", name := "puts", desc := "(II)V" } : Jvm.MethodName)) ∈ lw_tbl := lw_at lw_m5 88 rfl
theorem q1090 : (Jvm.Cond.instanceMethod ({ cls := "GrantworksModel", name := "puts", desc := "(II)V" } : Jvm.MethodName)) ∈ lw_all := lw_g (lw_at lw_m5 89 rfl) rfl
theorem q1091 : (Jvm.Cond.code ({ cls := "GrantworksModel", name := "puts", desc := "(II)V" } : Jvm.MethodName) prog_19_method_31_code (4 : Nat) (Option.none : Option Jvm.ClassFile.FieldType)) ∈ lw_all := lw_g (lw_at lw_m5 90 rfl) rfl
theorem q1092 : (Jvm.Cond.methodLink "GrantworksModel" (184 : Nat) ({ cls := "GrantworksModel", name := "isAhead", desc := "(II)Z" } : Jvm.MethodName)) ∈ lw_all := lw_g (lw_at lw_m5 91 rfl) rfl
theorem q1093 : (Jvm.Cond.privateMethod ({ cls := "GrantworksModel", name := "isAhead", desc := "(II)Z" } : Jvm.MethodName)) ∈ lw_tbl := lw_at lw_m5 92 rfl
theorem q1094 : (Jvm.Cond.instanceMethod ({ cls := "GrantworksModel", name := "isAhead", desc := "(II)Z" } : Jvm.MethodName)) ∈ lw_all := lw_g (lw_at lw_m5 93 rfl) rfl
theorem q1095 : (Jvm.Cond.code ({ cls := "GrantworksModel", name := "isAhead", desc := "(II)Z" } : Jvm.MethodName) prog_19_method_29_code (5 : Nat) (Option.some Jvm.ClassFile.FieldType.boolean)) ∈ lw_all := lw_g (lw_at lw_m5 94 rfl) rfl
theorem q1097 : (Jvm.Cond.instanceMethod ({ cls := "GrantworksModel", name := "report", desc := "(II)I" } : Jvm.MethodName)) ∈ lw_all := lw_g (lw_at lw_m5 96 rfl) rfl
theorem q1098 : (Jvm.Cond.selects "GrantworksModel" ({ cls := "GrantworksModel", name := "report", desc := "(II)I" } : Jvm.MethodName) ({ cls := "GrantworksModel", name := "report", desc := "(II)I" } : Jvm.MethodName)) ∈ lw_all := lw_g (lw_at lw_m5 97 rfl) rfl
theorem q1099 : (Jvm.Cond.code ({ cls := "GrantworksModel", name := "report", desc := "(II)I" } : Jvm.MethodName) prog_19_method_32_code (6 : Nat) (Option.some Jvm.ClassFile.FieldType.int)) ∈ lw_all := lw_g (lw_at lw_m5 98 rfl) rfl
theorem q1101 : (Jvm.Cond.instanceMethod ({ cls := "GrantworksModel", name := "end", desc := "(IZ)I" } : Jvm.MethodName)) ∈ lw_all := lw_g (lw_at lw_m5 100 rfl) rfl
theorem q1102 : (Jvm.Cond.selects "GrantworksModel" ({ cls := "GrantworksModel", name := "end", desc := "(IZ)I" } : Jvm.MethodName) ({ cls := "GrantworksModel", name := "end", desc := "(IZ)I" } : Jvm.MethodName)) ∈ lw_all := lw_g (lw_at lw_m5 101 rfl) rfl
theorem q1103 : (Jvm.Cond.code ({ cls := "GrantworksModel", name := "end", desc := "(IZ)I" } : Jvm.MethodName) prog_19_method_33_code (8 : Nat) (Option.some Jvm.ClassFile.FieldType.int)) ∈ lw_all := lw_g (lw_at lw_m5 102 rfl) rfl
theorem q1105 : (Jvm.Cond.instanceMethod ({ cls := "GrantworksModel", name := "pass", desc := "(I)I" } : Jvm.MethodName)) ∈ lw_all := lw_g (lw_at lw_m5 104 rfl) rfl
theorem q1106 : (Jvm.Cond.selects "GrantworksModel" ({ cls := "GrantworksModel", name := "pass", desc := "(I)I" } : Jvm.MethodName) ({ cls := "GrantworksModel", name := "pass", desc := "(I)I" } : Jvm.MethodName)) ∈ lw_all := lw_g (lw_at lw_m5 105 rfl) rfl
theorem q1107 : (Jvm.Cond.code ({ cls := "GrantworksModel", name := "pass", desc := "(I)I" } : Jvm.MethodName) prog_19_method_34_code (2 : Nat) (Option.some Jvm.ClassFile.FieldType.int)) ∈ lw_all := lw_g (lw_at lw_m5 106 rfl) rfl
theorem q1109 : (Jvm.Cond.instanceMethod ({ cls := "GrantworksModel", name := "about", desc := "(II)I" } : Jvm.MethodName)) ∈ lw_all := lw_g (lw_at lw_m5 108 rfl) rfl
theorem q1110 : (Jvm.Cond.selects "GrantworksModel" ({ cls := "GrantworksModel", name := "about", desc := "(II)I" } : Jvm.MethodName) ({ cls := "GrantworksModel", name := "about", desc := "(II)I" } : Jvm.MethodName)) ∈ lw_all := lw_g (lw_at lw_m5 109 rfl) rfl
theorem q1111 : (Jvm.Cond.code ({ cls := "GrantworksModel", name := "about", desc := "(II)I" } : Jvm.MethodName) prog_19_method_36_code (3 : Nat) (Option.some Jvm.ClassFile.FieldType.int)) ∈ lw_all := lw_g (lw_at lw_m5 110 rfl) rfl
theorem q1112 : (Jvm.Cond.methodLink "GrantworksModel" (188 : Nat) ({ cls := "GrantworksModel", name := "reservedFor", desc := "(I)I" } : Jvm.MethodName)) ∈ lw_all := lw_g (lw_at lw_m5 111 rfl) rfl
theorem q1113 : (Jvm.Cond.privateMethod ({ cls := "GrantworksModel", name := "reservedFor", desc := "(I)I" } : Jvm.MethodName)) ∈ lw_tbl := lw_at lw_m5 112 rfl
theorem q1114 : (Jvm.Cond.instanceMethod ({ cls := "GrantworksModel", name := "reservedFor", desc := "(I)I" } : Jvm.MethodName)) ∈ lw_all := lw_g (lw_at lw_m5 113 rfl) rfl
theorem q1115 : (Jvm.Cond.code ({ cls := "GrantworksModel", name := "reservedFor", desc := "(I)I" } : Jvm.MethodName) prog_19_method_35_code (4 : Nat) (Option.some Jvm.ClassFile.FieldType.int)) ∈ lw_all := lw_g (lw_at lw_m5 114 rfl) rfl
theorem q1117 : (Jvm.Cond.instanceMethod ({ cls := "GrantworksModel", name := "account", desc := "(III)I" } : Jvm.MethodName)) ∈ lw_all := lw_g (lw_at lw_m5 116 rfl) rfl
theorem q1118 : (Jvm.Cond.selects "GrantworksModel" ({ cls := "GrantworksModel", name := "account", desc := "(III)I" } : Jvm.MethodName) ({ cls := "GrantworksModel", name := "account", desc := "(III)I" } : Jvm.MethodName)) ∈ lw_all := lw_g (lw_at lw_m5 117 rfl) rfl
theorem q1119 : (Jvm.Cond.code ({ cls := "GrantworksModel", name := "account", desc := "(III)I" } : Jvm.MethodName) prog_19_method_37_code (5 : Nat) (Option.some Jvm.ClassFile.FieldType.int)) ∈ lw_all := lw_g (lw_at lw_m5 118 rfl) rfl
theorem q1121 : (Jvm.Cond.instanceMethod ({ cls := "GrantworksModel", name := "waiting", desc := "(II)I" } : Jvm.MethodName)) ∈ lw_all := lw_g (lw_at lw_m5 120 rfl) rfl
theorem q1122 : (Jvm.Cond.selects "GrantworksModel" ({ cls := "GrantworksModel", name := "waiting", desc := "(II)I" } : Jvm.MethodName) ({ cls := "GrantworksModel", name := "waiting", desc := "(II)I" } : Jvm.MethodName)) ∈ lw_all := lw_g (lw_at lw_m5 121 rfl) rfl
theorem q1123 : (Jvm.Cond.code ({ cls := "GrantworksModel", name := "waiting", desc := "(II)I" } : Jvm.MethodName) prog_19_method_38_code (7 : Nat) (Option.some Jvm.ClassFile.FieldType.int)) ∈ lw_all := lw_g (lw_at lw_m5 122 rfl) rfl
theorem q1125 : (Jvm.Cond.instanceMethod ({ cls := "GrantworksModel", name := "ledger", desc := "(II)I" } : Jvm.MethodName)) ∈ lw_all := lw_g (lw_at lw_m5 124 rfl) rfl
theorem q1126 : (Jvm.Cond.selects "GrantworksModel" ({ cls := "GrantworksModel", name := "ledger", desc := "(II)I" } : Jvm.MethodName) ({ cls := "GrantworksModel", name := "ledger", desc := "(II)I" } : Jvm.MethodName)) ∈ lw_all := lw_g (lw_at lw_m5 125 rfl) rfl
theorem q1127 : (Jvm.Cond.code ({ cls := "GrantworksModel", name := "ledger", desc := "(II)I" } : Jvm.MethodName) prog_19_method_39_code (3 : Nat) (Option.some Jvm.ClassFile.FieldType.int)) ∈ lw_all := lw_g (lw_at lw_m5 126 rfl) rfl
theorem q1129 : (Jvm.Cond.instanceMethod ({ cls := "GrantworksModel", name := "count", desc := "(I)I" } : Jvm.MethodName)) ∈ lw_all := lw_g (lw_at lw_m5 128 rfl) rfl
theorem q1130 : (Jvm.Cond.selects "GrantworksModel" ({ cls := "GrantworksModel", name := "count", desc := "(I)I" } : Jvm.MethodName) ({ cls := "GrantworksModel", name := "count", desc := "(I)I" } : Jvm.MethodName)) ∈ lw_all := lw_g (lw_at lw_m5 129 rfl) rfl
theorem q1131 : (Jvm.Cond.code ({ cls := "GrantworksModel", name := "count", desc := "(I)I" } : Jvm.MethodName) prog_19_method_40_code (4 : Nat) (Option.some Jvm.ClassFile.FieldType.int)) ∈ lw_all := lw_g (lw_at lw_m5 130 rfl) rfl
theorem q1133 : (Jvm.Cond.instanceMethod ({ cls := "GrantworksModel", name := "ledgerErrors", desc := "()I" } : Jvm.MethodName)) ∈ lw_all := lw_g (lw_at lw_m5 132 rfl) rfl
theorem q1134 : (Jvm.Cond.selects "GrantworksModel" ({ cls := "GrantworksModel", name := "ledgerErrors", desc := "()I" } : Jvm.MethodName) ({ cls := "GrantworksModel", name := "ledgerErrors", desc := "()I" } : Jvm.MethodName)) ∈ lw_all := lw_g (lw_at lw_m5 133 rfl) rfl
theorem q1135 : (Jvm.Cond.code ({ cls := "GrantworksModel", name := "ledgerErrors", desc := "()I" } : Jvm.MethodName) prog_19_method_41_code (1 : Nat) (Option.some Jvm.ClassFile.FieldType.int)) ∈ lw_all := lw_g (lw_at lw_m5 134 rfl) rfl
theorem q1137 : (Jvm.Cond.instanceMethod ({ cls := "GrantworksModel", name := "paidShare", desc := "()D" } : Jvm.MethodName)) ∈ lw_all := lw_g (lw_at lw_m5 136 rfl) rfl
theorem q1138 : (Jvm.Cond.selects "GrantworksModel" ({ cls := "GrantworksModel", name := "paidShare", desc := "()D" } : Jvm.MethodName) ({ cls := "GrantworksModel", name := "paidShare", desc := "()D" } : Jvm.MethodName)) ∈ lw_all := lw_g (lw_at lw_m5 137 rfl) rfl
theorem q1139 : (Jvm.Cond.code ({ cls := "GrantworksModel", name := "paidShare", desc := "()D" } : Jvm.MethodName) prog_19_method_42_code (6 : Nat) (Option.some Jvm.ClassFile.FieldType.double)) ∈ lw_all := lw_g (lw_at lw_m5 138 rfl) rfl
theorem q1145 : (Jvm.Cond.castable "GrantworksModel" "java/lang/Object") ∈ lw_tbl := lw_at lw_m5 144 rfl
theorem in_X3 : ∀ w ∈ wsX30, w ∈ lw_all := lw_in wsX30 [903, 905, 907, 909, 911, 913, 915, 917, 919, 921, 923, 925, 927, 929, 931, 933, 935, 937, 939, 941, 943, 945, 947, 949, 951, 953, 955, 957, 959, 961, 963, 965, 967, 969, 971] (by decide +kernel) (by decide +kernel)
