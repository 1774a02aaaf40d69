/-! Grantworks -/
set_option maxRecDepth 100000
def RX1 : String := "Grantworks"
def TX1 : u_T := fun k => match k with
  | 0 => ("Grantworks", "accounts", "LGrantworks$Table;", true)
  | 1 => ("Grantworks", "keys", "[LGrantworks$Key;", true)
  | 2 => ("Grantworks", "entries", "[LGrantworks$Entry;", true)
  | 3 => ("Grantworks", "entryCount", "I", false)
  | 4 => ("Grantworks", "fields", "[I", true)
  | 5 => ("Grantworks", "opens", "[I", true)
  | 6 => ("Grantworks", "deadlines", "[I", true)
  | 7 => ("Grantworks", "firstYears", "[I", true)
  | 8 => ("Grantworks", "listCounts", "[I", true)
  | 9 => ("Grantworks", "lists", "[I", true)
  | 10 => ("Grantworks", "isAwarded", "[Z", true)
  | 11 => ("Grantworks", "applications", "[LGrantworks$Application;", true)
  | 12 => ("Grantworks", "calls", "I", false)
  | 13 => ("Grantworks", "count", "I", false)
  | 14 => ("Grantworks", "day", "I", false)
  | 15 => ("Grantworks", "reviewerPeople", "[I", true)
  | 16 => ("Grantworks", "reviewerHouses", "[I", true)
  | 17 => ("Grantworks", "conflicts", "[I", true)
  | 18 => ("Grantworks", "panels", "[I", true)
  | 19 => ("Grantworks", "reviewers", "I", false)
  | 20 => ("Grantworks", "budgets", "[I", true)
  | 21 => ("Grantworks", "reserves", "[I", true)
  | 22 => ("Grantworks", "payments", "[I", true)
  | _ => ("Grantworks", "held", "[I", true)
def tyX1 : Nat → FieldType := fun k => match k with
  | 0 => .object "Grantworks$Table"
  | 1 => .array (.object "Grantworks$Key")
  | 2 => .array (.object "Grantworks$Entry")
  | 3 => .int
  | 4 => .array .int
  | 5 => .array .int
  | 6 => .array .int
  | 7 => .array .int
  | 8 => .array .int
  | 9 => .array .int
  | 10 => .array .boolean
  | 11 => .array (.object "Grantworks$Application")
  | 12 => .int
  | 13 => .int
  | 14 => .int
  | 15 => .array .int
  | 16 => .array .int
  | 17 => .array .int
  | 18 => .array .int
  | 19 => .int
  | 20 => .array .int
  | 21 => .array .int
  | 22 => .array .int
  | _ => .array .int
abbrev wsX10 : List Cond := u_ws RX1 TX1 24
set_option maxRecDepth 100000 in
theorem nmX1 : ∀ a, a < 24 → ∀ b, b < 24 → a ≠ b → (TX1 a).2.1 ≠ (TX1 b).2.1 := by decide +kernel
set_option maxRecDepth 100000 in
theorem tyX1_ok : ∀ k, k < 24 → parseFieldDescriptor (TX1 k).2.2.1 = some (tyX1 k) := by decide +kernel
abbrev cX1_init : ByteArray := prog_1_method_6_code
def yX1_init : MethodName := ⟨RX1, "<init>", "()V"⟩
def dkwX1_init_6 : List UInt8 := [16, 48, 188, 10, 181, 0, 84, 42, 16, 48, 188, 10, 181, 0, 87, 42, 16, 24, 188, 10, 181, 0, 90, 177]
abbrev dktX1_init_6 : List UInt8 := dkwX1_init_6 ++ []
def dkwX1_init_5 : List UInt8 := [16, 10, 188, 10, 181, 0, 75, 42, 16, 6, 188, 10, 181, 0, 78, 42, 16, 48, 188, 10, 181, 0, 81, 42]
abbrev dktX1_init_5 : List UInt8 := dkwX1_init_5 ++ dktX1_init_6
def dkwX1_init_4 : List UInt8 := [189, 0, 63, 181, 0, 65, 42, 16, 10, 188, 10, 181, 0, 69, 42, 16, 10, 188, 10, 181, 0, 72, 42]
abbrev dktX1_init_4 : List UInt8 := dkwX1_init_4 ++ dktX1_init_5
def dkwX1_init_3 : List UInt8 := [181, 0, 53, 42, 17, 0, 144, 188, 10, 181, 0, 56, 42, 16, 6, 188, 4, 181, 0, 59, 42, 16, 24]
abbrev dktX1_init_3 : List UInt8 := dkwX1_init_3 ++ dktX1_init_4
def dkwX1_init_2 : List UInt8 := [181, 0, 44, 42, 16, 6, 188, 10, 181, 0, 47, 42, 16, 6, 188, 10, 181, 0, 50, 42, 16, 6, 188, 10]
abbrev dktX1_init_2 : List UInt8 := dkwX1_init_2 ++ dktX1_init_3
def dkwX1_init_1 : List UInt8 := [42, 17, 1, 144, 189, 0, 34, 181, 0, 36, 42, 16, 6, 188, 10, 181, 0, 40, 42, 16, 6, 188, 10]
abbrev dktX1_init_1 : List UInt8 := dkwX1_init_1 ++ dktX1_init_2
def dkwX1_init_0 : List UInt8 := [42, 183, 0, 16, 42, 187, 0, 19, 89, 183, 0, 21, 181, 0, 22, 42, 16, 48, 189, 0, 28, 181, 0, 30]
abbrev dktX1_init_0 : List UInt8 := dkwX1_init_0 ++ dktX1_init_1
theorem dksX1_init_0 : cX1_init.data.toList.drop 0 = dktX1_init_0 := by decide +kernel
theorem dksX1_init_1 : cX1_init.data.toList.drop 24 = dktX1_init_1 := dk_seg dksX1_init_0 24 rfl rfl
theorem dksX1_init_2 : cX1_init.data.toList.drop 47 = dktX1_init_2 := dk_seg dksX1_init_1 23 rfl rfl
theorem dksX1_init_3 : cX1_init.data.toList.drop 71 = dktX1_init_3 := dk_seg dksX1_init_2 24 rfl rfl
theorem dksX1_init_4 : cX1_init.data.toList.drop 94 = dktX1_init_4 := dk_seg dksX1_init_3 23 rfl rfl
theorem dksX1_init_5 : cX1_init.data.toList.drop 117 = dktX1_init_5 := dk_seg dksX1_init_4 23 rfl rfl
theorem dksX1_init_6 : cX1_init.data.toList.drop 141 = dktX1_init_6 := dk_seg dksX1_init_5 24 rfl rfl
theorem dX1_init_0 : decode cX1_init 0 = .ok (.aload_n 0, 1) := dk_42 (dk_at dksX1_init_0 0 rfl rfl)
theorem dX1_init_1 : decode cX1_init 1 = .ok (.invokespecial 16, 3) := dk_183 0 16 (dk_at dksX1_init_0 1 rfl rfl)
theorem dX1_init_4 : decode cX1_init 4 = .ok (.aload_n 0, 1) := dk_42 (dk_at dksX1_init_0 4 rfl rfl)
theorem dX1_init_5 : decode cX1_init 5 = .ok (.new 19, 3) := dk_187 0 19 (dk_at dksX1_init_0 5 rfl rfl)
theorem dX1_init_8 : decode cX1_init 8 = .ok (.dup, 1) := dk_89 (dk_at dksX1_init_0 8 rfl rfl)
theorem dX1_init_9 : decode cX1_init 9 = .ok (.invokespecial 21, 3) := dk_183 0 21 (dk_at dksX1_init_0 9 rfl rfl)
theorem dX1_init_12 : decode cX1_init 12 = .ok (.putfield 22, 3) := dk_181 0 22 (dk_at dksX1_init_0 12 rfl rfl)
theorem dX1_init_15 : decode cX1_init 15 = .ok (.aload_n 0, 1) := dk_42 (dk_at dksX1_init_0 15 rfl rfl)
theorem dX1_init_16 : decode cX1_init 16 = .ok (.bipush 48, 2) := dk_16 48 (dk_at dksX1_init_0 16 rfl rfl)
theorem dX1_init_18 : decode cX1_init 18 = .ok (.anewarray 28, 3) := dk_189 0 28 (dk_at dksX1_init_0 18 rfl rfl)
theorem dX1_init_21 : decode cX1_init 21 = .ok (.putfield 30, 3) := dk_181 0 30 (dk_at dksX1_init_0 21 rfl rfl)
theorem dX1_init_24 : decode cX1_init 24 = .ok (.aload_n 0, 1) := dk_42 (dk_at dksX1_init_1 0 rfl rfl)
theorem dX1_init_25 : decode cX1_init 25 = .ok (.sipush 400, 3) := dk_17 1 144 (dk_at dksX1_init_1 1 rfl rfl)
theorem dX1_init_28 : decode cX1_init 28 = .ok (.anewarray 34, 3) := dk_189 0 34 (dk_at dksX1_init_1 4 rfl rfl)
theorem dX1_init_31 : decode cX1_init 31 = .ok (.putfield 36, 3) := dk_181 0 36 (dk_at dksX1_init_1 7 rfl rfl)
theorem dX1_init_34 : decode cX1_init 34 = .ok (.aload_n 0, 1) := dk_42 (dk_at dksX1_init_1 10 rfl rfl)
theorem dX1_init_35 : decode cX1_init 35 = .ok (.bipush 6, 2) := dk_16 6 (dk_at dksX1_init_1 11 rfl rfl)
theorem dX1_init_37 : decode cX1_init 37 = .ok (.newarray .int, 2) := dk_188_10 (dk_at dksX1_init_1 13 rfl rfl)
theorem dX1_init_39 : decode cX1_init 39 = .ok (.putfield 40, 3) := dk_181 0 40 (dk_at dksX1_init_1 15 rfl rfl)
theorem dX1_init_42 : decode cX1_init 42 = .ok (.aload_n 0, 1) := dk_42 (dk_at dksX1_init_1 18 rfl rfl)
theorem dX1_init_43 : decode cX1_init 43 = .ok (.bipush 6, 2) := dk_16 6 (dk_at dksX1_init_1 19 rfl rfl)
theorem dX1_init_45 : decode cX1_init 45 = .ok (.newarray .int, 2) := dk_188_10 (dk_at dksX1_init_1 21 rfl rfl)
theorem dX1_init_47 : decode cX1_init 47 = .ok (.putfield 44, 3) := dk_181 0 44 (dk_at dksX1_init_2 0 rfl rfl)
theorem dX1_init_50 : decode cX1_init 50 = .ok (.aload_n 0, 1) := dk_42 (dk_at dksX1_init_2 3 rfl rfl)
theorem dX1_init_51 : decode cX1_init 51 = .ok (.bipush 6, 2) := dk_16 6 (dk_at dksX1_init_2 4 rfl rfl)
theorem dX1_init_53 : decode cX1_init 53 = .ok (.newarray .int, 2) := dk_188_10 (dk_at dksX1_init_2 6 rfl rfl)
theorem dX1_init_55 : decode cX1_init 55 = .ok (.putfield 47, 3) := dk_181 0 47 (dk_at dksX1_init_2 8 rfl rfl)
theorem dX1_init_58 : decode cX1_init 58 = .ok (.aload_n 0, 1) := dk_42 (dk_at dksX1_init_2 11 rfl rfl)
theorem dX1_init_59 : decode cX1_init 59 = .ok (.bipush 6, 2) := dk_16 6 (dk_at dksX1_init_2 12 rfl rfl)
theorem dX1_init_61 : decode cX1_init 61 = .ok (.newarray .int, 2) := dk_188_10 (dk_at dksX1_init_2 14 rfl rfl)
theorem dX1_init_63 : decode cX1_init 63 = .ok (.putfield 50, 3) := dk_181 0 50 (dk_at dksX1_init_2 16 rfl rfl)
theorem dX1_init_66 : decode cX1_init 66 = .ok (.aload_n 0, 1) := dk_42 (dk_at dksX1_init_2 19 rfl rfl)
theorem dX1_init_67 : decode cX1_init 67 = .ok (.bipush 6, 2) := dk_16 6 (dk_at dksX1_init_2 20 rfl rfl)
theorem dX1_init_69 : decode cX1_init 69 = .ok (.newarray .int, 2) := dk_188_10 (dk_at dksX1_init_2 22 rfl rfl)
theorem dX1_init_71 : decode cX1_init 71 = .ok (.putfield 53, 3) := dk_181 0 53 (dk_at dksX1_init_3 0 rfl rfl)
theorem dX1_init_74 : decode cX1_init 74 = .ok (.aload_n 0, 1) := dk_42 (dk_at dksX1_init_3 3 rfl rfl)
theorem dX1_init_75 : decode cX1_init 75 = .ok (.sipush 144, 3) := dk_17 0 144 (dk_at dksX1_init_3 4 rfl rfl)
theorem dX1_init_78 : decode cX1_init 78 = .ok (.newarray .int, 2) := dk_188_10 (dk_at dksX1_init_3 7 rfl rfl)
theorem dX1_init_80 : decode cX1_init 80 = .ok (.putfield 56, 3) := dk_181 0 56 (dk_at dksX1_init_3 9 rfl rfl)
theorem dX1_init_83 : decode cX1_init 83 = .ok (.aload_n 0, 1) := dk_42 (dk_at dksX1_init_3 12 rfl rfl)
theorem dX1_init_84 : decode cX1_init 84 = .ok (.bipush 6, 2) := dk_16 6 (dk_at dksX1_init_3 13 rfl rfl)
theorem dX1_init_86 : decode cX1_init 86 = .ok (.newarray .boolean, 2) := dk_188_4 (dk_at dksX1_init_3 15 rfl rfl)
theorem dX1_init_88 : decode cX1_init 88 = .ok (.putfield 59, 3) := dk_181 0 59 (dk_at dksX1_init_3 17 rfl rfl)
theorem dX1_init_91 : decode cX1_init 91 = .ok (.aload_n 0, 1) := dk_42 (dk_at dksX1_init_3 20 rfl rfl)
theorem dX1_init_92 : decode cX1_init 92 = .ok (.bipush 24, 2) := dk_16 24 (dk_at dksX1_init_3 21 rfl rfl)
theorem dX1_init_94 : decode cX1_init 94 = .ok (.anewarray 63, 3) := dk_189 0 63 (dk_at dksX1_init_4 0 rfl rfl)
theorem dX1_init_97 : decode cX1_init 97 = .ok (.putfield 65, 3) := dk_181 0 65 (dk_at dksX1_init_4 3 rfl rfl)
theorem dX1_init_100 : decode cX1_init 100 = .ok (.aload_n 0, 1) := dk_42 (dk_at dksX1_init_4 6 rfl rfl)
theorem dX1_init_101 : decode cX1_init 101 = .ok (.bipush 10, 2) := dk_16 10 (dk_at dksX1_init_4 7 rfl rfl)
theorem dX1_init_103 : decode cX1_init 103 = .ok (.newarray .int, 2) := dk_188_10 (dk_at dksX1_init_4 9 rfl rfl)
theorem dX1_init_105 : decode cX1_init 105 = .ok (.putfield 69, 3) := dk_181 0 69 (dk_at dksX1_init_4 11 rfl rfl)
theorem dX1_init_108 : decode cX1_init 108 = .ok (.aload_n 0, 1) := dk_42 (dk_at dksX1_init_4 14 rfl rfl)
theorem dX1_init_109 : decode cX1_init 109 = .ok (.bipush 10, 2) := dk_16 10 (dk_at dksX1_init_4 15 rfl rfl)
theorem dX1_init_111 : decode cX1_init 111 = .ok (.newarray .int, 2) := dk_188_10 (dk_at dksX1_init_4 17 rfl rfl)
theorem dX1_init_113 : decode cX1_init 113 = .ok (.putfield 72, 3) := dk_181 0 72 (dk_at dksX1_init_4 19 rfl rfl)
theorem dX1_init_116 : decode cX1_init 116 = .ok (.aload_n 0, 1) := dk_42 (dk_at dksX1_init_4 22 rfl rfl)
theorem dX1_init_117 : decode cX1_init 117 = .ok (.bipush 10, 2) := dk_16 10 (dk_at dksX1_init_5 0 rfl rfl)
theorem dX1_init_119 : decode cX1_init 119 = .ok (.newarray .int, 2) := dk_188_10 (dk_at dksX1_init_5 2 rfl rfl)
theorem dX1_init_121 : decode cX1_init 121 = .ok (.putfield 75, 3) := dk_181 0 75 (dk_at dksX1_init_5 4 rfl rfl)
theorem dX1_init_124 : decode cX1_init 124 = .ok (.aload_n 0, 1) := dk_42 (dk_at dksX1_init_5 7 rfl rfl)
theorem dX1_init_125 : decode cX1_init 125 = .ok (.bipush 6, 2) := dk_16 6 (dk_at dksX1_init_5 8 rfl rfl)
theorem dX1_init_127 : decode cX1_init 127 = .ok (.newarray .int, 2) := dk_188_10 (dk_at dksX1_init_5 10 rfl rfl)
theorem dX1_init_129 : decode cX1_init 129 = .ok (.putfield 78, 3) := dk_181 0 78 (dk_at dksX1_init_5 12 rfl rfl)
theorem dX1_init_132 : decode cX1_init 132 = .ok (.aload_n 0, 1) := dk_42 (dk_at dksX1_init_5 15 rfl rfl)
theorem dX1_init_133 : decode cX1_init 133 = .ok (.bipush 48, 2) := dk_16 48 (dk_at dksX1_init_5 16 rfl rfl)
theorem dX1_init_135 : decode cX1_init 135 = .ok (.newarray .int, 2) := dk_188_10 (dk_at dksX1_init_5 18 rfl rfl)
theorem dX1_init_137 : decode cX1_init 137 = .ok (.putfield 81, 3) := dk_181 0 81 (dk_at dksX1_init_5 20 rfl rfl)
theorem dX1_init_140 : decode cX1_init 140 = .ok (.aload_n 0, 1) := dk_42 (dk_at dksX1_init_5 23 rfl rfl)
theorem dX1_init_141 : decode cX1_init 141 = .ok (.bipush 48, 2) := dk_16 48 (dk_at dksX1_init_6 0 rfl rfl)
theorem dX1_init_143 : decode cX1_init 143 = .ok (.newarray .int, 2) := dk_188_10 (dk_at dksX1_init_6 2 rfl rfl)
theorem dX1_init_145 : decode cX1_init 145 = .ok (.putfield 84, 3) := dk_181 0 84 (dk_at dksX1_init_6 4 rfl rfl)
theorem dX1_init_148 : decode cX1_init 148 = .ok (.aload_n 0, 1) := dk_42 (dk_at dksX1_init_6 7 rfl rfl)
theorem dX1_init_149 : decode cX1_init 149 = .ok (.bipush 48, 2) := dk_16 48 (dk_at dksX1_init_6 8 rfl rfl)
theorem dX1_init_151 : decode cX1_init 151 = .ok (.newarray .int, 2) := dk_188_10 (dk_at dksX1_init_6 10 rfl rfl)
theorem dX1_init_153 : decode cX1_init 153 = .ok (.putfield 87, 3) := dk_181 0 87 (dk_at dksX1_init_6 12 rfl rfl)
theorem dX1_init_156 : decode cX1_init 156 = .ok (.aload_n 0, 1) := dk_42 (dk_at dksX1_init_6 15 rfl rfl)
theorem dX1_init_157 : decode cX1_init 157 = .ok (.bipush 24, 2) := dk_16 24 (dk_at dksX1_init_6 16 rfl rfl)
theorem dX1_init_159 : decode cX1_init 159 = .ok (.newarray .int, 2) := dk_188_10 (dk_at dksX1_init_6 18 rfl rfl)
theorem dX1_init_161 : decode cX1_init 161 = .ok (.putfield 90, 3) := dk_181 0 90 (dk_at dksX1_init_6 20 rfl rfl)
theorem dX1_init_164 : decode cX1_init 164 = .ok (.return_, 1) := dk_177 (dk_at dksX1_init_6 23 rfl rfl)
abbrev cX1_ledgerErrors : ByteArray := prog_1_method_52_code
def yX1_ledgerErrors : MethodName := ⟨RX1, "ledgerErrors", "()I"⟩
def dkwX1_ledgerErrors_9 : List UInt8 := [132, 1, 1, 132, 2, 1, 167, 255, 205, 27, 172]
abbrev dktX1_ledgerErrors_9 : List UInt8 := dkwX1_ledgerErrors_9 ++ []
def dkwX1_ledgerErrors_8 : List UInt8 := [182, 1, 120, 153, 0, 15, 42, 180, 0, 65, 28, 50, 182, 1, 123, 167, 0, 4, 3, 159, 0, 6]
abbrev dktX1_ledgerErrors_8 : List UInt8 := dkwX1_ledgerErrors_8 ++ dktX1_ledgerErrors_9
def dkwX1_ledgerErrors_7 : List UInt8 := [42, 180, 0, 199, 162, 0, 49, 42, 180, 0, 90, 28, 46, 42, 180, 0, 65, 28, 50, 180, 0, 242]
abbrev dktX1_ledgerErrors_7 : List UInt8 := dkwX1_ledgerErrors_7 ++ dktX1_ledgerErrors_8
def dkwX1_ledgerErrors_6 : List UInt8 := [42, 42, 28, 182, 1, 45, 182, 1, 49, 153, 0, 6, 132, 1, 1, 132, 2, 1, 167, 255, 212, 3, 61, 28]
abbrev dktX1_ledgerErrors_6 : List UInt8 := dkwX1_ledgerErrors_6 ++ dktX1_ledgerErrors_7
def dkwX1_ledgerErrors_5 : List UInt8 := [180, 0, 196, 162, 0, 42, 42, 180, 0, 59, 28, 51, 153, 0, 27, 42, 180, 0, 53, 28, 46, 158, 0, 18]
abbrev dktX1_ledgerErrors_5 : List UInt8 := dkwX1_ledgerErrors_5 ++ dktX1_ledgerErrors_6
def dkwX1_ledgerErrors_4 : List UInt8 := [44, 180, 0, 133, 156, 0, 6, 132, 1, 1, 44, 180, 1, 147, 77, 167, 255, 160, 3, 61, 28, 42]
abbrev dktX1_ledgerErrors_4 : List UInt8 := dkwX1_ledgerErrors_4 ++ dktX1_ledgerErrors_5
def dkwX1_ledgerErrors_3 : List UInt8 := [29, 46, 160, 0, 7, 4, 167, 0, 4, 3, 54, 4, 21, 4, 153, 0, 17, 44, 182, 0, 189, 155, 0, 10]
abbrev dktX1_ledgerErrors_3 : List UInt8 := dkwX1_ledgerErrors_3 ++ dktX1_ledgerErrors_4
def dkwX1_ledgerErrors_2 : List UInt8 := [160, 0, 33, 44, 180, 0, 133, 42, 180, 0, 84, 29, 46, 160, 0, 20, 44, 180, 0, 145, 42, 180, 0, 87]
abbrev dktX1_ledgerErrors_2 : List UInt8 := dkwX1_ledgerErrors_2 ++ dktX1_ledgerErrors_3
def dkwX1_ledgerErrors_1 : List UInt8 := [180, 0, 167, 104, 44, 180, 1, 80, 180, 0, 170, 96, 62, 44, 180, 0, 186, 42, 180, 0, 81, 29, 46]
abbrev dktX1_ledgerErrors_1 : List UInt8 := dkwX1_ledgerErrors_1 ++ dktX1_ledgerErrors_2
def dkwX1_ledgerErrors_0 : List UInt8 := [42, 182, 1, 140, 3, 60, 42, 180, 0, 22, 180, 1, 143, 77, 44, 198, 0, 98, 16, 12, 44, 180, 1, 80]
abbrev dktX1_ledgerErrors_0 : List UInt8 := dkwX1_ledgerErrors_0 ++ dktX1_ledgerErrors_1
theorem dksX1_ledgerErrors_0 : cX1_ledgerErrors.data.toList.drop 0 = dktX1_ledgerErrors_0 := by decide +kernel
theorem dksX1_ledgerErrors_1 : cX1_ledgerErrors.data.toList.drop 24 = dktX1_ledgerErrors_1 := dk_seg dksX1_ledgerErrors_0 24 rfl rfl
theorem dksX1_ledgerErrors_2 : cX1_ledgerErrors.data.toList.drop 47 = dktX1_ledgerErrors_2 := dk_seg dksX1_ledgerErrors_1 23 rfl rfl
theorem dksX1_ledgerErrors_3 : cX1_ledgerErrors.data.toList.drop 71 = dktX1_ledgerErrors_3 := dk_seg dksX1_ledgerErrors_2 24 rfl rfl
theorem dksX1_ledgerErrors_4 : cX1_ledgerErrors.data.toList.drop 95 = dktX1_ledgerErrors_4 := dk_seg dksX1_ledgerErrors_3 24 rfl rfl
theorem dksX1_ledgerErrors_5 : cX1_ledgerErrors.data.toList.drop 117 = dktX1_ledgerErrors_5 := dk_seg dksX1_ledgerErrors_4 22 rfl rfl
theorem dksX1_ledgerErrors_6 : cX1_ledgerErrors.data.toList.drop 141 = dktX1_ledgerErrors_6 := dk_seg dksX1_ledgerErrors_5 24 rfl rfl
theorem dksX1_ledgerErrors_7 : cX1_ledgerErrors.data.toList.drop 165 = dktX1_ledgerErrors_7 := dk_seg dksX1_ledgerErrors_6 24 rfl rfl
theorem dksX1_ledgerErrors_8 : cX1_ledgerErrors.data.toList.drop 187 = dktX1_ledgerErrors_8 := dk_seg dksX1_ledgerErrors_7 22 rfl rfl
theorem dksX1_ledgerErrors_9 : cX1_ledgerErrors.data.toList.drop 209 = dktX1_ledgerErrors_9 := dk_seg dksX1_ledgerErrors_8 22 rfl rfl
theorem dX1_ledgerErrors_0 : decode cX1_ledgerErrors 0 = .ok (.aload_n 0, 1) := dk_42 (dk_at dksX1_ledgerErrors_0 0 rfl rfl)
theorem dX1_ledgerErrors_1 : decode cX1_ledgerErrors 1 = .ok (.invokevirtual 396, 3) := dk_182 1 140 (dk_at dksX1_ledgerErrors_0 1 rfl rfl)
theorem dX1_ledgerErrors_4 : decode cX1_ledgerErrors 4 = .ok (.iconst 0, 1) := dk_3 (dk_at dksX1_ledgerErrors_0 4 rfl rfl)
theorem dX1_ledgerErrors_5 : decode cX1_ledgerErrors 5 = .ok (.istore_n 1, 1) := dk_60 (dk_at dksX1_ledgerErrors_0 5 rfl rfl)
theorem dX1_ledgerErrors_6 : decode cX1_ledgerErrors 6 = .ok (.aload_n 0, 1) := dk_42 (dk_at dksX1_ledgerErrors_0 6 rfl rfl)
theorem dX1_ledgerErrors_7 : decode cX1_ledgerErrors 7 = .ok (.getfield 22, 3) := dk_180 0 22 (dk_at dksX1_ledgerErrors_0 7 rfl rfl)
theorem dX1_ledgerErrors_10 : decode cX1_ledgerErrors 10 = .ok (.getfield 399, 3) := dk_180 1 143 (dk_at dksX1_ledgerErrors_0 10 rfl rfl)
theorem dX1_ledgerErrors_13 : decode cX1_ledgerErrors 13 = .ok (.astore_n 2, 1) := dk_77 (dk_at dksX1_ledgerErrors_0 13 rfl rfl)
theorem dX1_ledgerErrors_14 : decode cX1_ledgerErrors 14 = .ok (.aload_n 2, 1) := dk_44 (dk_at dksX1_ledgerErrors_0 14 rfl rfl)
theorem dX1_ledgerErrors_15 : decode cX1_ledgerErrors 15 = .ok (.ifnull 98, 3) := dk_198 0 98 (dk_at dksX1_ledgerErrors_0 15 rfl rfl)
theorem dX1_ledgerErrors_18 : decode cX1_ledgerErrors 18 = .ok (.bipush 12, 2) := dk_16 12 (dk_at dksX1_ledgerErrors_0 18 rfl rfl)
theorem dX1_ledgerErrors_20 : decode cX1_ledgerErrors 20 = .ok (.aload_n 2, 1) := dk_44 (dk_at dksX1_ledgerErrors_0 20 rfl rfl)
theorem dX1_ledgerErrors_21 : decode cX1_ledgerErrors 21 = .ok (.getfield 336, 3) := dk_180 1 80 (dk_at dksX1_ledgerErrors_0 21 rfl rfl)
theorem dX1_ledgerErrors_24 : decode cX1_ledgerErrors 24 = .ok (.getfield 167, 3) := dk_180 0 167 (dk_at dksX1_ledgerErrors_1 0 rfl rfl)
theorem dX1_ledgerErrors_27 : decode cX1_ledgerErrors 27 = .ok (.imul, 1) := dk_104 (dk_at dksX1_ledgerErrors_1 3 rfl rfl)
theorem dX1_ledgerErrors_28 : decode cX1_ledgerErrors 28 = .ok (.aload_n 2, 1) := dk_44 (dk_at dksX1_ledgerErrors_1 4 rfl rfl)
theorem dX1_ledgerErrors_29 : decode cX1_ledgerErrors 29 = .ok (.getfield 336, 3) := dk_180 1 80 (dk_at dksX1_ledgerErrors_1 5 rfl rfl)
theorem dX1_ledgerErrors_32 : decode cX1_ledgerErrors 32 = .ok (.getfield 170, 3) := dk_180 0 170 (dk_at dksX1_ledgerErrors_1 8 rfl rfl)
theorem dX1_ledgerErrors_35 : decode cX1_ledgerErrors 35 = .ok (.iadd, 1) := dk_96 (dk_at dksX1_ledgerErrors_1 11 rfl rfl)
theorem dX1_ledgerErrors_36 : decode cX1_ledgerErrors 36 = .ok (.istore_n 3, 1) := dk_62 (dk_at dksX1_ledgerErrors_1 12 rfl rfl)
theorem dX1_ledgerErrors_37 : decode cX1_ledgerErrors 37 = .ok (.aload_n 2, 1) := dk_44 (dk_at dksX1_ledgerErrors_1 13 rfl rfl)
theorem dX1_ledgerErrors_38 : decode cX1_ledgerErrors 38 = .ok (.getfield 186, 3) := dk_180 0 186 (dk_at dksX1_ledgerErrors_1 14 rfl rfl)
theorem dX1_ledgerErrors_41 : decode cX1_ledgerErrors 41 = .ok (.aload_n 0, 1) := dk_42 (dk_at dksX1_ledgerErrors_1 17 rfl rfl)
theorem dX1_ledgerErrors_42 : decode cX1_ledgerErrors 42 = .ok (.getfield 81, 3) := dk_180 0 81 (dk_at dksX1_ledgerErrors_1 18 rfl rfl)
theorem dX1_ledgerErrors_45 : decode cX1_ledgerErrors 45 = .ok (.iload_n 3, 1) := dk_29 (dk_at dksX1_ledgerErrors_1 21 rfl rfl)
theorem dX1_ledgerErrors_46 : decode cX1_ledgerErrors 46 = .ok (.iaload, 1) := dk_46 (dk_at dksX1_ledgerErrors_1 22 rfl rfl)
theorem dX1_ledgerErrors_47 : decode cX1_ledgerErrors 47 = .ok (.if_icmp .ne 33, 3) := dk_160 0 33 (dk_at dksX1_ledgerErrors_2 0 rfl rfl)
theorem dX1_ledgerErrors_50 : decode cX1_ledgerErrors 50 = .ok (.aload_n 2, 1) := dk_44 (dk_at dksX1_ledgerErrors_2 3 rfl rfl)
theorem dX1_ledgerErrors_51 : decode cX1_ledgerErrors 51 = .ok (.getfield 133, 3) := dk_180 0 133 (dk_at dksX1_ledgerErrors_2 4 rfl rfl)
theorem dX1_ledgerErrors_54 : decode cX1_ledgerErrors 54 = .ok (.aload_n 0, 1) := dk_42 (dk_at dksX1_ledgerErrors_2 7 rfl rfl)
theorem dX1_ledgerErrors_55 : decode cX1_ledgerErrors 55 = .ok (.getfield 84, 3) := dk_180 0 84 (dk_at dksX1_ledgerErrors_2 8 rfl rfl)
theorem dX1_ledgerErrors_58 : decode cX1_ledgerErrors 58 = .ok (.iload_n 3, 1) := dk_29 (dk_at dksX1_ledgerErrors_2 11 rfl rfl)
theorem dX1_ledgerErrors_59 : decode cX1_ledgerErrors 59 = .ok (.iaload, 1) := dk_46 (dk_at dksX1_ledgerErrors_2 12 rfl rfl)
theorem dX1_ledgerErrors_60 : decode cX1_ledgerErrors 60 = .ok (.if_icmp .ne 20, 3) := dk_160 0 20 (dk_at dksX1_ledgerErrors_2 13 rfl rfl)
theorem dX1_ledgerErrors_63 : decode cX1_ledgerErrors 63 = .ok (.aload_n 2, 1) := dk_44 (dk_at dksX1_ledgerErrors_2 16 rfl rfl)
theorem dX1_ledgerErrors_64 : decode cX1_ledgerErrors 64 = .ok (.getfield 145, 3) := dk_180 0 145 (dk_at dksX1_ledgerErrors_2 17 rfl rfl)
theorem dX1_ledgerErrors_67 : decode cX1_ledgerErrors 67 = .ok (.aload_n 0, 1) := dk_42 (dk_at dksX1_ledgerErrors_2 20 rfl rfl)
theorem dX1_ledgerErrors_68 : decode cX1_ledgerErrors 68 = .ok (.getfield 87, 3) := dk_180 0 87 (dk_at dksX1_ledgerErrors_2 21 rfl rfl)
theorem dX1_ledgerErrors_71 : decode cX1_ledgerErrors 71 = .ok (.iload_n 3, 1) := dk_29 (dk_at dksX1_ledgerErrors_3 0 rfl rfl)
theorem dX1_ledgerErrors_72 : decode cX1_ledgerErrors 72 = .ok (.iaload, 1) := dk_46 (dk_at dksX1_ledgerErrors_3 1 rfl rfl)
theorem dX1_ledgerErrors_73 : decode cX1_ledgerErrors 73 = .ok (.if_icmp .ne 7, 3) := dk_160 0 7 (dk_at dksX1_ledgerErrors_3 2 rfl rfl)
theorem dX1_ledgerErrors_76 : decode cX1_ledgerErrors 76 = .ok (.iconst 1, 1) := dk_4 (dk_at dksX1_ledgerErrors_3 5 rfl rfl)
theorem dX1_ledgerErrors_77 : decode cX1_ledgerErrors 77 = .ok (.goto 4, 3) := dk_167 0 4 (dk_at dksX1_ledgerErrors_3 6 rfl rfl)
theorem dX1_ledgerErrors_80 : decode cX1_ledgerErrors 80 = .ok (.iconst 0, 1) := dk_3 (dk_at dksX1_ledgerErrors_3 9 rfl rfl)
theorem dX1_ledgerErrors_81 : decode cX1_ledgerErrors 81 = .ok (.istore 4, 2) := dk_54 4 (dk_at dksX1_ledgerErrors_3 10 rfl rfl)
theorem dX1_ledgerErrors_83 : decode cX1_ledgerErrors 83 = .ok (.iload 4, 2) := dk_21 4 (dk_at dksX1_ledgerErrors_3 12 rfl rfl)
theorem dX1_ledgerErrors_85 : decode cX1_ledgerErrors 85 = .ok (.ifCond .eq 17, 3) := dk_153 0 17 (dk_at dksX1_ledgerErrors_3 14 rfl rfl)
theorem dX1_ledgerErrors_88 : decode cX1_ledgerErrors 88 = .ok (.aload_n 2, 1) := dk_44 (dk_at dksX1_ledgerErrors_3 17 rfl rfl)
theorem dX1_ledgerErrors_89 : decode cX1_ledgerErrors 89 = .ok (.invokevirtual 189, 3) := dk_182 0 189 (dk_at dksX1_ledgerErrors_3 18 rfl rfl)
theorem dX1_ledgerErrors_92 : decode cX1_ledgerErrors 92 = .ok (.ifCond .lt 10, 3) := dk_155 0 10 (dk_at dksX1_ledgerErrors_3 21 rfl rfl)
theorem dX1_ledgerErrors_95 : decode cX1_ledgerErrors 95 = .ok (.aload_n 2, 1) := dk_44 (dk_at dksX1_ledgerErrors_4 0 rfl rfl)
theorem dX1_ledgerErrors_96 : decode cX1_ledgerErrors 96 = .ok (.getfield 133, 3) := dk_180 0 133 (dk_at dksX1_ledgerErrors_4 1 rfl rfl)
theorem dX1_ledgerErrors_99 : decode cX1_ledgerErrors 99 = .ok (.ifCond .ge 6, 3) := dk_156 0 6 (dk_at dksX1_ledgerErrors_4 4 rfl rfl)
theorem dX1_ledgerErrors_102 : decode cX1_ledgerErrors 102 = .ok (.iinc 1 1, 3) := dk_132 1 1 (dk_at dksX1_ledgerErrors_4 7 rfl rfl)
theorem dX1_ledgerErrors_105 : decode cX1_ledgerErrors 105 = .ok (.aload_n 2, 1) := dk_44 (dk_at dksX1_ledgerErrors_4 10 rfl rfl)
theorem dX1_ledgerErrors_106 : decode cX1_ledgerErrors 106 = .ok (.getfield 403, 3) := dk_180 1 147 (dk_at dksX1_ledgerErrors_4 11 rfl rfl)
theorem dX1_ledgerErrors_109 : decode cX1_ledgerErrors 109 = .ok (.astore_n 2, 1) := dk_77 (dk_at dksX1_ledgerErrors_4 14 rfl rfl)
theorem dX1_ledgerErrors_110 : decode cX1_ledgerErrors 110 = .ok (.goto (-96), 3) := dk_167 255 160 (dk_at dksX1_ledgerErrors_4 15 rfl rfl)
theorem dX1_ledgerErrors_113 : decode cX1_ledgerErrors 113 = .ok (.iconst 0, 1) := dk_3 (dk_at dksX1_ledgerErrors_4 18 rfl rfl)
theorem dX1_ledgerErrors_114 : decode cX1_ledgerErrors 114 = .ok (.istore_n 2, 1) := dk_61 (dk_at dksX1_ledgerErrors_4 19 rfl rfl)
theorem dX1_ledgerErrors_115 : decode cX1_ledgerErrors 115 = .ok (.iload_n 2, 1) := dk_28 (dk_at dksX1_ledgerErrors_4 20 rfl rfl)
theorem dX1_ledgerErrors_116 : decode cX1_ledgerErrors 116 = .ok (.aload_n 0, 1) := dk_42 (dk_at dksX1_ledgerErrors_4 21 rfl rfl)
theorem dX1_ledgerErrors_117 : decode cX1_ledgerErrors 117 = .ok (.getfield 196, 3) := dk_180 0 196 (dk_at dksX1_ledgerErrors_5 0 rfl rfl)
theorem dX1_ledgerErrors_120 : decode cX1_ledgerErrors 120 = .ok (.if_icmp .ge 42, 3) := dk_162 0 42 (dk_at dksX1_ledgerErrors_5 3 rfl rfl)
theorem dX1_ledgerErrors_123 : decode cX1_ledgerErrors 123 = .ok (.aload_n 0, 1) := dk_42 (dk_at dksX1_ledgerErrors_5 6 rfl rfl)
theorem dX1_ledgerErrors_124 : decode cX1_ledgerErrors 124 = .ok (.getfield 59, 3) := dk_180 0 59 (dk_at dksX1_ledgerErrors_5 7 rfl rfl)
theorem dX1_ledgerErrors_127 : decode cX1_ledgerErrors 127 = .ok (.iload_n 2, 1) := dk_28 (dk_at dksX1_ledgerErrors_5 10 rfl rfl)
theorem dX1_ledgerErrors_128 : decode cX1_ledgerErrors 128 = .ok (.baload, 1) := dk_51 (dk_at dksX1_ledgerErrors_5 11 rfl rfl)
theorem dX1_ledgerErrors_129 : decode cX1_ledgerErrors 129 = .ok (.ifCond .eq 27, 3) := dk_153 0 27 (dk_at dksX1_ledgerErrors_5 12 rfl rfl)
theorem dX1_ledgerErrors_132 : decode cX1_ledgerErrors 132 = .ok (.aload_n 0, 1) := dk_42 (dk_at dksX1_ledgerErrors_5 15 rfl rfl)
theorem dX1_ledgerErrors_133 : decode cX1_ledgerErrors 133 = .ok (.getfield 53, 3) := dk_180 0 53 (dk_at dksX1_ledgerErrors_5 16 rfl rfl)
theorem dX1_ledgerErrors_136 : decode cX1_ledgerErrors 136 = .ok (.iload_n 2, 1) := dk_28 (dk_at dksX1_ledgerErrors_5 19 rfl rfl)
theorem dX1_ledgerErrors_137 : decode cX1_ledgerErrors 137 = .ok (.iaload, 1) := dk_46 (dk_at dksX1_ledgerErrors_5 20 rfl rfl)
theorem dX1_ledgerErrors_138 : decode cX1_ledgerErrors 138 = .ok (.ifCond .le 18, 3) := dk_158 0 18 (dk_at dksX1_ledgerErrors_5 21 rfl rfl)
theorem dX1_ledgerErrors_141 : decode cX1_ledgerErrors 141 = .ok (.aload_n 0, 1) := dk_42 (dk_at dksX1_ledgerErrors_6 0 rfl rfl)
theorem dX1_ledgerErrors_142 : decode cX1_ledgerErrors 142 = .ok (.aload_n 0, 1) := dk_42 (dk_at dksX1_ledgerErrors_6 1 rfl rfl)
theorem dX1_ledgerErrors_143 : decode cX1_ledgerErrors 143 = .ok (.iload_n 2, 1) := dk_28 (dk_at dksX1_ledgerErrors_6 2 rfl rfl)
theorem dX1_ledgerErrors_144 : decode cX1_ledgerErrors 144 = .ok (.invokevirtual 301, 3) := dk_182 1 45 (dk_at dksX1_ledgerErrors_6 3 rfl rfl)
theorem dX1_ledgerErrors_147 : decode cX1_ledgerErrors 147 = .ok (.invokevirtual 305, 3) := dk_182 1 49 (dk_at dksX1_ledgerErrors_6 6 rfl rfl)
theorem dX1_ledgerErrors_150 : decode cX1_ledgerErrors 150 = .ok (.ifCond .eq 6, 3) := dk_153 0 6 (dk_at dksX1_ledgerErrors_6 9 rfl rfl)
theorem dX1_ledgerErrors_153 : decode cX1_ledgerErrors 153 = .ok (.iinc 1 1, 3) := dk_132 1 1 (dk_at dksX1_ledgerErrors_6 12 rfl rfl)
theorem dX1_ledgerErrors_156 : decode cX1_ledgerErrors 156 = .ok (.iinc 2 1, 3) := dk_132 2 1 (dk_at dksX1_ledgerErrors_6 15 rfl rfl)
theorem dX1_ledgerErrors_159 : decode cX1_ledgerErrors 159 = .ok (.goto (-44), 3) := dk_167 255 212 (dk_at dksX1_ledgerErrors_6 18 rfl rfl)
theorem dX1_ledgerErrors_162 : decode cX1_ledgerErrors 162 = .ok (.iconst 0, 1) := dk_3 (dk_at dksX1_ledgerErrors_6 21 rfl rfl)
theorem dX1_ledgerErrors_163 : decode cX1_ledgerErrors 163 = .ok (.istore_n 2, 1) := dk_61 (dk_at dksX1_ledgerErrors_6 22 rfl rfl)
theorem dX1_ledgerErrors_164 : decode cX1_ledgerErrors 164 = .ok (.iload_n 2, 1) := dk_28 (dk_at dksX1_ledgerErrors_6 23 rfl rfl)
theorem dX1_ledgerErrors_165 : decode cX1_ledgerErrors 165 = .ok (.aload_n 0, 1) := dk_42 (dk_at dksX1_ledgerErrors_7 0 rfl rfl)
theorem dX1_ledgerErrors_166 : decode cX1_ledgerErrors 166 = .ok (.getfield 199, 3) := dk_180 0 199 (dk_at dksX1_ledgerErrors_7 1 rfl rfl)
theorem dX1_ledgerErrors_169 : decode cX1_ledgerErrors 169 = .ok (.if_icmp .ge 49, 3) := dk_162 0 49 (dk_at dksX1_ledgerErrors_7 4 rfl rfl)
theorem dX1_ledgerErrors_172 : decode cX1_ledgerErrors 172 = .ok (.aload_n 0, 1) := dk_42 (dk_at dksX1_ledgerErrors_7 7 rfl rfl)
theorem dX1_ledgerErrors_173 : decode cX1_ledgerErrors 173 = .ok (.getfield 90, 3) := dk_180 0 90 (dk_at dksX1_ledgerErrors_7 8 rfl rfl)
theorem dX1_ledgerErrors_176 : decode cX1_ledgerErrors 176 = .ok (.iload_n 2, 1) := dk_28 (dk_at dksX1_ledgerErrors_7 11 rfl rfl)
theorem dX1_ledgerErrors_177 : decode cX1_ledgerErrors 177 = .ok (.iaload, 1) := dk_46 (dk_at dksX1_ledgerErrors_7 12 rfl rfl)
theorem dX1_ledgerErrors_178 : decode cX1_ledgerErrors 178 = .ok (.aload_n 0, 1) := dk_42 (dk_at dksX1_ledgerErrors_7 13 rfl rfl)
theorem dX1_ledgerErrors_179 : decode cX1_ledgerErrors 179 = .ok (.getfield 65, 3) := dk_180 0 65 (dk_at dksX1_ledgerErrors_7 14 rfl rfl)
theorem dX1_ledgerErrors_182 : decode cX1_ledgerErrors 182 = .ok (.iload_n 2, 1) := dk_28 (dk_at dksX1_ledgerErrors_7 17 rfl rfl)
theorem dX1_ledgerErrors_183 : decode cX1_ledgerErrors 183 = .ok (.aaload, 1) := dk_50 (dk_at dksX1_ledgerErrors_7 18 rfl rfl)
theorem dX1_ledgerErrors_184 : decode cX1_ledgerErrors 184 = .ok (.getfield 242, 3) := dk_180 0 242 (dk_at dksX1_ledgerErrors_7 19 rfl rfl)
theorem dX1_ledgerErrors_187 : decode cX1_ledgerErrors 187 = .ok (.invokevirtual 376, 3) := dk_182 1 120 (dk_at dksX1_ledgerErrors_8 0 rfl rfl)
theorem dX1_ledgerErrors_190 : decode cX1_ledgerErrors 190 = .ok (.ifCond .eq 15, 3) := dk_153 0 15 (dk_at dksX1_ledgerErrors_8 3 rfl rfl)
theorem dX1_ledgerErrors_193 : decode cX1_ledgerErrors 193 = .ok (.aload_n 0, 1) := dk_42 (dk_at dksX1_ledgerErrors_8 6 rfl rfl)
theorem dX1_ledgerErrors_194 : decode cX1_ledgerErrors 194 = .ok (.getfield 65, 3) := dk_180 0 65 (dk_at dksX1_ledgerErrors_8 7 rfl rfl)
theorem dX1_ledgerErrors_197 : decode cX1_ledgerErrors 197 = .ok (.iload_n 2, 1) := dk_28 (dk_at dksX1_ledgerErrors_8 10 rfl rfl)
theorem dX1_ledgerErrors_198 : decode cX1_ledgerErrors 198 = .ok (.aaload, 1) := dk_50 (dk_at dksX1_ledgerErrors_8 11 rfl rfl)
theorem dX1_ledgerErrors_199 : decode cX1_ledgerErrors 199 = .ok (.invokevirtual 379, 3) := dk_182 1 123 (dk_at dksX1_ledgerErrors_8 12 rfl rfl)
theorem dX1_ledgerErrors_202 : decode cX1_ledgerErrors 202 = .ok (.goto 4, 3) := dk_167 0 4 (dk_at dksX1_ledgerErrors_8 15 rfl rfl)
theorem dX1_ledgerErrors_205 : decode cX1_ledgerErrors 205 = .ok (.iconst 0, 1) := dk_3 (dk_at dksX1_ledgerErrors_8 18 rfl rfl)
theorem dX1_ledgerErrors_206 : decode cX1_ledgerErrors 206 = .ok (.if_icmp .eq 6, 3) := dk_159 0 6 (dk_at dksX1_ledgerErrors_8 19 rfl rfl)
theorem dX1_ledgerErrors_209 : decode cX1_ledgerErrors 209 = .ok (.iinc 1 1, 3) := dk_132 1 1 (dk_at dksX1_ledgerErrors_9 0 rfl rfl)
theorem dX1_ledgerErrors_212 : decode cX1_ledgerErrors 212 = .ok (.iinc 2 1, 3) := dk_132 2 1 (dk_at dksX1_ledgerErrors_9 3 rfl rfl)
theorem dX1_ledgerErrors_215 : decode cX1_ledgerErrors 215 = .ok (.goto (-51), 3) := dk_167 255 205 (dk_at dksX1_ledgerErrors_9 6 rfl rfl)
theorem dX1_ledgerErrors_218 : decode cX1_ledgerErrors 218 = .ok (.iload_n 1, 1) := dk_27 (dk_at dksX1_ledgerErrors_9 9 rfl rfl)
theorem dX1_ledgerErrors_219 : decode cX1_ledgerErrors 219 = .ok (.ireturn, 1) := dk_172 (dk_at dksX1_ledgerErrors_9 10 rfl rfl)
abbrev cX1_addUp : ByteArray := prog_1_method_51_code
def yX1_addUp : MethodName := ⟨RX1, "addUp", "()V"⟩
def dkwX1_addUp_12 : List UInt8 := [79, 132, 1, 1, 167, 255, 34, 177]
abbrev dktX1_addUp_12 : List UInt8 := dkwX1_addUp_12 ++ []
def dkwX1_addUp_11 : List UInt8 := [25, 7, 180, 0, 125, 100, 79, 42, 180, 0, 90, 25, 7, 180, 1, 139, 92, 46, 25, 7, 180, 0, 125, 100]
abbrev dktX1_addUp_11 : List UInt8 := dkwX1_addUp_11 ++ dktX1_addUp_12
def dkwX1_addUp_10 : List UInt8 := [167, 0, 48, 44, 193, 0, 116, 153, 0, 41, 44, 192, 0, 116, 58, 7, 42, 180, 0, 84, 29, 92, 46]
abbrev dktX1_addUp_10 : List UInt8 := dkwX1_addUp_10 ++ dktX1_addUp_11
def dkwX1_addUp_9 : List UInt8 := [180, 0, 124, 96, 79, 42, 180, 0, 90, 25, 6, 180, 1, 138, 92, 46, 25, 6, 180, 0, 124, 100, 79]
abbrev dktX1_addUp_9 : List UInt8 := dkwX1_addUp_9 ++ dktX1_addUp_10
def dkwX1_addUp_8 : List UInt8 := [180, 0, 84, 29, 92, 46, 25, 6, 180, 0, 124, 100, 79, 42, 180, 0, 87, 29, 92, 46, 25, 6]
abbrev dktX1_addUp_8 : List UInt8 := dkwX1_addUp_8 ++ dktX1_addUp_9
def dkwX1_addUp_7 : List UInt8 := [25, 5, 180, 0, 123, 96, 79, 167, 0, 110, 44, 193, 0, 108, 153, 0, 58, 44, 192, 0, 108, 58, 6, 42]
abbrev dktX1_addUp_7 : List UInt8 := dkwX1_addUp_7 ++ dktX1_addUp_8
def dkwX1_addUp_6 : List UInt8 := [180, 0, 84, 29, 92, 46, 25, 5, 180, 0, 123, 96, 79, 42, 180, 0, 90, 25, 5, 180, 1, 135, 92, 46]
abbrev dktX1_addUp_6 : List UInt8 := dkwX1_addUp_6 ++ dktX1_addUp_7
def dkwX1_addUp_5 : List UInt8 := [180, 0, 119, 96, 79, 167, 0, 158, 44, 193, 0, 106, 153, 0, 44, 44, 192, 0, 106, 58, 5, 42]
abbrev dktX1_addUp_5 : List UInt8 := dkwX1_addUp_5 ++ dktX1_addUp_6
def dkwX1_addUp_4 : List UInt8 := [62, 44, 193, 0, 104, 153, 0, 26, 44, 192, 0, 104, 58, 4, 42, 180, 0, 81, 29, 92, 46, 25, 4]
abbrev dktX1_addUp_4 : List UInt8 := dkwX1_addUp_4 ++ dktX1_addUp_5
def dkwX1_addUp_3 : List UInt8 := [180, 0, 36, 27, 50, 77, 16, 12, 44, 184, 0, 163, 180, 0, 167, 104, 44, 184, 0, 163, 180, 0, 170, 96]
abbrev dktX1_addUp_3 : List UInt8 := dkwX1_addUp_3 ++ dktX1_addUp_4
def dkwX1_addUp_2 : List UInt8 := [180, 0, 90, 27, 3, 79, 132, 1, 1, 167, 255, 240, 3, 60, 27, 42, 180, 0, 126, 162, 0, 220, 42]
abbrev dktX1_addUp_2 : List UInt8 := dkwX1_addUp_2 ++ dktX1_addUp_3
def dkwX1_addUp_1 : List UInt8 := [79, 42, 180, 0, 87, 27, 3, 79, 132, 1, 1, 167, 255, 223, 3, 60, 27, 16, 24, 162, 0, 16, 42]
abbrev dktX1_addUp_1 : List UInt8 := dkwX1_addUp_1 ++ dktX1_addUp_2
def dkwX1_addUp_0 : List UInt8 := [3, 60, 27, 42, 180, 0, 81, 190, 162, 0, 30, 42, 180, 0, 81, 27, 3, 79, 42, 180, 0, 84, 27, 3]
abbrev dktX1_addUp_0 : List UInt8 := dkwX1_addUp_0 ++ dktX1_addUp_1
theorem dksX1_addUp_0 : cX1_addUp.data.toList.drop 0 = dktX1_addUp_0 := by decide +kernel
theorem dksX1_addUp_1 : cX1_addUp.data.toList.drop 24 = dktX1_addUp_1 := dk_seg dksX1_addUp_0 24 rfl rfl
theorem dksX1_addUp_2 : cX1_addUp.data.toList.drop 47 = dktX1_addUp_2 := dk_seg dksX1_addUp_1 23 rfl rfl
theorem dksX1_addUp_3 : cX1_addUp.data.toList.drop 70 = dktX1_addUp_3 := dk_seg dksX1_addUp_2 23 rfl rfl
theorem dksX1_addUp_4 : cX1_addUp.data.toList.drop 94 = dktX1_addUp_4 := dk_seg dksX1_addUp_3 24 rfl rfl
theorem dksX1_addUp_5 : cX1_addUp.data.toList.drop 117 = dktX1_addUp_5 := dk_seg dksX1_addUp_4 23 rfl rfl
theorem dksX1_addUp_6 : cX1_addUp.data.toList.drop 139 = dktX1_addUp_6 := dk_seg dksX1_addUp_5 22 rfl rfl
theorem dksX1_addUp_7 : cX1_addUp.data.toList.drop 163 = dktX1_addUp_7 := dk_seg dksX1_addUp_6 24 rfl rfl
theorem dksX1_addUp_8 : cX1_addUp.data.toList.drop 187 = dktX1_addUp_8 := dk_seg dksX1_addUp_7 24 rfl rfl
theorem dksX1_addUp_9 : cX1_addUp.data.toList.drop 209 = dktX1_addUp_9 := dk_seg dksX1_addUp_8 22 rfl rfl
theorem dksX1_addUp_10 : cX1_addUp.data.toList.drop 232 = dktX1_addUp_10 := dk_seg dksX1_addUp_9 23 rfl rfl
theorem dksX1_addUp_11 : cX1_addUp.data.toList.drop 255 = dktX1_addUp_11 := dk_seg dksX1_addUp_10 23 rfl rfl
theorem dksX1_addUp_12 : cX1_addUp.data.toList.drop 279 = dktX1_addUp_12 := dk_seg dksX1_addUp_11 24 rfl rfl
theorem dX1_addUp_0 : decode cX1_addUp 0 = .ok (.iconst 0, 1) := dk_3 (dk_at dksX1_addUp_0 0 rfl rfl)
theorem dX1_addUp_1 : decode cX1_addUp 1 = .ok (.istore_n 1, 1) := dk_60 (dk_at dksX1_addUp_0 1 rfl rfl)
theorem dX1_addUp_2 : decode cX1_addUp 2 = .ok (.iload_n 1, 1) := dk_27 (dk_at dksX1_addUp_0 2 rfl rfl)
theorem dX1_addUp_3 : decode cX1_addUp 3 = .ok (.aload_n 0, 1) := dk_42 (dk_at dksX1_addUp_0 3 rfl rfl)
theorem dX1_addUp_4 : decode cX1_addUp 4 = .ok (.getfield 81, 3) := dk_180 0 81 (dk_at dksX1_addUp_0 4 rfl rfl)
theorem dX1_addUp_7 : decode cX1_addUp 7 = .ok (.arraylength, 1) := dk_190 (dk_at dksX1_addUp_0 7 rfl rfl)
theorem dX1_addUp_8 : decode cX1_addUp 8 = .ok (.if_icmp .ge 30, 3) := dk_162 0 30 (dk_at dksX1_addUp_0 8 rfl rfl)
theorem dX1_addUp_11 : decode cX1_addUp 11 = .ok (.aload_n 0, 1) := dk_42 (dk_at dksX1_addUp_0 11 rfl rfl)
theorem dX1_addUp_12 : decode cX1_addUp 12 = .ok (.getfield 81, 3) := dk_180 0 81 (dk_at dksX1_addUp_0 12 rfl rfl)
theorem dX1_addUp_15 : decode cX1_addUp 15 = .ok (.iload_n 1, 1) := dk_27 (dk_at dksX1_addUp_0 15 rfl rfl)
theorem dX1_addUp_16 : decode cX1_addUp 16 = .ok (.iconst 0, 1) := dk_3 (dk_at dksX1_addUp_0 16 rfl rfl)
theorem dX1_addUp_17 : decode cX1_addUp 17 = .ok (.iastore, 1) := dk_79 (dk_at dksX1_addUp_0 17 rfl rfl)
theorem dX1_addUp_18 : decode cX1_addUp 18 = .ok (.aload_n 0, 1) := dk_42 (dk_at dksX1_addUp_0 18 rfl rfl)
theorem dX1_addUp_19 : decode cX1_addUp 19 = .ok (.getfield 84, 3) := dk_180 0 84 (dk_at dksX1_addUp_0 19 rfl rfl)
theorem dX1_addUp_22 : decode cX1_addUp 22 = .ok (.iload_n 1, 1) := dk_27 (dk_at dksX1_addUp_0 22 rfl rfl)
theorem dX1_addUp_23 : decode cX1_addUp 23 = .ok (.iconst 0, 1) := dk_3 (dk_at dksX1_addUp_0 23 rfl rfl)
theorem dX1_addUp_24 : decode cX1_addUp 24 = .ok (.iastore, 1) := dk_79 (dk_at dksX1_addUp_1 0 rfl rfl)
theorem dX1_addUp_25 : decode cX1_addUp 25 = .ok (.aload_n 0, 1) := dk_42 (dk_at dksX1_addUp_1 1 rfl rfl)
theorem dX1_addUp_26 : decode cX1_addUp 26 = .ok (.getfield 87, 3) := dk_180 0 87 (dk_at dksX1_addUp_1 2 rfl rfl)
theorem dX1_addUp_29 : decode cX1_addUp 29 = .ok (.iload_n 1, 1) := dk_27 (dk_at dksX1_addUp_1 5 rfl rfl)
theorem dX1_addUp_30 : decode cX1_addUp 30 = .ok (.iconst 0, 1) := dk_3 (dk_at dksX1_addUp_1 6 rfl rfl)
theorem dX1_addUp_31 : decode cX1_addUp 31 = .ok (.iastore, 1) := dk_79 (dk_at dksX1_addUp_1 7 rfl rfl)
theorem dX1_addUp_32 : decode cX1_addUp 32 = .ok (.iinc 1 1, 3) := dk_132 1 1 (dk_at dksX1_addUp_1 8 rfl rfl)
theorem dX1_addUp_35 : decode cX1_addUp 35 = .ok (.goto (-33), 3) := dk_167 255 223 (dk_at dksX1_addUp_1 11 rfl rfl)
theorem dX1_addUp_38 : decode cX1_addUp 38 = .ok (.iconst 0, 1) := dk_3 (dk_at dksX1_addUp_1 14 rfl rfl)
theorem dX1_addUp_39 : decode cX1_addUp 39 = .ok (.istore_n 1, 1) := dk_60 (dk_at dksX1_addUp_1 15 rfl rfl)
theorem dX1_addUp_40 : decode cX1_addUp 40 = .ok (.iload_n 1, 1) := dk_27 (dk_at dksX1_addUp_1 16 rfl rfl)
theorem dX1_addUp_41 : decode cX1_addUp 41 = .ok (.bipush 24, 2) := dk_16 24 (dk_at dksX1_addUp_1 17 rfl rfl)
theorem dX1_addUp_43 : decode cX1_addUp 43 = .ok (.if_icmp .ge 16, 3) := dk_162 0 16 (dk_at dksX1_addUp_1 19 rfl rfl)
theorem dX1_addUp_46 : decode cX1_addUp 46 = .ok (.aload_n 0, 1) := dk_42 (dk_at dksX1_addUp_1 22 rfl rfl)
theorem dX1_addUp_47 : decode cX1_addUp 47 = .ok (.getfield 90, 3) := dk_180 0 90 (dk_at dksX1_addUp_2 0 rfl rfl)
theorem dX1_addUp_50 : decode cX1_addUp 50 = .ok (.iload_n 1, 1) := dk_27 (dk_at dksX1_addUp_2 3 rfl rfl)
theorem dX1_addUp_51 : decode cX1_addUp 51 = .ok (.iconst 0, 1) := dk_3 (dk_at dksX1_addUp_2 4 rfl rfl)
theorem dX1_addUp_52 : decode cX1_addUp 52 = .ok (.iastore, 1) := dk_79 (dk_at dksX1_addUp_2 5 rfl rfl)
theorem dX1_addUp_53 : decode cX1_addUp 53 = .ok (.iinc 1 1, 3) := dk_132 1 1 (dk_at dksX1_addUp_2 6 rfl rfl)
theorem dX1_addUp_56 : decode cX1_addUp 56 = .ok (.goto (-16), 3) := dk_167 255 240 (dk_at dksX1_addUp_2 9 rfl rfl)
theorem dX1_addUp_59 : decode cX1_addUp 59 = .ok (.iconst 0, 1) := dk_3 (dk_at dksX1_addUp_2 12 rfl rfl)
theorem dX1_addUp_60 : decode cX1_addUp 60 = .ok (.istore_n 1, 1) := dk_60 (dk_at dksX1_addUp_2 13 rfl rfl)
theorem dX1_addUp_61 : decode cX1_addUp 61 = .ok (.iload_n 1, 1) := dk_27 (dk_at dksX1_addUp_2 14 rfl rfl)
theorem dX1_addUp_62 : decode cX1_addUp 62 = .ok (.aload_n 0, 1) := dk_42 (dk_at dksX1_addUp_2 15 rfl rfl)
theorem dX1_addUp_63 : decode cX1_addUp 63 = .ok (.getfield 126, 3) := dk_180 0 126 (dk_at dksX1_addUp_2 16 rfl rfl)
theorem dX1_addUp_66 : decode cX1_addUp 66 = .ok (.if_icmp .ge 220, 3) := dk_162 0 220 (dk_at dksX1_addUp_2 19 rfl rfl)
theorem dX1_addUp_69 : decode cX1_addUp 69 = .ok (.aload_n 0, 1) := dk_42 (dk_at dksX1_addUp_2 22 rfl rfl)
theorem dX1_addUp_70 : decode cX1_addUp 70 = .ok (.getfield 36, 3) := dk_180 0 36 (dk_at dksX1_addUp_3 0 rfl rfl)
theorem dX1_addUp_73 : decode cX1_addUp 73 = .ok (.iload_n 1, 1) := dk_27 (dk_at dksX1_addUp_3 3 rfl rfl)
theorem dX1_addUp_74 : decode cX1_addUp 74 = .ok (.aaload, 1) := dk_50 (dk_at dksX1_addUp_3 4 rfl rfl)
theorem dX1_addUp_75 : decode cX1_addUp 75 = .ok (.astore_n 2, 1) := dk_77 (dk_at dksX1_addUp_3 5 rfl rfl)
theorem dX1_addUp_76 : decode cX1_addUp 76 = .ok (.bipush 12, 2) := dk_16 12 (dk_at dksX1_addUp_3 6 rfl rfl)
theorem dX1_addUp_78 : decode cX1_addUp 78 = .ok (.aload_n 2, 1) := dk_44 (dk_at dksX1_addUp_3 8 rfl rfl)
theorem dX1_addUp_79 : decode cX1_addUp 79 = .ok (.invokestatic 163, 3) := dk_184 0 163 (dk_at dksX1_addUp_3 9 rfl rfl)
theorem dX1_addUp_82 : decode cX1_addUp 82 = .ok (.getfield 167, 3) := dk_180 0 167 (dk_at dksX1_addUp_3 12 rfl rfl)
theorem dX1_addUp_85 : decode cX1_addUp 85 = .ok (.imul, 1) := dk_104 (dk_at dksX1_addUp_3 15 rfl rfl)
theorem dX1_addUp_86 : decode cX1_addUp 86 = .ok (.aload_n 2, 1) := dk_44 (dk_at dksX1_addUp_3 16 rfl rfl)
theorem dX1_addUp_87 : decode cX1_addUp 87 = .ok (.invokestatic 163, 3) := dk_184 0 163 (dk_at dksX1_addUp_3 17 rfl rfl)
theorem dX1_addUp_90 : decode cX1_addUp 90 = .ok (.getfield 170, 3) := dk_180 0 170 (dk_at dksX1_addUp_3 20 rfl rfl)
theorem dX1_addUp_93 : decode cX1_addUp 93 = .ok (.iadd, 1) := dk_96 (dk_at dksX1_addUp_3 23 rfl rfl)
theorem dX1_addUp_94 : decode cX1_addUp 94 = .ok (.istore_n 3, 1) := dk_62 (dk_at dksX1_addUp_4 0 rfl rfl)
theorem dX1_addUp_95 : decode cX1_addUp 95 = .ok (.aload_n 2, 1) := dk_44 (dk_at dksX1_addUp_4 1 rfl rfl)
theorem dX1_addUp_96 : decode cX1_addUp 96 = .ok (.instanceof 104, 3) := dk_193 0 104 (dk_at dksX1_addUp_4 2 rfl rfl)
theorem dX1_addUp_99 : decode cX1_addUp 99 = .ok (.ifCond .eq 26, 3) := dk_153 0 26 (dk_at dksX1_addUp_4 5 rfl rfl)
theorem dX1_addUp_102 : decode cX1_addUp 102 = .ok (.aload_n 2, 1) := dk_44 (dk_at dksX1_addUp_4 8 rfl rfl)
theorem dX1_addUp_103 : decode cX1_addUp 103 = .ok (.checkcast 104, 3) := dk_192 0 104 (dk_at dksX1_addUp_4 9 rfl rfl)
theorem dX1_addUp_106 : decode cX1_addUp 106 = .ok (.astore 4, 2) := dk_58 4 (dk_at dksX1_addUp_4 12 rfl rfl)
theorem dX1_addUp_108 : decode cX1_addUp 108 = .ok (.aload_n 0, 1) := dk_42 (dk_at dksX1_addUp_4 14 rfl rfl)
theorem dX1_addUp_109 : decode cX1_addUp 109 = .ok (.getfield 81, 3) := dk_180 0 81 (dk_at dksX1_addUp_4 15 rfl rfl)
theorem dX1_addUp_112 : decode cX1_addUp 112 = .ok (.iload_n 3, 1) := dk_29 (dk_at dksX1_addUp_4 18 rfl rfl)
theorem dX1_addUp_113 : decode cX1_addUp 113 = .ok (.dup2, 1) := dk_92 (dk_at dksX1_addUp_4 19 rfl rfl)
theorem dX1_addUp_114 : decode cX1_addUp 114 = .ok (.iaload, 1) := dk_46 (dk_at dksX1_addUp_4 20 rfl rfl)
theorem dX1_addUp_115 : decode cX1_addUp 115 = .ok (.aload 4, 2) := dk_25 4 (dk_at dksX1_addUp_4 21 rfl rfl)
theorem dX1_addUp_117 : decode cX1_addUp 117 = .ok (.getfield 119, 3) := dk_180 0 119 (dk_at dksX1_addUp_5 0 rfl rfl)
theorem dX1_addUp_120 : decode cX1_addUp 120 = .ok (.iadd, 1) := dk_96 (dk_at dksX1_addUp_5 3 rfl rfl)
theorem dX1_addUp_121 : decode cX1_addUp 121 = .ok (.iastore, 1) := dk_79 (dk_at dksX1_addUp_5 4 rfl rfl)
theorem dX1_addUp_122 : decode cX1_addUp 122 = .ok (.goto 158, 3) := dk_167 0 158 (dk_at dksX1_addUp_5 5 rfl rfl)
theorem dX1_addUp_125 : decode cX1_addUp 125 = .ok (.aload_n 2, 1) := dk_44 (dk_at dksX1_addUp_5 8 rfl rfl)
theorem dX1_addUp_126 : decode cX1_addUp 126 = .ok (.instanceof 106, 3) := dk_193 0 106 (dk_at dksX1_addUp_5 9 rfl rfl)
theorem dX1_addUp_129 : decode cX1_addUp 129 = .ok (.ifCond .eq 44, 3) := dk_153 0 44 (dk_at dksX1_addUp_5 12 rfl rfl)
theorem dX1_addUp_132 : decode cX1_addUp 132 = .ok (.aload_n 2, 1) := dk_44 (dk_at dksX1_addUp_5 15 rfl rfl)
theorem dX1_addUp_133 : decode cX1_addUp 133 = .ok (.checkcast 106, 3) := dk_192 0 106 (dk_at dksX1_addUp_5 16 rfl rfl)
theorem dX1_addUp_136 : decode cX1_addUp 136 = .ok (.astore 5, 2) := dk_58 5 (dk_at dksX1_addUp_5 19 rfl rfl)
theorem dX1_addUp_138 : decode cX1_addUp 138 = .ok (.aload_n 0, 1) := dk_42 (dk_at dksX1_addUp_5 21 rfl rfl)
theorem dX1_addUp_139 : decode cX1_addUp 139 = .ok (.getfield 84, 3) := dk_180 0 84 (dk_at dksX1_addUp_6 0 rfl rfl)
theorem dX1_addUp_142 : decode cX1_addUp 142 = .ok (.iload_n 3, 1) := dk_29 (dk_at dksX1_addUp_6 3 rfl rfl)
theorem dX1_addUp_143 : decode cX1_addUp 143 = .ok (.dup2, 1) := dk_92 (dk_at dksX1_addUp_6 4 rfl rfl)
theorem dX1_addUp_144 : decode cX1_addUp 144 = .ok (.iaload, 1) := dk_46 (dk_at dksX1_addUp_6 5 rfl rfl)
theorem dX1_addUp_145 : decode cX1_addUp 145 = .ok (.aload 5, 2) := dk_25 5 (dk_at dksX1_addUp_6 6 rfl rfl)
theorem dX1_addUp_147 : decode cX1_addUp 147 = .ok (.getfield 123, 3) := dk_180 0 123 (dk_at dksX1_addUp_6 8 rfl rfl)
theorem dX1_addUp_150 : decode cX1_addUp 150 = .ok (.iadd, 1) := dk_96 (dk_at dksX1_addUp_6 11 rfl rfl)
theorem dX1_addUp_151 : decode cX1_addUp 151 = .ok (.iastore, 1) := dk_79 (dk_at dksX1_addUp_6 12 rfl rfl)
theorem dX1_addUp_152 : decode cX1_addUp 152 = .ok (.aload_n 0, 1) := dk_42 (dk_at dksX1_addUp_6 13 rfl rfl)
theorem dX1_addUp_153 : decode cX1_addUp 153 = .ok (.getfield 90, 3) := dk_180 0 90 (dk_at dksX1_addUp_6 14 rfl rfl)
theorem dX1_addUp_156 : decode cX1_addUp 156 = .ok (.aload 5, 2) := dk_25 5 (dk_at dksX1_addUp_6 17 rfl rfl)
theorem dX1_addUp_158 : decode cX1_addUp 158 = .ok (.getfield 391, 3) := dk_180 1 135 (dk_at dksX1_addUp_6 19 rfl rfl)
theorem dX1_addUp_161 : decode cX1_addUp 161 = .ok (.dup2, 1) := dk_92 (dk_at dksX1_addUp_6 22 rfl rfl)
theorem dX1_addUp_162 : decode cX1_addUp 162 = .ok (.iaload, 1) := dk_46 (dk_at dksX1_addUp_6 23 rfl rfl)
theorem dX1_addUp_163 : decode cX1_addUp 163 = .ok (.aload 5, 2) := dk_25 5 (dk_at dksX1_addUp_7 0 rfl rfl)
theorem dX1_addUp_165 : decode cX1_addUp 165 = .ok (.getfield 123, 3) := dk_180 0 123 (dk_at dksX1_addUp_7 2 rfl rfl)
theorem dX1_addUp_168 : decode cX1_addUp 168 = .ok (.iadd, 1) := dk_96 (dk_at dksX1_addUp_7 5 rfl rfl)
theorem dX1_addUp_169 : decode cX1_addUp 169 = .ok (.iastore, 1) := dk_79 (dk_at dksX1_addUp_7 6 rfl rfl)
theorem dX1_addUp_170 : decode cX1_addUp 170 = .ok (.goto 110, 3) := dk_167 0 110 (dk_at dksX1_addUp_7 7 rfl rfl)
theorem dX1_addUp_173 : decode cX1_addUp 173 = .ok (.aload_n 2, 1) := dk_44 (dk_at dksX1_addUp_7 10 rfl rfl)
theorem dX1_addUp_174 : decode cX1_addUp 174 = .ok (.instanceof 108, 3) := dk_193 0 108 (dk_at dksX1_addUp_7 11 rfl rfl)
theorem dX1_addUp_177 : decode cX1_addUp 177 = .ok (.ifCond .eq 58, 3) := dk_153 0 58 (dk_at dksX1_addUp_7 14 rfl rfl)
theorem dX1_addUp_180 : decode cX1_addUp 180 = .ok (.aload_n 2, 1) := dk_44 (dk_at dksX1_addUp_7 17 rfl rfl)
theorem dX1_addUp_181 : decode cX1_addUp 181 = .ok (.checkcast 108, 3) := dk_192 0 108 (dk_at dksX1_addUp_7 18 rfl rfl)
theorem dX1_addUp_184 : decode cX1_addUp 184 = .ok (.astore 6, 2) := dk_58 6 (dk_at dksX1_addUp_7 21 rfl rfl)
theorem dX1_addUp_186 : decode cX1_addUp 186 = .ok (.aload_n 0, 1) := dk_42 (dk_at dksX1_addUp_7 23 rfl rfl)
theorem dX1_addUp_187 : decode cX1_addUp 187 = .ok (.getfield 84, 3) := dk_180 0 84 (dk_at dksX1_addUp_8 0 rfl rfl)
theorem dX1_addUp_190 : decode cX1_addUp 190 = .ok (.iload_n 3, 1) := dk_29 (dk_at dksX1_addUp_8 3 rfl rfl)
theorem dX1_addUp_191 : decode cX1_addUp 191 = .ok (.dup2, 1) := dk_92 (dk_at dksX1_addUp_8 4 rfl rfl)
theorem dX1_addUp_192 : decode cX1_addUp 192 = .ok (.iaload, 1) := dk_46 (dk_at dksX1_addUp_8 5 rfl rfl)
theorem dX1_addUp_193 : decode cX1_addUp 193 = .ok (.aload 6, 2) := dk_25 6 (dk_at dksX1_addUp_8 6 rfl rfl)
theorem dX1_addUp_195 : decode cX1_addUp 195 = .ok (.getfield 124, 3) := dk_180 0 124 (dk_at dksX1_addUp_8 8 rfl rfl)
theorem dX1_addUp_198 : decode cX1_addUp 198 = .ok (.isub, 1) := dk_100 (dk_at dksX1_addUp_8 11 rfl rfl)
theorem dX1_addUp_199 : decode cX1_addUp 199 = .ok (.iastore, 1) := dk_79 (dk_at dksX1_addUp_8 12 rfl rfl)
theorem dX1_addUp_200 : decode cX1_addUp 200 = .ok (.aload_n 0, 1) := dk_42 (dk_at dksX1_addUp_8 13 rfl rfl)
theorem dX1_addUp_201 : decode cX1_addUp 201 = .ok (.getfield 87, 3) := dk_180 0 87 (dk_at dksX1_addUp_8 14 rfl rfl)
theorem dX1_addUp_204 : decode cX1_addUp 204 = .ok (.iload_n 3, 1) := dk_29 (dk_at dksX1_addUp_8 17 rfl rfl)
theorem dX1_addUp_205 : decode cX1_addUp 205 = .ok (.dup2, 1) := dk_92 (dk_at dksX1_addUp_8 18 rfl rfl)
theorem dX1_addUp_206 : decode cX1_addUp 206 = .ok (.iaload, 1) := dk_46 (dk_at dksX1_addUp_8 19 rfl rfl)
theorem dX1_addUp_207 : decode cX1_addUp 207 = .ok (.aload 6, 2) := dk_25 6 (dk_at dksX1_addUp_8 20 rfl rfl)
theorem dX1_addUp_209 : decode cX1_addUp 209 = .ok (.getfield 124, 3) := dk_180 0 124 (dk_at dksX1_addUp_9 0 rfl rfl)
theorem dX1_addUp_212 : decode cX1_addUp 212 = .ok (.iadd, 1) := dk_96 (dk_at dksX1_addUp_9 3 rfl rfl)
theorem dX1_addUp_213 : decode cX1_addUp 213 = .ok (.iastore, 1) := dk_79 (dk_at dksX1_addUp_9 4 rfl rfl)
theorem dX1_addUp_214 : decode cX1_addUp 214 = .ok (.aload_n 0, 1) := dk_42 (dk_at dksX1_addUp_9 5 rfl rfl)
theorem dX1_addUp_215 : decode cX1_addUp 215 = .ok (.getfield 90, 3) := dk_180 0 90 (dk_at dksX1_addUp_9 6 rfl rfl)
theorem dX1_addUp_218 : decode cX1_addUp 218 = .ok (.aload 6, 2) := dk_25 6 (dk_at dksX1_addUp_9 9 rfl rfl)
theorem dX1_addUp_220 : decode cX1_addUp 220 = .ok (.getfield 394, 3) := dk_180 1 138 (dk_at dksX1_addUp_9 11 rfl rfl)
theorem dX1_addUp_223 : decode cX1_addUp 223 = .ok (.dup2, 1) := dk_92 (dk_at dksX1_addUp_9 14 rfl rfl)
theorem dX1_addUp_224 : decode cX1_addUp 224 = .ok (.iaload, 1) := dk_46 (dk_at dksX1_addUp_9 15 rfl rfl)
theorem dX1_addUp_225 : decode cX1_addUp 225 = .ok (.aload 6, 2) := dk_25 6 (dk_at dksX1_addUp_9 16 rfl rfl)
theorem dX1_addUp_227 : decode cX1_addUp 227 = .ok (.getfield 124, 3) := dk_180 0 124 (dk_at dksX1_addUp_9 18 rfl rfl)
theorem dX1_addUp_230 : decode cX1_addUp 230 = .ok (.isub, 1) := dk_100 (dk_at dksX1_addUp_9 21 rfl rfl)
theorem dX1_addUp_231 : decode cX1_addUp 231 = .ok (.iastore, 1) := dk_79 (dk_at dksX1_addUp_9 22 rfl rfl)
theorem dX1_addUp_232 : decode cX1_addUp 232 = .ok (.goto 48, 3) := dk_167 0 48 (dk_at dksX1_addUp_10 0 rfl rfl)
theorem dX1_addUp_235 : decode cX1_addUp 235 = .ok (.aload_n 2, 1) := dk_44 (dk_at dksX1_addUp_10 3 rfl rfl)
theorem dX1_addUp_236 : decode cX1_addUp 236 = .ok (.instanceof 116, 3) := dk_193 0 116 (dk_at dksX1_addUp_10 4 rfl rfl)
theorem dX1_addUp_239 : decode cX1_addUp 239 = .ok (.ifCond .eq 41, 3) := dk_153 0 41 (dk_at dksX1_addUp_10 7 rfl rfl)
theorem dX1_addUp_242 : decode cX1_addUp 242 = .ok (.aload_n 2, 1) := dk_44 (dk_at dksX1_addUp_10 10 rfl rfl)
theorem dX1_addUp_243 : decode cX1_addUp 243 = .ok (.checkcast 116, 3) := dk_192 0 116 (dk_at dksX1_addUp_10 11 rfl rfl)
theorem dX1_addUp_246 : decode cX1_addUp 246 = .ok (.astore 7, 2) := dk_58 7 (dk_at dksX1_addUp_10 14 rfl rfl)
theorem dX1_addUp_248 : decode cX1_addUp 248 = .ok (.aload_n 0, 1) := dk_42 (dk_at dksX1_addUp_10 16 rfl rfl)
theorem dX1_addUp_249 : decode cX1_addUp 249 = .ok (.getfield 84, 3) := dk_180 0 84 (dk_at dksX1_addUp_10 17 rfl rfl)
theorem dX1_addUp_252 : decode cX1_addUp 252 = .ok (.iload_n 3, 1) := dk_29 (dk_at dksX1_addUp_10 20 rfl rfl)
theorem dX1_addUp_253 : decode cX1_addUp 253 = .ok (.dup2, 1) := dk_92 (dk_at dksX1_addUp_10 21 rfl rfl)
theorem dX1_addUp_254 : decode cX1_addUp 254 = .ok (.iaload, 1) := dk_46 (dk_at dksX1_addUp_10 22 rfl rfl)
theorem dX1_addUp_255 : decode cX1_addUp 255 = .ok (.aload 7, 2) := dk_25 7 (dk_at dksX1_addUp_11 0 rfl rfl)
theorem dX1_addUp_257 : decode cX1_addUp 257 = .ok (.getfield 125, 3) := dk_180 0 125 (dk_at dksX1_addUp_11 2 rfl rfl)
theorem dX1_addUp_260 : decode cX1_addUp 260 = .ok (.isub, 1) := dk_100 (dk_at dksX1_addUp_11 5 rfl rfl)
theorem dX1_addUp_261 : decode cX1_addUp 261 = .ok (.iastore, 1) := dk_79 (dk_at dksX1_addUp_11 6 rfl rfl)
theorem dX1_addUp_262 : decode cX1_addUp 262 = .ok (.aload_n 0, 1) := dk_42 (dk_at dksX1_addUp_11 7 rfl rfl)
theorem dX1_addUp_263 : decode cX1_addUp 263 = .ok (.getfield 90, 3) := dk_180 0 90 (dk_at dksX1_addUp_11 8 rfl rfl)
theorem dX1_addUp_266 : decode cX1_addUp 266 = .ok (.aload 7, 2) := dk_25 7 (dk_at dksX1_addUp_11 11 rfl rfl)
theorem dX1_addUp_268 : decode cX1_addUp 268 = .ok (.getfield 395, 3) := dk_180 1 139 (dk_at dksX1_addUp_11 13 rfl rfl)
theorem dX1_addUp_271 : decode cX1_addUp 271 = .ok (.dup2, 1) := dk_92 (dk_at dksX1_addUp_11 16 rfl rfl)
theorem dX1_addUp_272 : decode cX1_addUp 272 = .ok (.iaload, 1) := dk_46 (dk_at dksX1_addUp_11 17 rfl rfl)
theorem dX1_addUp_273 : decode cX1_addUp 273 = .ok (.aload 7, 2) := dk_25 7 (dk_at dksX1_addUp_11 18 rfl rfl)
theorem dX1_addUp_275 : decode cX1_addUp 275 = .ok (.getfield 125, 3) := dk_180 0 125 (dk_at dksX1_addUp_11 20 rfl rfl)
theorem dX1_addUp_278 : decode cX1_addUp 278 = .ok (.isub, 1) := dk_100 (dk_at dksX1_addUp_11 23 rfl rfl)
theorem dX1_addUp_279 : decode cX1_addUp 279 = .ok (.iastore, 1) := dk_79 (dk_at dksX1_addUp_12 0 rfl rfl)
theorem dX1_addUp_280 : decode cX1_addUp 280 = .ok (.iinc 1 1, 3) := dk_132 1 1 (dk_at dksX1_addUp_12 1 rfl rfl)
theorem dX1_addUp_283 : decode cX1_addUp 283 = .ok (.goto (-222), 3) := dk_167 255 34 (dk_at dksX1_addUp_12 4 rfl rfl)
theorem dX1_addUp_286 : decode cX1_addUp 286 = .ok (.return_, 1) := dk_177 (dk_at dksX1_addUp_12 7 rfl rfl)
abbrev cX1_keyIn : ByteArray := prog_1_method_10_code
def yX1_keyIn : MethodName := ⟨RX1, "keyIn", "(LGrantworks$Entry;)LGrantworks$Key;"⟩
def dkwX1_keyIn_3 : List UInt8 := [176]
abbrev dktX1_keyIn_3 : List UInt8 := dkwX1_keyIn_3 ++ []
def dkwX1_keyIn_2 : List UInt8 := [180, 0, 115, 176, 42, 193, 0, 116, 153, 0, 15, 42, 192, 0, 116, 76, 43, 180, 0, 118, 167, 0, 4, 1]
abbrev dktX1_keyIn_2 : List UInt8 := dkwX1_keyIn_2 ++ dktX1_keyIn_3
def dkwX1_keyIn_1 : List UInt8 := [42, 192, 0, 106, 76, 43, 180, 0, 114, 176, 42, 193, 0, 108, 153, 0, 13, 42, 192, 0, 108, 76, 43]
abbrev dktX1_keyIn_1 : List UInt8 := dkwX1_keyIn_1 ++ dktX1_keyIn_2
def dkwX1_keyIn_0 : List UInt8 := [42, 193, 0, 104, 153, 0, 13, 42, 192, 0, 104, 76, 43, 180, 0, 110, 176, 42, 193, 0, 106, 153, 0, 13]
abbrev dktX1_keyIn_0 : List UInt8 := dkwX1_keyIn_0 ++ dktX1_keyIn_1
theorem dksX1_keyIn_0 : cX1_keyIn.data.toList.drop 0 = dktX1_keyIn_0 := by decide +kernel
theorem dksX1_keyIn_1 : cX1_keyIn.data.toList.drop 24 = dktX1_keyIn_1 := dk_seg dksX1_keyIn_0 24 rfl rfl
theorem dksX1_keyIn_2 : cX1_keyIn.data.toList.drop 47 = dktX1_keyIn_2 := dk_seg dksX1_keyIn_1 23 rfl rfl
theorem dksX1_keyIn_3 : cX1_keyIn.data.toList.drop 71 = dktX1_keyIn_3 := dk_seg dksX1_keyIn_2 24 rfl rfl
theorem dX1_keyIn_0 : decode cX1_keyIn 0 = .ok (.aload_n 0, 1) := dk_42 (dk_at dksX1_keyIn_0 0 rfl rfl)
theorem dX1_keyIn_1 : decode cX1_keyIn 1 = .ok (.instanceof 104, 3) := dk_193 0 104 (dk_at dksX1_keyIn_0 1 rfl rfl)
theorem dX1_keyIn_4 : decode cX1_keyIn 4 = .ok (.ifCond .eq 13, 3) := dk_153 0 13 (dk_at dksX1_keyIn_0 4 rfl rfl)
theorem dX1_keyIn_7 : decode cX1_keyIn 7 = .ok (.aload_n 0, 1) := dk_42 (dk_at dksX1_keyIn_0 7 rfl rfl)
theorem dX1_keyIn_8 : decode cX1_keyIn 8 = .ok (.checkcast 104, 3) := dk_192 0 104 (dk_at dksX1_keyIn_0 8 rfl rfl)
theorem dX1_keyIn_11 : decode cX1_keyIn 11 = .ok (.astore_n 1, 1) := dk_76 (dk_at dksX1_keyIn_0 11 rfl rfl)
theorem dX1_keyIn_12 : decode cX1_keyIn 12 = .ok (.aload_n 1, 1) := dk_43 (dk_at dksX1_keyIn_0 12 rfl rfl)
theorem dX1_keyIn_13 : decode cX1_keyIn 13 = .ok (.getfield 110, 3) := dk_180 0 110 (dk_at dksX1_keyIn_0 13 rfl rfl)
theorem dX1_keyIn_16 : decode cX1_keyIn 16 = .ok (.areturn, 1) := dk_176 (dk_at dksX1_keyIn_0 16 rfl rfl)
theorem dX1_keyIn_17 : decode cX1_keyIn 17 = .ok (.aload_n 0, 1) := dk_42 (dk_at dksX1_keyIn_0 17 rfl rfl)
theorem dX1_keyIn_18 : decode cX1_keyIn 18 = .ok (.instanceof 106, 3) := dk_193 0 106 (dk_at dksX1_keyIn_0 18 rfl rfl)
theorem dX1_keyIn_21 : decode cX1_keyIn 21 = .ok (.ifCond .eq 13, 3) := dk_153 0 13 (dk_at dksX1_keyIn_0 21 rfl rfl)
theorem dX1_keyIn_24 : decode cX1_keyIn 24 = .ok (.aload_n 0, 1) := dk_42 (dk_at dksX1_keyIn_1 0 rfl rfl)
theorem dX1_keyIn_25 : decode cX1_keyIn 25 = .ok (.checkcast 106, 3) := dk_192 0 106 (dk_at dksX1_keyIn_1 1 rfl rfl)
theorem dX1_keyIn_28 : decode cX1_keyIn 28 = .ok (.astore_n 1, 1) := dk_76 (dk_at dksX1_keyIn_1 4 rfl rfl)
theorem dX1_keyIn_29 : decode cX1_keyIn 29 = .ok (.aload_n 1, 1) := dk_43 (dk_at dksX1_keyIn_1 5 rfl rfl)
theorem dX1_keyIn_30 : decode cX1_keyIn 30 = .ok (.getfield 114, 3) := dk_180 0 114 (dk_at dksX1_keyIn_1 6 rfl rfl)
theorem dX1_keyIn_33 : decode cX1_keyIn 33 = .ok (.areturn, 1) := dk_176 (dk_at dksX1_keyIn_1 9 rfl rfl)
theorem dX1_keyIn_34 : decode cX1_keyIn 34 = .ok (.aload_n 0, 1) := dk_42 (dk_at dksX1_keyIn_1 10 rfl rfl)
theorem dX1_keyIn_35 : decode cX1_keyIn 35 = .ok (.instanceof 108, 3) := dk_193 0 108 (dk_at dksX1_keyIn_1 11 rfl rfl)
theorem dX1_keyIn_38 : decode cX1_keyIn 38 = .ok (.ifCond .eq 13, 3) := dk_153 0 13 (dk_at dksX1_keyIn_1 14 rfl rfl)
theorem dX1_keyIn_41 : decode cX1_keyIn 41 = .ok (.aload_n 0, 1) := dk_42 (dk_at dksX1_keyIn_1 17 rfl rfl)
theorem dX1_keyIn_42 : decode cX1_keyIn 42 = .ok (.checkcast 108, 3) := dk_192 0 108 (dk_at dksX1_keyIn_1 18 rfl rfl)
theorem dX1_keyIn_45 : decode cX1_keyIn 45 = .ok (.astore_n 1, 1) := dk_76 (dk_at dksX1_keyIn_1 21 rfl rfl)
theorem dX1_keyIn_46 : decode cX1_keyIn 46 = .ok (.aload_n 1, 1) := dk_43 (dk_at dksX1_keyIn_1 22 rfl rfl)
theorem dX1_keyIn_47 : decode cX1_keyIn 47 = .ok (.getfield 115, 3) := dk_180 0 115 (dk_at dksX1_keyIn_2 0 rfl rfl)
theorem dX1_keyIn_50 : decode cX1_keyIn 50 = .ok (.areturn, 1) := dk_176 (dk_at dksX1_keyIn_2 3 rfl rfl)
theorem dX1_keyIn_51 : decode cX1_keyIn 51 = .ok (.aload_n 0, 1) := dk_42 (dk_at dksX1_keyIn_2 4 rfl rfl)
theorem dX1_keyIn_52 : decode cX1_keyIn 52 = .ok (.instanceof 116, 3) := dk_193 0 116 (dk_at dksX1_keyIn_2 5 rfl rfl)
theorem dX1_keyIn_55 : decode cX1_keyIn 55 = .ok (.ifCond .eq 15, 3) := dk_153 0 15 (dk_at dksX1_keyIn_2 8 rfl rfl)
theorem dX1_keyIn_58 : decode cX1_keyIn 58 = .ok (.aload_n 0, 1) := dk_42 (dk_at dksX1_keyIn_2 11 rfl rfl)
theorem dX1_keyIn_59 : decode cX1_keyIn 59 = .ok (.checkcast 116, 3) := dk_192 0 116 (dk_at dksX1_keyIn_2 12 rfl rfl)
theorem dX1_keyIn_62 : decode cX1_keyIn 62 = .ok (.astore_n 1, 1) := dk_76 (dk_at dksX1_keyIn_2 15 rfl rfl)
theorem dX1_keyIn_63 : decode cX1_keyIn 63 = .ok (.aload_n 1, 1) := dk_43 (dk_at dksX1_keyIn_2 16 rfl rfl)
theorem dX1_keyIn_64 : decode cX1_keyIn 64 = .ok (.getfield 118, 3) := dk_180 0 118 (dk_at dksX1_keyIn_2 17 rfl rfl)
theorem dX1_keyIn_67 : decode cX1_keyIn 67 = .ok (.goto 4, 3) := dk_167 0 4 (dk_at dksX1_keyIn_2 20 rfl rfl)
theorem dX1_keyIn_70 : decode cX1_keyIn 70 = .ok (.aconst_null, 1) := dk_1 (dk_at dksX1_keyIn_2 23 rfl rfl)
theorem dX1_keyIn_71 : decode cX1_keyIn 71 = .ok (.areturn, 1) := dk_176 (dk_at dksX1_keyIn_3 0 rfl rfl)
abbrev cX1_firstOf : ByteArray := prog_1_method_38_code
def yX1_firstOf : MethodName := ⟨RX1, "firstOf", "(I)LGrantworks$Application;"⟩
def dkwX1_firstOf_1 : List UInt8 := [104, 46, 50, 176]
abbrev dktX1_firstOf_1 : List UInt8 := dkwX1_firstOf_1 ++ []
def dkwX1_firstOf_0 : List UInt8 := [42, 180, 0, 53, 27, 46, 154, 0, 7, 1, 167, 0, 17, 42, 180, 0, 65, 42, 180, 0, 56, 16, 24, 27]
abbrev dktX1_firstOf_0 : List UInt8 := dkwX1_firstOf_0 ++ dktX1_firstOf_1
theorem dksX1_firstOf_0 : cX1_firstOf.data.toList.drop 0 = dktX1_firstOf_0 := by decide +kernel
theorem dksX1_firstOf_1 : cX1_firstOf.data.toList.drop 24 = dktX1_firstOf_1 := dk_seg dksX1_firstOf_0 24 rfl rfl
theorem dX1_firstOf_0 : decode cX1_firstOf 0 = .ok (.aload_n 0, 1) := dk_42 (dk_at dksX1_firstOf_0 0 rfl rfl)
theorem dX1_firstOf_1 : decode cX1_firstOf 1 = .ok (.getfield 53, 3) := dk_180 0 53 (dk_at dksX1_firstOf_0 1 rfl rfl)
theorem dX1_firstOf_4 : decode cX1_firstOf 4 = .ok (.iload_n 1, 1) := dk_27 (dk_at dksX1_firstOf_0 4 rfl rfl)
theorem dX1_firstOf_5 : decode cX1_firstOf 5 = .ok (.iaload, 1) := dk_46 (dk_at dksX1_firstOf_0 5 rfl rfl)
theorem dX1_firstOf_6 : decode cX1_firstOf 6 = .ok (.ifCond .ne 7, 3) := dk_154 0 7 (dk_at dksX1_firstOf_0 6 rfl rfl)
theorem dX1_firstOf_9 : decode cX1_firstOf 9 = .ok (.aconst_null, 1) := dk_1 (dk_at dksX1_firstOf_0 9 rfl rfl)
theorem dX1_firstOf_10 : decode cX1_firstOf 10 = .ok (.goto 17, 3) := dk_167 0 17 (dk_at dksX1_firstOf_0 10 rfl rfl)
theorem dX1_firstOf_13 : decode cX1_firstOf 13 = .ok (.aload_n 0, 1) := dk_42 (dk_at dksX1_firstOf_0 13 rfl rfl)
theorem dX1_firstOf_14 : decode cX1_firstOf 14 = .ok (.getfield 65, 3) := dk_180 0 65 (dk_at dksX1_firstOf_0 14 rfl rfl)
theorem dX1_firstOf_17 : decode cX1_firstOf 17 = .ok (.aload_n 0, 1) := dk_42 (dk_at dksX1_firstOf_0 17 rfl rfl)
theorem dX1_firstOf_18 : decode cX1_firstOf 18 = .ok (.getfield 56, 3) := dk_180 0 56 (dk_at dksX1_firstOf_0 18 rfl rfl)
theorem dX1_firstOf_21 : decode cX1_firstOf 21 = .ok (.bipush 24, 2) := dk_16 24 (dk_at dksX1_firstOf_0 21 rfl rfl)
theorem dX1_firstOf_23 : decode cX1_firstOf 23 = .ok (.iload_n 1, 1) := dk_27 (dk_at dksX1_firstOf_0 23 rfl rfl)
theorem dX1_firstOf_24 : decode cX1_firstOf 24 = .ok (.imul, 1) := dk_104 (dk_at dksX1_firstOf_1 0 rfl rfl)
theorem dX1_firstOf_25 : decode cX1_firstOf 25 = .ok (.iaload, 1) := dk_46 (dk_at dksX1_firstOf_1 1 rfl rfl)
theorem dX1_firstOf_26 : decode cX1_firstOf 26 = .ok (.aaload, 1) := dk_50 (dk_at dksX1_firstOf_1 2 rfl rfl)
theorem dX1_firstOf_27 : decode cX1_firstOf 27 = .ok (.areturn, 1) := dk_176 (dk_at dksX1_firstOf_1 3 rfl rfl)
abbrev cX1_canComeIn : ByteArray := prog_1_method_37_code
def yX1_canComeIn : MethodName := ⟨RX1, "canComeIn", "(LGrantworks$Application;)Z"⟩
def dkwX1_canComeIn_2 : List UInt8 := [4, 172]
abbrev dktX1_canComeIn_2 : List UInt8 := dkwX1_canComeIn_2 ++ []
def dkwX1_canComeIn_1 : List UInt8 := [180, 0, 50, 43, 180, 0, 239, 46, 28, 96, 182, 1, 39, 164, 0, 5, 3, 172, 132, 2, 1, 167, 255, 213]
abbrev dktX1_canComeIn_1 : List UInt8 := dkwX1_canComeIn_1 ++ dktX1_canComeIn_2
def dkwX1_canComeIn_0 : List UInt8 := [3, 61, 28, 6, 162, 0, 44, 43, 180, 1, 36, 28, 46, 42, 42, 180, 0, 40, 43, 180, 0, 239, 46, 42]
abbrev dktX1_canComeIn_0 : List UInt8 := dkwX1_canComeIn_0 ++ dktX1_canComeIn_1
theorem dksX1_canComeIn_0 : cX1_canComeIn.data.toList.drop 0 = dktX1_canComeIn_0 := by decide +kernel
theorem dksX1_canComeIn_1 : cX1_canComeIn.data.toList.drop 24 = dktX1_canComeIn_1 := dk_seg dksX1_canComeIn_0 24 rfl rfl
theorem dksX1_canComeIn_2 : cX1_canComeIn.data.toList.drop 48 = dktX1_canComeIn_2 := dk_seg dksX1_canComeIn_1 24 rfl rfl
theorem dX1_canComeIn_0 : decode cX1_canComeIn 0 = .ok (.iconst 0, 1) := dk_3 (dk_at dksX1_canComeIn_0 0 rfl rfl)
theorem dX1_canComeIn_1 : decode cX1_canComeIn 1 = .ok (.istore_n 2, 1) := dk_61 (dk_at dksX1_canComeIn_0 1 rfl rfl)
theorem dX1_canComeIn_2 : decode cX1_canComeIn 2 = .ok (.iload_n 2, 1) := dk_28 (dk_at dksX1_canComeIn_0 2 rfl rfl)
theorem dX1_canComeIn_3 : decode cX1_canComeIn 3 = .ok (.iconst 3, 1) := dk_6 (dk_at dksX1_canComeIn_0 3 rfl rfl)
theorem dX1_canComeIn_4 : decode cX1_canComeIn 4 = .ok (.if_icmp .ge 44, 3) := dk_162 0 44 (dk_at dksX1_canComeIn_0 4 rfl rfl)
theorem dX1_canComeIn_7 : decode cX1_canComeIn 7 = .ok (.aload_n 1, 1) := dk_43 (dk_at dksX1_canComeIn_0 7 rfl rfl)
theorem dX1_canComeIn_8 : decode cX1_canComeIn 8 = .ok (.getfield 292, 3) := dk_180 1 36 (dk_at dksX1_canComeIn_0 8 rfl rfl)
theorem dX1_canComeIn_11 : decode cX1_canComeIn 11 = .ok (.iload_n 2, 1) := dk_28 (dk_at dksX1_canComeIn_0 11 rfl rfl)
theorem dX1_canComeIn_12 : decode cX1_canComeIn 12 = .ok (.iaload, 1) := dk_46 (dk_at dksX1_canComeIn_0 12 rfl rfl)
theorem dX1_canComeIn_13 : decode cX1_canComeIn 13 = .ok (.aload_n 0, 1) := dk_42 (dk_at dksX1_canComeIn_0 13 rfl rfl)
theorem dX1_canComeIn_14 : decode cX1_canComeIn 14 = .ok (.aload_n 0, 1) := dk_42 (dk_at dksX1_canComeIn_0 14 rfl rfl)
theorem dX1_canComeIn_15 : decode cX1_canComeIn 15 = .ok (.getfield 40, 3) := dk_180 0 40 (dk_at dksX1_canComeIn_0 15 rfl rfl)
theorem dX1_canComeIn_18 : decode cX1_canComeIn 18 = .ok (.aload_n 1, 1) := dk_43 (dk_at dksX1_canComeIn_0 18 rfl rfl)
theorem dX1_canComeIn_19 : decode cX1_canComeIn 19 = .ok (.getfield 239, 3) := dk_180 0 239 (dk_at dksX1_canComeIn_0 19 rfl rfl)
theorem dX1_canComeIn_22 : decode cX1_canComeIn 22 = .ok (.iaload, 1) := dk_46 (dk_at dksX1_canComeIn_0 22 rfl rfl)
theorem dX1_canComeIn_23 : decode cX1_canComeIn 23 = .ok (.aload_n 0, 1) := dk_42 (dk_at dksX1_canComeIn_0 23 rfl rfl)
theorem dX1_canComeIn_24 : decode cX1_canComeIn 24 = .ok (.getfield 50, 3) := dk_180 0 50 (dk_at dksX1_canComeIn_1 0 rfl rfl)
theorem dX1_canComeIn_27 : decode cX1_canComeIn 27 = .ok (.aload_n 1, 1) := dk_43 (dk_at dksX1_canComeIn_1 3 rfl rfl)
theorem dX1_canComeIn_28 : decode cX1_canComeIn 28 = .ok (.getfield 239, 3) := dk_180 0 239 (dk_at dksX1_canComeIn_1 4 rfl rfl)
theorem dX1_canComeIn_31 : decode cX1_canComeIn 31 = .ok (.iaload, 1) := dk_46 (dk_at dksX1_canComeIn_1 7 rfl rfl)
theorem dX1_canComeIn_32 : decode cX1_canComeIn 32 = .ok (.iload_n 2, 1) := dk_28 (dk_at dksX1_canComeIn_1 8 rfl rfl)
theorem dX1_canComeIn_33 : decode cX1_canComeIn 33 = .ok (.iadd, 1) := dk_96 (dk_at dksX1_canComeIn_1 9 rfl rfl)
theorem dX1_canComeIn_34 : decode cX1_canComeIn 34 = .ok (.invokevirtual 295, 3) := dk_182 1 39 (dk_at dksX1_canComeIn_1 10 rfl rfl)
theorem dX1_canComeIn_37 : decode cX1_canComeIn 37 = .ok (.if_icmp .le 5, 3) := dk_164 0 5 (dk_at dksX1_canComeIn_1 13 rfl rfl)
theorem dX1_canComeIn_40 : decode cX1_canComeIn 40 = .ok (.iconst 0, 1) := dk_3 (dk_at dksX1_canComeIn_1 16 rfl rfl)
theorem dX1_canComeIn_41 : decode cX1_canComeIn 41 = .ok (.ireturn, 1) := dk_172 (dk_at dksX1_canComeIn_1 17 rfl rfl)
theorem dX1_canComeIn_42 : decode cX1_canComeIn 42 = .ok (.iinc 2 1, 3) := dk_132 2 1 (dk_at dksX1_canComeIn_1 18 rfl rfl)
theorem dX1_canComeIn_45 : decode cX1_canComeIn 45 = .ok (.goto (-43), 3) := dk_167 255 213 (dk_at dksX1_canComeIn_1 21 rfl rfl)
theorem dX1_canComeIn_48 : decode cX1_canComeIn 48 = .ok (.iconst 1, 1) := dk_4 (dk_at dksX1_canComeIn_2 0 rfl rfl)
theorem dX1_canComeIn_49 : decode cX1_canComeIn 49 = .ok (.ireturn, 1) := dk_172 (dk_at dksX1_canComeIn_2 1 rfl rfl)
abbrev cX1_freeAt : ByteArray := prog_1_method_35_code
def yX1_freeAt : MethodName := ⟨RX1, "freeAt", "(II)I"⟩
def dkwX1_freeAt_1 : List UInt8 := [182, 0, 189, 172]
abbrev dktX1_freeAt_1 : List UInt8 := dkwX1_freeAt_1 ++ []
def dkwX1_freeAt_0 : List UInt8 := [42, 180, 0, 22, 42, 27, 28, 182, 0, 182, 182, 0, 129, 78, 45, 199, 0, 7, 3, 167, 0, 7, 45]
abbrev dktX1_freeAt_0 : List UInt8 := dkwX1_freeAt_0 ++ dktX1_freeAt_1
theorem dksX1_freeAt_0 : cX1_freeAt.data.toList.drop 0 = dktX1_freeAt_0 := by decide +kernel
theorem dksX1_freeAt_1 : cX1_freeAt.data.toList.drop 23 = dktX1_freeAt_1 := dk_seg dksX1_freeAt_0 23 rfl rfl
theorem dX1_freeAt_0 : decode cX1_freeAt 0 = .ok (.aload_n 0, 1) := dk_42 (dk_at dksX1_freeAt_0 0 rfl rfl)
theorem dX1_freeAt_1 : decode cX1_freeAt 1 = .ok (.getfield 22, 3) := dk_180 0 22 (dk_at dksX1_freeAt_0 1 rfl rfl)
theorem dX1_freeAt_4 : decode cX1_freeAt 4 = .ok (.aload_n 0, 1) := dk_42 (dk_at dksX1_freeAt_0 4 rfl rfl)
theorem dX1_freeAt_5 : decode cX1_freeAt 5 = .ok (.iload_n 1, 1) := dk_27 (dk_at dksX1_freeAt_0 5 rfl rfl)
theorem dX1_freeAt_6 : decode cX1_freeAt 6 = .ok (.iload_n 2, 1) := dk_28 (dk_at dksX1_freeAt_0 6 rfl rfl)
theorem dX1_freeAt_7 : decode cX1_freeAt 7 = .ok (.invokevirtual 182, 3) := dk_182 0 182 (dk_at dksX1_freeAt_0 7 rfl rfl)
theorem dX1_freeAt_10 : decode cX1_freeAt 10 = .ok (.invokevirtual 129, 3) := dk_182 0 129 (dk_at dksX1_freeAt_0 10 rfl rfl)
theorem dX1_freeAt_13 : decode cX1_freeAt 13 = .ok (.astore_n 3, 1) := dk_78 (dk_at dksX1_freeAt_0 13 rfl rfl)
theorem dX1_freeAt_14 : decode cX1_freeAt 14 = .ok (.aload_n 3, 1) := dk_45 (dk_at dksX1_freeAt_0 14 rfl rfl)
theorem dX1_freeAt_15 : decode cX1_freeAt 15 = .ok (.ifnonnull 7, 3) := dk_199 0 7 (dk_at dksX1_freeAt_0 15 rfl rfl)
theorem dX1_freeAt_18 : decode cX1_freeAt 18 = .ok (.iconst 0, 1) := dk_3 (dk_at dksX1_freeAt_0 18 rfl rfl)
theorem dX1_freeAt_19 : decode cX1_freeAt 19 = .ok (.goto 7, 3) := dk_167 0 7 (dk_at dksX1_freeAt_0 19 rfl rfl)
theorem dX1_freeAt_22 : decode cX1_freeAt 22 = .ok (.aload_n 3, 1) := dk_45 (dk_at dksX1_freeAt_0 22 rfl rfl)
theorem dX1_freeAt_23 : decode cX1_freeAt 23 = .ok (.invokevirtual 189, 3) := dk_182 0 189 (dk_at dksX1_freeAt_1 0 rfl rfl)
theorem dX1_freeAt_26 : decode cX1_freeAt 26 = .ok (.ireturn, 1) := dk_172 (dk_at dksX1_freeAt_1 3 rfl rfl)
abbrev cX1_keyOf : ByteArray := prog_1_method_7_code
def yX1_keyOf : MethodName := ⟨RX1, "keyOf", "(II)LGrantworks$Key;"⟩
def dkwX1_keyOf_1 : List UInt8 := [89, 27, 28, 183, 0, 93, 83, 42, 180, 0, 30, 29, 50, 176]
abbrev dktX1_keyOf_1 : List UInt8 := dkwX1_keyOf_1 ++ []
def dkwX1_keyOf_0 : List UInt8 := [16, 12, 27, 104, 28, 96, 62, 42, 180, 0, 30, 29, 50, 199, 0, 18, 42, 180, 0, 30, 29, 187, 0, 28]
abbrev dktX1_keyOf_0 : List UInt8 := dkwX1_keyOf_0 ++ dktX1_keyOf_1
theorem dksX1_keyOf_0 : cX1_keyOf.data.toList.drop 0 = dktX1_keyOf_0 := by decide +kernel
theorem dksX1_keyOf_1 : cX1_keyOf.data.toList.drop 24 = dktX1_keyOf_1 := dk_seg dksX1_keyOf_0 24 rfl rfl
theorem dX1_keyOf_0 : decode cX1_keyOf 0 = .ok (.bipush 12, 2) := dk_16 12 (dk_at dksX1_keyOf_0 0 rfl rfl)
theorem dX1_keyOf_2 : decode cX1_keyOf 2 = .ok (.iload_n 1, 1) := dk_27 (dk_at dksX1_keyOf_0 2 rfl rfl)
theorem dX1_keyOf_3 : decode cX1_keyOf 3 = .ok (.imul, 1) := dk_104 (dk_at dksX1_keyOf_0 3 rfl rfl)
theorem dX1_keyOf_4 : decode cX1_keyOf 4 = .ok (.iload_n 2, 1) := dk_28 (dk_at dksX1_keyOf_0 4 rfl rfl)
theorem dX1_keyOf_5 : decode cX1_keyOf 5 = .ok (.iadd, 1) := dk_96 (dk_at dksX1_keyOf_0 5 rfl rfl)
theorem dX1_keyOf_6 : decode cX1_keyOf 6 = .ok (.istore_n 3, 1) := dk_62 (dk_at dksX1_keyOf_0 6 rfl rfl)
theorem dX1_keyOf_7 : decode cX1_keyOf 7 = .ok (.aload_n 0, 1) := dk_42 (dk_at dksX1_keyOf_0 7 rfl rfl)
theorem dX1_keyOf_8 : decode cX1_keyOf 8 = .ok (.getfield 30, 3) := dk_180 0 30 (dk_at dksX1_keyOf_0 8 rfl rfl)
theorem dX1_keyOf_11 : decode cX1_keyOf 11 = .ok (.iload_n 3, 1) := dk_29 (dk_at dksX1_keyOf_0 11 rfl rfl)
theorem dX1_keyOf_12 : decode cX1_keyOf 12 = .ok (.aaload, 1) := dk_50 (dk_at dksX1_keyOf_0 12 rfl rfl)
theorem dX1_keyOf_13 : decode cX1_keyOf 13 = .ok (.ifnonnull 18, 3) := dk_199 0 18 (dk_at dksX1_keyOf_0 13 rfl rfl)
theorem dX1_keyOf_16 : decode cX1_keyOf 16 = .ok (.aload_n 0, 1) := dk_42 (dk_at dksX1_keyOf_0 16 rfl rfl)
theorem dX1_keyOf_17 : decode cX1_keyOf 17 = .ok (.getfield 30, 3) := dk_180 0 30 (dk_at dksX1_keyOf_0 17 rfl rfl)
theorem dX1_keyOf_20 : decode cX1_keyOf 20 = .ok (.iload_n 3, 1) := dk_29 (dk_at dksX1_keyOf_0 20 rfl rfl)
theorem dX1_keyOf_21 : decode cX1_keyOf 21 = .ok (.new 28, 3) := dk_187 0 28 (dk_at dksX1_keyOf_0 21 rfl rfl)
theorem dX1_keyOf_24 : decode cX1_keyOf 24 = .ok (.dup, 1) := dk_89 (dk_at dksX1_keyOf_1 0 rfl rfl)
theorem dX1_keyOf_25 : decode cX1_keyOf 25 = .ok (.iload_n 1, 1) := dk_27 (dk_at dksX1_keyOf_1 1 rfl rfl)
theorem dX1_keyOf_26 : decode cX1_keyOf 26 = .ok (.iload_n 2, 1) := dk_28 (dk_at dksX1_keyOf_1 2 rfl rfl)
theorem dX1_keyOf_27 : decode cX1_keyOf 27 = .ok (.invokespecial 93, 3) := dk_183 0 93 (dk_at dksX1_keyOf_1 3 rfl rfl)
theorem dX1_keyOf_30 : decode cX1_keyOf 30 = .ok (.aastore, 1) := dk_83 (dk_at dksX1_keyOf_1 6 rfl rfl)
theorem dX1_keyOf_31 : decode cX1_keyOf 31 = .ok (.aload_n 0, 1) := dk_42 (dk_at dksX1_keyOf_1 7 rfl rfl)
theorem dX1_keyOf_32 : decode cX1_keyOf 32 = .ok (.getfield 30, 3) := dk_180 0 30 (dk_at dksX1_keyOf_1 8 rfl rfl)
theorem dX1_keyOf_35 : decode cX1_keyOf 35 = .ok (.iload_n 3, 1) := dk_29 (dk_at dksX1_keyOf_1 11 rfl rfl)
theorem dX1_keyOf_36 : decode cX1_keyOf 36 = .ok (.aaload, 1) := dk_50 (dk_at dksX1_keyOf_1 12 rfl rfl)
theorem dX1_keyOf_37 : decode cX1_keyOf 37 = .ok (.areturn, 1) := dk_176 (dk_at dksX1_keyOf_1 13 rfl rfl)
abbrev cX1_paidShare : ByteArray := prog_1_method_53_code
def yX1_paidShare : MethodName := ⟨RX1, "paidShare", "()D"⟩
def dkwX1_paidShare_2 : List UInt8 := [148, 154, 0, 7, 14, 167, 0, 8, 31, 138, 33, 138, 111, 175]
abbrev dktX1_paidShare_2 : List UInt8 := dkwX1_paidShare_2 ++ []
def dkwX1_paidShare_1 : List UInt8 := [133, 97, 64, 33, 25, 5, 180, 0, 186, 133, 97, 66, 25, 5, 180, 1, 147, 58, 5, 167, 255, 226, 33, 9]
abbrev dktX1_paidShare_1 : List UInt8 := dkwX1_paidShare_1 ++ dktX1_paidShare_2
def dkwX1_paidShare_0 : List UInt8 := [9, 64, 9, 66, 42, 180, 0, 22, 180, 1, 143, 58, 5, 25, 5, 198, 0, 31, 31, 25, 5, 180, 0, 145]
abbrev dktX1_paidShare_0 : List UInt8 := dkwX1_paidShare_0 ++ dktX1_paidShare_1
theorem dksX1_paidShare_0 : cX1_paidShare.data.toList.drop 0 = dktX1_paidShare_0 := by decide +kernel
theorem dksX1_paidShare_1 : cX1_paidShare.data.toList.drop 24 = dktX1_paidShare_1 := dk_seg dksX1_paidShare_0 24 rfl rfl
theorem dksX1_paidShare_2 : cX1_paidShare.data.toList.drop 48 = dktX1_paidShare_2 := dk_seg dksX1_paidShare_1 24 rfl rfl
theorem dX1_paidShare_0 : decode cX1_paidShare 0 = .ok (.lconst 0, 1) := dk_9 (dk_at dksX1_paidShare_0 0 rfl rfl)
theorem dX1_paidShare_1 : decode cX1_paidShare 1 = .ok (.lstore_n 1, 1) := dk_64 (dk_at dksX1_paidShare_0 1 rfl rfl)
theorem dX1_paidShare_2 : decode cX1_paidShare 2 = .ok (.lconst 0, 1) := dk_9 (dk_at dksX1_paidShare_0 2 rfl rfl)
theorem dX1_paidShare_3 : decode cX1_paidShare 3 = .ok (.lstore_n 3, 1) := dk_66 (dk_at dksX1_paidShare_0 3 rfl rfl)
theorem dX1_paidShare_4 : decode cX1_paidShare 4 = .ok (.aload_n 0, 1) := dk_42 (dk_at dksX1_paidShare_0 4 rfl rfl)
theorem dX1_paidShare_5 : decode cX1_paidShare 5 = .ok (.getfield 22, 3) := dk_180 0 22 (dk_at dksX1_paidShare_0 5 rfl rfl)
theorem dX1_paidShare_8 : decode cX1_paidShare 8 = .ok (.getfield 399, 3) := dk_180 1 143 (dk_at dksX1_paidShare_0 8 rfl rfl)
theorem dX1_paidShare_11 : decode cX1_paidShare 11 = .ok (.astore 5, 2) := dk_58 5 (dk_at dksX1_paidShare_0 11 rfl rfl)
theorem dX1_paidShare_13 : decode cX1_paidShare 13 = .ok (.aload 5, 2) := dk_25 5 (dk_at dksX1_paidShare_0 13 rfl rfl)
theorem dX1_paidShare_15 : decode cX1_paidShare 15 = .ok (.ifnull 31, 3) := dk_198 0 31 (dk_at dksX1_paidShare_0 15 rfl rfl)
theorem dX1_paidShare_18 : decode cX1_paidShare 18 = .ok (.lload_n 1, 1) := dk_31 (dk_at dksX1_paidShare_0 18 rfl rfl)
theorem dX1_paidShare_19 : decode cX1_paidShare 19 = .ok (.aload 5, 2) := dk_25 5 (dk_at dksX1_paidShare_0 19 rfl rfl)
theorem dX1_paidShare_21 : decode cX1_paidShare 21 = .ok (.getfield 145, 3) := dk_180 0 145 (dk_at dksX1_paidShare_0 21 rfl rfl)
theorem dX1_paidShare_24 : decode cX1_paidShare 24 = .ok (.i2l, 1) := dk_133 (dk_at dksX1_paidShare_1 0 rfl rfl)
theorem dX1_paidShare_25 : decode cX1_paidShare 25 = .ok (.ladd, 1) := dk_97 (dk_at dksX1_paidShare_1 1 rfl rfl)
theorem dX1_paidShare_26 : decode cX1_paidShare 26 = .ok (.lstore_n 1, 1) := dk_64 (dk_at dksX1_paidShare_1 2 rfl rfl)
theorem dX1_paidShare_27 : decode cX1_paidShare 27 = .ok (.lload_n 3, 1) := dk_33 (dk_at dksX1_paidShare_1 3 rfl rfl)
theorem dX1_paidShare_28 : decode cX1_paidShare 28 = .ok (.aload 5, 2) := dk_25 5 (dk_at dksX1_paidShare_1 4 rfl rfl)
theorem dX1_paidShare_30 : decode cX1_paidShare 30 = .ok (.getfield 186, 3) := dk_180 0 186 (dk_at dksX1_paidShare_1 6 rfl rfl)
theorem dX1_paidShare_33 : decode cX1_paidShare 33 = .ok (.i2l, 1) := dk_133 (dk_at dksX1_paidShare_1 9 rfl rfl)
theorem dX1_paidShare_34 : decode cX1_paidShare 34 = .ok (.ladd, 1) := dk_97 (dk_at dksX1_paidShare_1 10 rfl rfl)
theorem dX1_paidShare_35 : decode cX1_paidShare 35 = .ok (.lstore_n 3, 1) := dk_66 (dk_at dksX1_paidShare_1 11 rfl rfl)
theorem dX1_paidShare_36 : decode cX1_paidShare 36 = .ok (.aload 5, 2) := dk_25 5 (dk_at dksX1_paidShare_1 12 rfl rfl)
theorem dX1_paidShare_38 : decode cX1_paidShare 38 = .ok (.getfield 403, 3) := dk_180 1 147 (dk_at dksX1_paidShare_1 14 rfl rfl)
theorem dX1_paidShare_41 : decode cX1_paidShare 41 = .ok (.astore 5, 2) := dk_58 5 (dk_at dksX1_paidShare_1 17 rfl rfl)
theorem dX1_paidShare_43 : decode cX1_paidShare 43 = .ok (.goto (-30), 3) := dk_167 255 226 (dk_at dksX1_paidShare_1 19 rfl rfl)
theorem dX1_paidShare_46 : decode cX1_paidShare 46 = .ok (.lload_n 3, 1) := dk_33 (dk_at dksX1_paidShare_1 22 rfl rfl)
theorem dX1_paidShare_47 : decode cX1_paidShare 47 = .ok (.lconst 0, 1) := dk_9 (dk_at dksX1_paidShare_1 23 rfl rfl)
theorem dX1_paidShare_48 : decode cX1_paidShare 48 = .ok (.lcmp, 1) := dk_148 (dk_at dksX1_paidShare_2 0 rfl rfl)
theorem dX1_paidShare_49 : decode cX1_paidShare 49 = .ok (.ifCond .ne 7, 3) := dk_154 0 7 (dk_at dksX1_paidShare_2 1 rfl rfl)
theorem dX1_paidShare_52 : decode cX1_paidShare 52 = .ok (.dconst 0, 1) := dk_14 (dk_at dksX1_paidShare_2 4 rfl rfl)
theorem dX1_paidShare_53 : decode cX1_paidShare 53 = .ok (.goto 8, 3) := dk_167 0 8 (dk_at dksX1_paidShare_2 5 rfl rfl)
theorem dX1_paidShare_56 : decode cX1_paidShare 56 = .ok (.lload_n 1, 1) := dk_31 (dk_at dksX1_paidShare_2 8 rfl rfl)
theorem dX1_paidShare_57 : decode cX1_paidShare 57 = .ok (.l2d, 1) := dk_138 (dk_at dksX1_paidShare_2 9 rfl rfl)
theorem dX1_paidShare_58 : decode cX1_paidShare 58 = .ok (.lload_n 3, 1) := dk_33 (dk_at dksX1_paidShare_2 10 rfl rfl)
theorem dX1_paidShare_59 : decode cX1_paidShare 59 = .ok (.l2d, 1) := dk_138 (dk_at dksX1_paidShare_2 11 rfl rfl)
theorem dX1_paidShare_60 : decode cX1_paidShare 60 = .ok (.ddiv, 1) := dk_111 (dk_at dksX1_paidShare_2 12 rfl rfl)
theorem dX1_paidShare_61 : decode cX1_paidShare 61 = .ok (.dreturn, 1) := dk_175 (dk_at dksX1_paidShare_2 13 rfl rfl)
abbrev cX1_tell : ByteArray := prog_1_method_42_code
def yX1_tell : MethodName := ⟨RX1, "tell", "(III)I"⟩
def dkwX1_tell_5 : List UInt8 := [180, 1, 80, 29, 183, 1, 81, 182, 0, 141, 42, 27, 182, 1, 84, 25, 4, 180, 0, 186, 172]
abbrev dktX1_tell_5 : List UInt8 := dkwX1_tell_5 ++ []
def dkwX1_tell_4 : List UInt8 := [182, 1, 78, 58, 4, 25, 4, 89, 180, 0, 186, 29, 96, 181, 0, 186, 42, 187, 0, 104, 89, 25, 4]
abbrev dktX1_tell_4 : List UInt8 := dkwX1_tell_4 ++ dktX1_tell_5
def dkwX1_tell_3 : List UInt8 := [167, 0, 4, 3, 184, 0, 206, 25, 4, 199, 0, 18, 42, 180, 0, 22, 42, 27, 28, 182, 0, 182]
abbrev dktX1_tell_3 : List UInt8 := dkwX1_tell_3 ++ dktX1_tell_4
def dkwX1_tell_2 : List UInt8 := [154, 0, 25, 25, 4, 198, 0, 16, 25, 4, 180, 0, 186, 29, 96, 19, 1, 77, 163, 0, 7, 4]
abbrev dktX1_tell_2 : List UInt8 := dkwX1_tell_2 ++ dktX1_tell_3
def dkwX1_tell_1 : List UInt8 := [3, 184, 0, 156, 42, 180, 0, 22, 42, 27, 28, 182, 0, 182, 182, 0, 129, 58, 4, 42, 182, 1, 73]
abbrev dktX1_tell_1 : List UInt8 := dkwX1_tell_1 ++ dktX1_tell_2
def dkwX1_tell_0 : List UInt8 := [27, 28, 184, 0, 176, 153, 0, 19, 29, 133, 10, 20, 1, 71, 184, 0, 98, 153, 0, 7, 4, 167, 0, 4]
abbrev dktX1_tell_0 : List UInt8 := dkwX1_tell_0 ++ dktX1_tell_1
theorem dksX1_tell_0 : cX1_tell.data.toList.drop 0 = dktX1_tell_0 := by decide +kernel
theorem dksX1_tell_1 : cX1_tell.data.toList.drop 24 = dktX1_tell_1 := dk_seg dksX1_tell_0 24 rfl rfl
theorem dksX1_tell_2 : cX1_tell.data.toList.drop 47 = dktX1_tell_2 := dk_seg dksX1_tell_1 23 rfl rfl
theorem dksX1_tell_3 : cX1_tell.data.toList.drop 69 = dktX1_tell_3 := dk_seg dksX1_tell_2 22 rfl rfl
theorem dksX1_tell_4 : cX1_tell.data.toList.drop 91 = dktX1_tell_4 := dk_seg dksX1_tell_3 22 rfl rfl
theorem dksX1_tell_5 : cX1_tell.data.toList.drop 114 = dktX1_tell_5 := dk_seg dksX1_tell_4 23 rfl rfl
theorem dX1_tell_0 : decode cX1_tell 0 = .ok (.iload_n 1, 1) := dk_27 (dk_at dksX1_tell_0 0 rfl rfl)
theorem dX1_tell_1 : decode cX1_tell 1 = .ok (.iload_n 2, 1) := dk_28 (dk_at dksX1_tell_0 1 rfl rfl)
theorem dX1_tell_2 : decode cX1_tell 2 = .ok (.invokestatic 176, 3) := dk_184 0 176 (dk_at dksX1_tell_0 2 rfl rfl)
theorem dX1_tell_5 : decode cX1_tell 5 = .ok (.ifCond .eq 19, 3) := dk_153 0 19 (dk_at dksX1_tell_0 5 rfl rfl)
theorem dX1_tell_8 : decode cX1_tell 8 = .ok (.iload_n 3, 1) := dk_29 (dk_at dksX1_tell_0 8 rfl rfl)
theorem dX1_tell_9 : decode cX1_tell 9 = .ok (.i2l, 1) := dk_133 (dk_at dksX1_tell_0 9 rfl rfl)
theorem dX1_tell_10 : decode cX1_tell 10 = .ok (.lconst 1, 1) := dk_10 (dk_at dksX1_tell_0 10 rfl rfl)
theorem dX1_tell_11 : decode cX1_tell 11 = .ok (.ldc2_w 327, 3) := dk_20 1 71 (dk_at dksX1_tell_0 11 rfl rfl)
theorem dX1_tell_14 : decode cX1_tell 14 = .ok (.invokestatic 98, 3) := dk_184 0 98 (dk_at dksX1_tell_0 14 rfl rfl)
theorem dX1_tell_17 : decode cX1_tell 17 = .ok (.ifCond .eq 7, 3) := dk_153 0 7 (dk_at dksX1_tell_0 17 rfl rfl)
theorem dX1_tell_20 : decode cX1_tell 20 = .ok (.iconst 1, 1) := dk_4 (dk_at dksX1_tell_0 20 rfl rfl)
theorem dX1_tell_21 : decode cX1_tell 21 = .ok (.goto 4, 3) := dk_167 0 4 (dk_at dksX1_tell_0 21 rfl rfl)
theorem dX1_tell_24 : decode cX1_tell 24 = .ok (.iconst 0, 1) := dk_3 (dk_at dksX1_tell_1 0 rfl rfl)
theorem dX1_tell_25 : decode cX1_tell 25 = .ok (.invokestatic 156, 3) := dk_184 0 156 (dk_at dksX1_tell_1 1 rfl rfl)
theorem dX1_tell_28 : decode cX1_tell 28 = .ok (.aload_n 0, 1) := dk_42 (dk_at dksX1_tell_1 4 rfl rfl)
theorem dX1_tell_29 : decode cX1_tell 29 = .ok (.getfield 22, 3) := dk_180 0 22 (dk_at dksX1_tell_1 5 rfl rfl)
theorem dX1_tell_32 : decode cX1_tell 32 = .ok (.aload_n 0, 1) := dk_42 (dk_at dksX1_tell_1 8 rfl rfl)
theorem dX1_tell_33 : decode cX1_tell 33 = .ok (.iload_n 1, 1) := dk_27 (dk_at dksX1_tell_1 9 rfl rfl)
theorem dX1_tell_34 : decode cX1_tell 34 = .ok (.iload_n 2, 1) := dk_28 (dk_at dksX1_tell_1 10 rfl rfl)
theorem dX1_tell_35 : decode cX1_tell 35 = .ok (.invokevirtual 182, 3) := dk_182 0 182 (dk_at dksX1_tell_1 11 rfl rfl)
theorem dX1_tell_38 : decode cX1_tell 38 = .ok (.invokevirtual 129, 3) := dk_182 0 129 (dk_at dksX1_tell_1 14 rfl rfl)
theorem dX1_tell_41 : decode cX1_tell 41 = .ok (.astore 4, 2) := dk_58 4 (dk_at dksX1_tell_1 17 rfl rfl)
theorem dX1_tell_43 : decode cX1_tell 43 = .ok (.aload_n 0, 1) := dk_42 (dk_at dksX1_tell_1 19 rfl rfl)
theorem dX1_tell_44 : decode cX1_tell 44 = .ok (.invokevirtual 329, 3) := dk_182 1 73 (dk_at dksX1_tell_1 20 rfl rfl)
theorem dX1_tell_47 : decode cX1_tell 47 = .ok (.ifCond .ne 25, 3) := dk_154 0 25 (dk_at dksX1_tell_2 0 rfl rfl)
theorem dX1_tell_50 : decode cX1_tell 50 = .ok (.aload 4, 2) := dk_25 4 (dk_at dksX1_tell_2 3 rfl rfl)
theorem dX1_tell_52 : decode cX1_tell 52 = .ok (.ifnull 16, 3) := dk_198 0 16 (dk_at dksX1_tell_2 5 rfl rfl)
theorem dX1_tell_55 : decode cX1_tell 55 = .ok (.aload 4, 2) := dk_25 4 (dk_at dksX1_tell_2 8 rfl rfl)
theorem dX1_tell_57 : decode cX1_tell 57 = .ok (.getfield 186, 3) := dk_180 0 186 (dk_at dksX1_tell_2 10 rfl rfl)
theorem dX1_tell_60 : decode cX1_tell 60 = .ok (.iload_n 3, 1) := dk_29 (dk_at dksX1_tell_2 13 rfl rfl)
theorem dX1_tell_61 : decode cX1_tell 61 = .ok (.iadd, 1) := dk_96 (dk_at dksX1_tell_2 14 rfl rfl)
theorem dX1_tell_62 : decode cX1_tell 62 = .ok (.ldc_w 333, 3) := dk_19 1 77 (dk_at dksX1_tell_2 15 rfl rfl)
theorem dX1_tell_65 : decode cX1_tell 65 = .ok (.if_icmp .gt 7, 3) := dk_163 0 7 (dk_at dksX1_tell_2 18 rfl rfl)
theorem dX1_tell_68 : decode cX1_tell 68 = .ok (.iconst 1, 1) := dk_4 (dk_at dksX1_tell_2 21 rfl rfl)
theorem dX1_tell_69 : decode cX1_tell 69 = .ok (.goto 4, 3) := dk_167 0 4 (dk_at dksX1_tell_3 0 rfl rfl)
theorem dX1_tell_72 : decode cX1_tell 72 = .ok (.iconst 0, 1) := dk_3 (dk_at dksX1_tell_3 3 rfl rfl)
theorem dX1_tell_73 : decode cX1_tell 73 = .ok (.invokestatic 206, 3) := dk_184 0 206 (dk_at dksX1_tell_3 4 rfl rfl)
theorem dX1_tell_76 : decode cX1_tell 76 = .ok (.aload 4, 2) := dk_25 4 (dk_at dksX1_tell_3 7 rfl rfl)
theorem dX1_tell_78 : decode cX1_tell 78 = .ok (.ifnonnull 18, 3) := dk_199 0 18 (dk_at dksX1_tell_3 9 rfl rfl)
theorem dX1_tell_81 : decode cX1_tell 81 = .ok (.aload_n 0, 1) := dk_42 (dk_at dksX1_tell_3 12 rfl rfl)
theorem dX1_tell_82 : decode cX1_tell 82 = .ok (.getfield 22, 3) := dk_180 0 22 (dk_at dksX1_tell_3 13 rfl rfl)
theorem dX1_tell_85 : decode cX1_tell 85 = .ok (.aload_n 0, 1) := dk_42 (dk_at dksX1_tell_3 16 rfl rfl)
theorem dX1_tell_86 : decode cX1_tell 86 = .ok (.iload_n 1, 1) := dk_27 (dk_at dksX1_tell_3 17 rfl rfl)
theorem dX1_tell_87 : decode cX1_tell 87 = .ok (.iload_n 2, 1) := dk_28 (dk_at dksX1_tell_3 18 rfl rfl)
theorem dX1_tell_88 : decode cX1_tell 88 = .ok (.invokevirtual 182, 3) := dk_182 0 182 (dk_at dksX1_tell_3 19 rfl rfl)
theorem dX1_tell_91 : decode cX1_tell 91 = .ok (.invokevirtual 334, 3) := dk_182 1 78 (dk_at dksX1_tell_4 0 rfl rfl)
theorem dX1_tell_94 : decode cX1_tell 94 = .ok (.astore 4, 2) := dk_58 4 (dk_at dksX1_tell_4 3 rfl rfl)
theorem dX1_tell_96 : decode cX1_tell 96 = .ok (.aload 4, 2) := dk_25 4 (dk_at dksX1_tell_4 5 rfl rfl)
theorem dX1_tell_98 : decode cX1_tell 98 = .ok (.dup, 1) := dk_89 (dk_at dksX1_tell_4 7 rfl rfl)
theorem dX1_tell_99 : decode cX1_tell 99 = .ok (.getfield 186, 3) := dk_180 0 186 (dk_at dksX1_tell_4 8 rfl rfl)
theorem dX1_tell_102 : decode cX1_tell 102 = .ok (.iload_n 3, 1) := dk_29 (dk_at dksX1_tell_4 11 rfl rfl)
theorem dX1_tell_103 : decode cX1_tell 103 = .ok (.iadd, 1) := dk_96 (dk_at dksX1_tell_4 12 rfl rfl)
theorem dX1_tell_104 : decode cX1_tell 104 = .ok (.putfield 186, 3) := dk_181 0 186 (dk_at dksX1_tell_4 13 rfl rfl)
theorem dX1_tell_107 : decode cX1_tell 107 = .ok (.aload_n 0, 1) := dk_42 (dk_at dksX1_tell_4 16 rfl rfl)
theorem dX1_tell_108 : decode cX1_tell 108 = .ok (.new 104, 3) := dk_187 0 104 (dk_at dksX1_tell_4 17 rfl rfl)
theorem dX1_tell_111 : decode cX1_tell 111 = .ok (.dup, 1) := dk_89 (dk_at dksX1_tell_4 20 rfl rfl)
theorem dX1_tell_112 : decode cX1_tell 112 = .ok (.aload 4, 2) := dk_25 4 (dk_at dksX1_tell_4 21 rfl rfl)
theorem dX1_tell_114 : decode cX1_tell 114 = .ok (.getfield 336, 3) := dk_180 1 80 (dk_at dksX1_tell_5 0 rfl rfl)
theorem dX1_tell_117 : decode cX1_tell 117 = .ok (.iload_n 3, 1) := dk_29 (dk_at dksX1_tell_5 3 rfl rfl)
theorem dX1_tell_118 : decode cX1_tell 118 = .ok (.invokespecial 337, 3) := dk_183 1 81 (dk_at dksX1_tell_5 4 rfl rfl)
theorem dX1_tell_121 : decode cX1_tell 121 = .ok (.invokevirtual 141, 3) := dk_182 0 141 (dk_at dksX1_tell_5 7 rfl rfl)
theorem dX1_tell_124 : decode cX1_tell 124 = .ok (.aload_n 0, 1) := dk_42 (dk_at dksX1_tell_5 10 rfl rfl)
theorem dX1_tell_125 : decode cX1_tell 125 = .ok (.iload_n 1, 1) := dk_27 (dk_at dksX1_tell_5 11 rfl rfl)
theorem dX1_tell_126 : decode cX1_tell 126 = .ok (.invokevirtual 340, 3) := dk_182 1 84 (dk_at dksX1_tell_5 12 rfl rfl)
theorem dX1_tell_129 : decode cX1_tell 129 = .ok (.aload 4, 2) := dk_25 4 (dk_at dksX1_tell_5 15 rfl rfl)
theorem dX1_tell_131 : decode cX1_tell 131 = .ok (.getfield 186, 3) := dk_180 0 186 (dk_at dksX1_tell_5 17 rfl rfl)
theorem dX1_tell_134 : decode cX1_tell 134 = .ok (.ireturn, 1) := dk_172 (dk_at dksX1_tell_5 20 rfl rfl)
abbrev cX1_isPlace : ByteArray := prog_1_method_8_code
def yX1_isPlace : MethodName := ⟨RX1, "isPlace", "(II)Z"⟩
def dkwX1_isPlace_1 : List UInt8 := [4, 167, 0, 4, 3, 172]
abbrev dktX1_isPlace_1 : List UInt8 := dkwX1_isPlace_1 ++ []
def dkwX1_isPlace_0 : List UInt8 := [26, 133, 9, 20, 0, 96, 184, 0, 98, 153, 0, 19, 27, 133, 9, 20, 0, 102, 184, 0, 98, 153, 0, 7]
abbrev dktX1_isPlace_0 : List UInt8 := dkwX1_isPlace_0 ++ dktX1_isPlace_1
theorem dksX1_isPlace_0 : cX1_isPlace.data.toList.drop 0 = dktX1_isPlace_0 := by decide +kernel
theorem dksX1_isPlace_1 : cX1_isPlace.data.toList.drop 24 = dktX1_isPlace_1 := dk_seg dksX1_isPlace_0 24 rfl rfl
theorem dX1_isPlace_0 : decode cX1_isPlace 0 = .ok (.iload_n 0, 1) := dk_26 (dk_at dksX1_isPlace_0 0 rfl rfl)
theorem dX1_isPlace_1 : decode cX1_isPlace 1 = .ok (.i2l, 1) := dk_133 (dk_at dksX1_isPlace_0 1 rfl rfl)
theorem dX1_isPlace_2 : decode cX1_isPlace 2 = .ok (.lconst 0, 1) := dk_9 (dk_at dksX1_isPlace_0 2 rfl rfl)
theorem dX1_isPlace_3 : decode cX1_isPlace 3 = .ok (.ldc2_w 96, 3) := dk_20 0 96 (dk_at dksX1_isPlace_0 3 rfl rfl)
theorem dX1_isPlace_6 : decode cX1_isPlace 6 = .ok (.invokestatic 98, 3) := dk_184 0 98 (dk_at dksX1_isPlace_0 6 rfl rfl)
theorem dX1_isPlace_9 : decode cX1_isPlace 9 = .ok (.ifCond .eq 19, 3) := dk_153 0 19 (dk_at dksX1_isPlace_0 9 rfl rfl)
theorem dX1_isPlace_12 : decode cX1_isPlace 12 = .ok (.iload_n 1, 1) := dk_27 (dk_at dksX1_isPlace_0 12 rfl rfl)
theorem dX1_isPlace_13 : decode cX1_isPlace 13 = .ok (.i2l, 1) := dk_133 (dk_at dksX1_isPlace_0 13 rfl rfl)
theorem dX1_isPlace_14 : decode cX1_isPlace 14 = .ok (.lconst 0, 1) := dk_9 (dk_at dksX1_isPlace_0 14 rfl rfl)
theorem dX1_isPlace_15 : decode cX1_isPlace 15 = .ok (.ldc2_w 102, 3) := dk_20 0 102 (dk_at dksX1_isPlace_0 15 rfl rfl)
theorem dX1_isPlace_18 : decode cX1_isPlace 18 = .ok (.invokestatic 98, 3) := dk_184 0 98 (dk_at dksX1_isPlace_0 18 rfl rfl)
theorem dX1_isPlace_21 : decode cX1_isPlace 21 = .ok (.ifCond .eq 7, 3) := dk_153 0 7 (dk_at dksX1_isPlace_0 21 rfl rfl)
theorem dX1_isPlace_24 : decode cX1_isPlace 24 = .ok (.iconst 1, 1) := dk_4 (dk_at dksX1_isPlace_1 0 rfl rfl)
theorem dX1_isPlace_25 : decode cX1_isPlace 25 = .ok (.goto 4, 3) := dk_167 0 4 (dk_at dksX1_isPlace_1 1 rfl rfl)
theorem dX1_isPlace_28 : decode cX1_isPlace 28 = .ok (.iconst 0, 1) := dk_3 (dk_at dksX1_isPlace_1 4 rfl rfl)
theorem dX1_isPlace_29 : decode cX1_isPlace 29 = .ok (.ireturn, 1) := dk_172 (dk_at dksX1_isPlace_1 5 rfl rfl)
abbrev cX1_inRange : ByteArray := prog_1_method_1_code
def yX1_inRange : MethodName := ⟨RX1, "inRange", "(JJJ)Z"⟩
def dkwX1_inRange_0 : List UInt8 := [32, 30, 148, 157, 0, 14, 30, 22, 4, 148, 157, 0, 7, 4, 167, 0, 4, 3, 172]
abbrev dktX1_inRange_0 : List UInt8 := dkwX1_inRange_0 ++ []
theorem dksX1_inRange_0 : cX1_inRange.data.toList.drop 0 = dktX1_inRange_0 := by decide +kernel
theorem dX1_inRange_0 : decode cX1_inRange 0 = .ok (.lload_n 2, 1) := dk_32 (dk_at dksX1_inRange_0 0 rfl rfl)
theorem dX1_inRange_1 : decode cX1_inRange 1 = .ok (.lload_n 0, 1) := dk_30 (dk_at dksX1_inRange_0 1 rfl rfl)
theorem dX1_inRange_2 : decode cX1_inRange 2 = .ok (.lcmp, 1) := dk_148 (dk_at dksX1_inRange_0 2 rfl rfl)
theorem dX1_inRange_3 : decode cX1_inRange 3 = .ok (.ifCond .gt 14, 3) := dk_157 0 14 (dk_at dksX1_inRange_0 3 rfl rfl)
theorem dX1_inRange_6 : decode cX1_inRange 6 = .ok (.lload_n 0, 1) := dk_30 (dk_at dksX1_inRange_0 6 rfl rfl)
theorem dX1_inRange_7 : decode cX1_inRange 7 = .ok (.lload 4, 2) := dk_22 4 (dk_at dksX1_inRange_0 7 rfl rfl)
theorem dX1_inRange_9 : decode cX1_inRange 9 = .ok (.lcmp, 1) := dk_148 (dk_at dksX1_inRange_0 9 rfl rfl)
theorem dX1_inRange_10 : decode cX1_inRange 10 = .ok (.ifCond .gt 7, 3) := dk_157 0 7 (dk_at dksX1_inRange_0 10 rfl rfl)
theorem dX1_inRange_13 : decode cX1_inRange 13 = .ok (.iconst 1, 1) := dk_4 (dk_at dksX1_inRange_0 13 rfl rfl)
theorem dX1_inRange_14 : decode cX1_inRange 14 = .ok (.goto 4, 3) := dk_167 0 4 (dk_at dksX1_inRange_0 14 rfl rfl)
theorem dX1_inRange_17 : decode cX1_inRange 17 = .ok (.iconst 0, 1) := dk_3 (dk_at dksX1_inRange_0 17 rfl rfl)
theorem dX1_inRange_18 : decode cX1_inRange 18 = .ok (.ireturn, 1) := dk_172 (dk_at dksX1_inRange_0 18 rfl rfl)
abbrev cX1_checkArgument : ByteArray := prog_1_method_3_code
def yX1_checkArgument : MethodName := ⟨RX1, "checkArgument", "(Z)V"⟩
def dkwX1_checkArgument_0 : List UInt8 := [26, 154, 0, 11, 187, 0, 7, 89, 183, 0, 9, 191, 177]
abbrev dktX1_checkArgument_0 : List UInt8 := dkwX1_checkArgument_0 ++ []
theorem dksX1_checkArgument_0 : cX1_checkArgument.data.toList.drop 0 = dktX1_checkArgument_0 := by decide +kernel
theorem dX1_checkArgument_0 : decode cX1_checkArgument 0 = .ok (.iload_n 0, 1) := dk_26 (dk_at dksX1_checkArgument_0 0 rfl rfl)
theorem dX1_checkArgument_1 : decode cX1_checkArgument 1 = .ok (.ifCond .ne 11, 3) := dk_154 0 11 (dk_at dksX1_checkArgument_0 1 rfl rfl)
theorem dX1_checkArgument_4 : decode cX1_checkArgument 4 = .ok (.new 7, 3) := dk_187 0 7 (dk_at dksX1_checkArgument_0 4 rfl rfl)
theorem dX1_checkArgument_7 : decode cX1_checkArgument 7 = .ok (.dup, 1) := dk_89 (dk_at dksX1_checkArgument_0 7 rfl rfl)
theorem dX1_checkArgument_8 : decode cX1_checkArgument 8 = .ok (.invokespecial 9, 3) := dk_183 0 9 (dk_at dksX1_checkArgument_0 8 rfl rfl)
theorem dX1_checkArgument_11 : decode cX1_checkArgument 11 = .ok (.athrow, 1) := dk_191 (dk_at dksX1_checkArgument_0 11 rfl rfl)
theorem dX1_checkArgument_12 : decode cX1_checkArgument 12 = .ok (.return_, 1) := dk_177 (dk_at dksX1_checkArgument_0 12 rfl rfl)
abbrev cX1_isFull : ByteArray := prog_1_method_16_code
def yX1_isFull : MethodName := ⟨RX1, "isFull", "()Z"⟩
def dkwX1_isFull_0 : List UInt8 := [42, 180, 0, 126, 17, 1, 44, 164, 0, 7, 4, 167, 0, 4, 3, 172]
abbrev dktX1_isFull_0 : List UInt8 := dkwX1_isFull_0 ++ []
theorem dksX1_isFull_0 : cX1_isFull.data.toList.drop 0 = dktX1_isFull_0 := by decide +kernel
theorem dX1_isFull_0 : decode cX1_isFull 0 = .ok (.aload_n 0, 1) := dk_42 (dk_at dksX1_isFull_0 0 rfl rfl)
theorem dX1_isFull_1 : decode cX1_isFull 1 = .ok (.getfield 126, 3) := dk_180 0 126 (dk_at dksX1_isFull_0 1 rfl rfl)
theorem dX1_isFull_4 : decode cX1_isFull 4 = .ok (.sipush 300, 3) := dk_17 1 44 (dk_at dksX1_isFull_0 4 rfl rfl)
theorem dX1_isFull_7 : decode cX1_isFull 7 = .ok (.if_icmp .le 7, 3) := dk_164 0 7 (dk_at dksX1_isFull_0 7 rfl rfl)
theorem dX1_isFull_10 : decode cX1_isFull 10 = .ok (.iconst 1, 1) := dk_4 (dk_at dksX1_isFull_0 10 rfl rfl)
theorem dX1_isFull_11 : decode cX1_isFull 11 = .ok (.goto 4, 3) := dk_167 0 4 (dk_at dksX1_isFull_0 11 rfl rfl)
theorem dX1_isFull_14 : decode cX1_isFull 14 = .ok (.iconst 0, 1) := dk_3 (dk_at dksX1_isFull_0 14 rfl rfl)
theorem dX1_isFull_15 : decode cX1_isFull 15 = .ok (.ireturn, 1) := dk_172 (dk_at dksX1_isFull_0 15 rfl rfl)
abbrev cX1_checkState : ByteArray := prog_1_method_4_code
def yX1_checkState : MethodName := ⟨RX1, "checkState", "(Z)V"⟩
def dkwX1_checkState_0 : List UInt8 := [26, 154, 0, 11, 187, 0, 10, 89, 183, 0, 12, 191, 177]
abbrev dktX1_checkState_0 : List UInt8 := dkwX1_checkState_0 ++ []
theorem dksX1_checkState_0 : cX1_checkState.data.toList.drop 0 = dktX1_checkState_0 := by decide +kernel
theorem dX1_checkState_0 : decode cX1_checkState 0 = .ok (.iload_n 0, 1) := dk_26 (dk_at dksX1_checkState_0 0 rfl rfl)
theorem dX1_checkState_1 : decode cX1_checkState 1 = .ok (.ifCond .ne 11, 3) := dk_154 0 11 (dk_at dksX1_checkState_0 1 rfl rfl)
theorem dX1_checkState_4 : decode cX1_checkState 4 = .ok (.new 10, 3) := dk_187 0 10 (dk_at dksX1_checkState_0 4 rfl rfl)
theorem dX1_checkState_7 : decode cX1_checkState 7 = .ok (.dup, 1) := dk_89 (dk_at dksX1_checkState_0 7 rfl rfl)
theorem dX1_checkState_8 : decode cX1_checkState 8 = .ok (.invokespecial 12, 3) := dk_183 0 12 (dk_at dksX1_checkState_0 8 rfl rfl)
theorem dX1_checkState_11 : decode cX1_checkState 11 = .ok (.athrow, 1) := dk_191 (dk_at dksX1_checkState_0 11 rfl rfl)
theorem dX1_checkState_12 : decode cX1_checkState 12 = .ok (.return_, 1) := dk_177 (dk_at dksX1_checkState_0 12 rfl rfl)
abbrev cX1_add : ByteArray := prog_1_method_12_code
def yX1_add : MethodName := ⟨RX1, "add", "(LGrantworks$Entry;)V"⟩
def dkwX1_add_0 : List UInt8 := [42, 180, 0, 36, 42, 180, 0, 126, 43, 83, 42, 89, 180, 0, 126, 4, 96, 181, 0, 126, 177]
abbrev dktX1_add_0 : List UInt8 := dkwX1_add_0 ++ []
theorem dksX1_add_0 : cX1_add.data.toList.drop 0 = dktX1_add_0 := by decide +kernel
theorem dX1_add_0 : decode cX1_add 0 = .ok (.aload_n 0, 1) := dk_42 (dk_at dksX1_add_0 0 rfl rfl)
theorem dX1_add_1 : decode cX1_add 1 = .ok (.getfield 36, 3) := dk_180 0 36 (dk_at dksX1_add_0 1 rfl rfl)
theorem dX1_add_4 : decode cX1_add 4 = .ok (.aload_n 0, 1) := dk_42 (dk_at dksX1_add_0 4 rfl rfl)
theorem dX1_add_5 : decode cX1_add 5 = .ok (.getfield 126, 3) := dk_180 0 126 (dk_at dksX1_add_0 5 rfl rfl)
theorem dX1_add_8 : decode cX1_add 8 = .ok (.aload_n 1, 1) := dk_43 (dk_at dksX1_add_0 8 rfl rfl)
theorem dX1_add_9 : decode cX1_add 9 = .ok (.aastore, 1) := dk_83 (dk_at dksX1_add_0 9 rfl rfl)
theorem dX1_add_10 : decode cX1_add 10 = .ok (.aload_n 0, 1) := dk_42 (dk_at dksX1_add_0 10 rfl rfl)
theorem dX1_add_11 : decode cX1_add 11 = .ok (.dup, 1) := dk_89 (dk_at dksX1_add_0 11 rfl rfl)
theorem dX1_add_12 : decode cX1_add 12 = .ok (.getfield 126, 3) := dk_180 0 126 (dk_at dksX1_add_0 12 rfl rfl)
theorem dX1_add_15 : decode cX1_add 15 = .ok (.iconst 1, 1) := dk_4 (dk_at dksX1_add_0 15 rfl rfl)
theorem dX1_add_16 : decode cX1_add 16 = .ok (.iadd, 1) := dk_96 (dk_at dksX1_add_0 16 rfl rfl)
theorem dX1_add_17 : decode cX1_add 17 = .ok (.putfield 126, 3) := dk_181 0 126 (dk_at dksX1_add_0 17 rfl rfl)
theorem dX1_add_20 : decode cX1_add 20 = .ok (.return_, 1) := dk_177 (dk_at dksX1_add_0 20 rfl rfl)
abbrev cX1_comeInAll : ByteArray := prog_1_method_41_code
def yX1_comeInAll : MethodName := ⟨RX1, "comeInAll", "(I)V"⟩
def dkwX1_comeInAll_1 : List UInt8 := [46, 27, 159, 0, 6, 167, 0, 9, 42, 28, 182, 1, 67, 62, 132, 2, 1, 167, 255, 217, 177]
abbrev dktX1_comeInAll_1 : List UInt8 := dkwX1_comeInAll_1 ++ []
def dkwX1_comeInAll_0 : List UInt8 := [3, 61, 28, 42, 180, 0, 196, 162, 0, 37, 42, 180, 0, 59, 28, 51, 153, 0, 22, 42, 180, 0, 40, 28]
abbrev dktX1_comeInAll_0 : List UInt8 := dkwX1_comeInAll_0 ++ dktX1_comeInAll_1
theorem dksX1_comeInAll_0 : cX1_comeInAll.data.toList.drop 0 = dktX1_comeInAll_0 := by decide +kernel
theorem dksX1_comeInAll_1 : cX1_comeInAll.data.toList.drop 24 = dktX1_comeInAll_1 := dk_seg dksX1_comeInAll_0 24 rfl rfl
theorem dX1_comeInAll_0 : decode cX1_comeInAll 0 = .ok (.iconst 0, 1) := dk_3 (dk_at dksX1_comeInAll_0 0 rfl rfl)
theorem dX1_comeInAll_1 : decode cX1_comeInAll 1 = .ok (.istore_n 2, 1) := dk_61 (dk_at dksX1_comeInAll_0 1 rfl rfl)
theorem dX1_comeInAll_2 : decode cX1_comeInAll 2 = .ok (.iload_n 2, 1) := dk_28 (dk_at dksX1_comeInAll_0 2 rfl rfl)
theorem dX1_comeInAll_3 : decode cX1_comeInAll 3 = .ok (.aload_n 0, 1) := dk_42 (dk_at dksX1_comeInAll_0 3 rfl rfl)
theorem dX1_comeInAll_4 : decode cX1_comeInAll 4 = .ok (.getfield 196, 3) := dk_180 0 196 (dk_at dksX1_comeInAll_0 4 rfl rfl)
theorem dX1_comeInAll_7 : decode cX1_comeInAll 7 = .ok (.if_icmp .ge 37, 3) := dk_162 0 37 (dk_at dksX1_comeInAll_0 7 rfl rfl)
theorem dX1_comeInAll_10 : decode cX1_comeInAll 10 = .ok (.aload_n 0, 1) := dk_42 (dk_at dksX1_comeInAll_0 10 rfl rfl)
theorem dX1_comeInAll_11 : decode cX1_comeInAll 11 = .ok (.getfield 59, 3) := dk_180 0 59 (dk_at dksX1_comeInAll_0 11 rfl rfl)
theorem dX1_comeInAll_14 : decode cX1_comeInAll 14 = .ok (.iload_n 2, 1) := dk_28 (dk_at dksX1_comeInAll_0 14 rfl rfl)
theorem dX1_comeInAll_15 : decode cX1_comeInAll 15 = .ok (.baload, 1) := dk_51 (dk_at dksX1_comeInAll_0 15 rfl rfl)
theorem dX1_comeInAll_16 : decode cX1_comeInAll 16 = .ok (.ifCond .eq 22, 3) := dk_153 0 22 (dk_at dksX1_comeInAll_0 16 rfl rfl)
theorem dX1_comeInAll_19 : decode cX1_comeInAll 19 = .ok (.aload_n 0, 1) := dk_42 (dk_at dksX1_comeInAll_0 19 rfl rfl)
theorem dX1_comeInAll_20 : decode cX1_comeInAll 20 = .ok (.getfield 40, 3) := dk_180 0 40 (dk_at dksX1_comeInAll_0 20 rfl rfl)
theorem dX1_comeInAll_23 : decode cX1_comeInAll 23 = .ok (.iload_n 2, 1) := dk_28 (dk_at dksX1_comeInAll_0 23 rfl rfl)
theorem dX1_comeInAll_24 : decode cX1_comeInAll 24 = .ok (.iaload, 1) := dk_46 (dk_at dksX1_comeInAll_1 0 rfl rfl)
theorem dX1_comeInAll_25 : decode cX1_comeInAll 25 = .ok (.iload_n 1, 1) := dk_27 (dk_at dksX1_comeInAll_1 1 rfl rfl)
theorem dX1_comeInAll_26 : decode cX1_comeInAll 26 = .ok (.if_icmp .eq 6, 3) := dk_159 0 6 (dk_at dksX1_comeInAll_1 2 rfl rfl)
theorem dX1_comeInAll_29 : decode cX1_comeInAll 29 = .ok (.goto 9, 3) := dk_167 0 9 (dk_at dksX1_comeInAll_1 5 rfl rfl)
theorem dX1_comeInAll_32 : decode cX1_comeInAll 32 = .ok (.aload_n 0, 1) := dk_42 (dk_at dksX1_comeInAll_1 8 rfl rfl)
theorem dX1_comeInAll_33 : decode cX1_comeInAll 33 = .ok (.iload_n 2, 1) := dk_28 (dk_at dksX1_comeInAll_1 9 rfl rfl)
theorem dX1_comeInAll_34 : decode cX1_comeInAll 34 = .ok (.invokevirtual 323, 3) := dk_182 1 67 (dk_at dksX1_comeInAll_1 10 rfl rfl)
theorem dX1_comeInAll_37 : decode cX1_comeInAll 37 = .ok (.istore_n 3, 1) := dk_62 (dk_at dksX1_comeInAll_1 13 rfl rfl)
theorem dX1_comeInAll_38 : decode cX1_comeInAll 38 = .ok (.iinc 2 1, 3) := dk_132 2 1 (dk_at dksX1_comeInAll_1 14 rfl rfl)
theorem dX1_comeInAll_41 : decode cX1_comeInAll 41 = .ok (.goto (-39), 3) := dk_167 255 217 (dk_at dksX1_comeInAll_1 17 rfl rfl)
theorem dX1_comeInAll_44 : decode cX1_comeInAll 44 = .ok (.return_, 1) := dk_177 (dk_at dksX1_comeInAll_1 20 rfl rfl)
abbrev cX1_comeIn : ByteArray := prog_1_method_40_code
def yX1_comeIn : MethodName := ⟨RX1, "comeIn", "(I)I"⟩
def dkwX1_comeIn_3 : List UInt8 := [132, 2, 1, 42, 27, 182, 1, 45, 78, 167, 255, 186, 28, 172]
abbrev dktX1_comeIn_3 : List UInt8 := dkwX1_comeIn_3 ++ []
def dkwX1_comeIn_2 : List UInt8 := [182, 1, 60, 45, 180, 1, 36, 21, 4, 46, 45, 180, 1, 42, 182, 1, 64, 132, 4, 1, 167, 255, 225]
abbrev dktX1_comeIn_2 : List UInt8 := dkwX1_comeIn_2 ++ dktX1_comeIn_3
def dkwX1_comeIn_1 : List UInt8 := [182, 1, 53, 45, 178, 1, 57, 181, 0, 242, 3, 54, 4, 21, 4, 6, 162, 0, 31, 42, 42, 45, 21, 4]
abbrev dktX1_comeIn_1 : List UInt8 := dkwX1_comeIn_1 ++ dktX1_comeIn_2
def dkwX1_comeIn_0 : List UInt8 := [3, 61, 42, 27, 182, 1, 45, 78, 45, 198, 0, 72, 42, 45, 182, 1, 49, 153, 0, 64, 42, 45]
abbrev dktX1_comeIn_0 : List UInt8 := dkwX1_comeIn_0 ++ dktX1_comeIn_1
theorem dksX1_comeIn_0 : cX1_comeIn.data.toList.drop 0 = dktX1_comeIn_0 := by decide +kernel
theorem dksX1_comeIn_1 : cX1_comeIn.data.toList.drop 22 = dktX1_comeIn_1 := dk_seg dksX1_comeIn_0 22 rfl rfl
theorem dksX1_comeIn_2 : cX1_comeIn.data.toList.drop 46 = dktX1_comeIn_2 := dk_seg dksX1_comeIn_1 24 rfl rfl
theorem dksX1_comeIn_3 : cX1_comeIn.data.toList.drop 69 = dktX1_comeIn_3 := dk_seg dksX1_comeIn_2 23 rfl rfl
theorem dX1_comeIn_0 : decode cX1_comeIn 0 = .ok (.iconst 0, 1) := dk_3 (dk_at dksX1_comeIn_0 0 rfl rfl)
theorem dX1_comeIn_1 : decode cX1_comeIn 1 = .ok (.istore_n 2, 1) := dk_61 (dk_at dksX1_comeIn_0 1 rfl rfl)
theorem dX1_comeIn_2 : decode cX1_comeIn 2 = .ok (.aload_n 0, 1) := dk_42 (dk_at dksX1_comeIn_0 2 rfl rfl)
theorem dX1_comeIn_3 : decode cX1_comeIn 3 = .ok (.iload_n 1, 1) := dk_27 (dk_at dksX1_comeIn_0 3 rfl rfl)
theorem dX1_comeIn_4 : decode cX1_comeIn 4 = .ok (.invokevirtual 301, 3) := dk_182 1 45 (dk_at dksX1_comeIn_0 4 rfl rfl)
theorem dX1_comeIn_7 : decode cX1_comeIn 7 = .ok (.astore_n 3, 1) := dk_78 (dk_at dksX1_comeIn_0 7 rfl rfl)
theorem dX1_comeIn_8 : decode cX1_comeIn 8 = .ok (.aload_n 3, 1) := dk_45 (dk_at dksX1_comeIn_0 8 rfl rfl)
theorem dX1_comeIn_9 : decode cX1_comeIn 9 = .ok (.ifnull 72, 3) := dk_198 0 72 (dk_at dksX1_comeIn_0 9 rfl rfl)
theorem dX1_comeIn_12 : decode cX1_comeIn 12 = .ok (.aload_n 0, 1) := dk_42 (dk_at dksX1_comeIn_0 12 rfl rfl)
theorem dX1_comeIn_13 : decode cX1_comeIn 13 = .ok (.aload_n 3, 1) := dk_45 (dk_at dksX1_comeIn_0 13 rfl rfl)
theorem dX1_comeIn_14 : decode cX1_comeIn 14 = .ok (.invokevirtual 305, 3) := dk_182 1 49 (dk_at dksX1_comeIn_0 14 rfl rfl)
theorem dX1_comeIn_17 : decode cX1_comeIn 17 = .ok (.ifCond .eq 64, 3) := dk_153 0 64 (dk_at dksX1_comeIn_0 17 rfl rfl)
theorem dX1_comeIn_20 : decode cX1_comeIn 20 = .ok (.aload_n 0, 1) := dk_42 (dk_at dksX1_comeIn_0 20 rfl rfl)
theorem dX1_comeIn_21 : decode cX1_comeIn 21 = .ok (.aload_n 3, 1) := dk_45 (dk_at dksX1_comeIn_0 21 rfl rfl)
theorem dX1_comeIn_22 : decode cX1_comeIn 22 = .ok (.invokevirtual 309, 3) := dk_182 1 53 (dk_at dksX1_comeIn_1 0 rfl rfl)
theorem dX1_comeIn_25 : decode cX1_comeIn 25 = .ok (.aload_n 3, 1) := dk_45 (dk_at dksX1_comeIn_1 3 rfl rfl)
theorem dX1_comeIn_26 : decode cX1_comeIn 26 = .ok (.getstatic 313, 3) := dk_178 1 57 (dk_at dksX1_comeIn_1 4 rfl rfl)
theorem dX1_comeIn_29 : decode cX1_comeIn 29 = .ok (.putfield 242, 3) := dk_181 0 242 (dk_at dksX1_comeIn_1 7 rfl rfl)
theorem dX1_comeIn_32 : decode cX1_comeIn 32 = .ok (.iconst 0, 1) := dk_3 (dk_at dksX1_comeIn_1 10 rfl rfl)
theorem dX1_comeIn_33 : decode cX1_comeIn 33 = .ok (.istore 4, 2) := dk_54 4 (dk_at dksX1_comeIn_1 11 rfl rfl)
theorem dX1_comeIn_35 : decode cX1_comeIn 35 = .ok (.iload 4, 2) := dk_21 4 (dk_at dksX1_comeIn_1 13 rfl rfl)
theorem dX1_comeIn_37 : decode cX1_comeIn 37 = .ok (.iconst 3, 1) := dk_6 (dk_at dksX1_comeIn_1 15 rfl rfl)
theorem dX1_comeIn_38 : decode cX1_comeIn 38 = .ok (.if_icmp .ge 31, 3) := dk_162 0 31 (dk_at dksX1_comeIn_1 16 rfl rfl)
theorem dX1_comeIn_41 : decode cX1_comeIn 41 = .ok (.aload_n 0, 1) := dk_42 (dk_at dksX1_comeIn_1 19 rfl rfl)
theorem dX1_comeIn_42 : decode cX1_comeIn 42 = .ok (.aload_n 0, 1) := dk_42 (dk_at dksX1_comeIn_1 20 rfl rfl)
theorem dX1_comeIn_43 : decode cX1_comeIn 43 = .ok (.aload_n 3, 1) := dk_45 (dk_at dksX1_comeIn_1 21 rfl rfl)
theorem dX1_comeIn_44 : decode cX1_comeIn 44 = .ok (.iload 4, 2) := dk_21 4 (dk_at dksX1_comeIn_1 22 rfl rfl)
theorem dX1_comeIn_46 : decode cX1_comeIn 46 = .ok (.invokevirtual 316, 3) := dk_182 1 60 (dk_at dksX1_comeIn_2 0 rfl rfl)
theorem dX1_comeIn_49 : decode cX1_comeIn 49 = .ok (.aload_n 3, 1) := dk_45 (dk_at dksX1_comeIn_2 3 rfl rfl)
theorem dX1_comeIn_50 : decode cX1_comeIn 50 = .ok (.getfield 292, 3) := dk_180 1 36 (dk_at dksX1_comeIn_2 4 rfl rfl)
theorem dX1_comeIn_53 : decode cX1_comeIn 53 = .ok (.iload 4, 2) := dk_21 4 (dk_at dksX1_comeIn_2 7 rfl rfl)
theorem dX1_comeIn_55 : decode cX1_comeIn 55 = .ok (.iaload, 1) := dk_46 (dk_at dksX1_comeIn_2 9 rfl rfl)
theorem dX1_comeIn_56 : decode cX1_comeIn 56 = .ok (.aload_n 3, 1) := dk_45 (dk_at dksX1_comeIn_2 10 rfl rfl)
theorem dX1_comeIn_57 : decode cX1_comeIn 57 = .ok (.getfield 298, 3) := dk_180 1 42 (dk_at dksX1_comeIn_2 11 rfl rfl)
theorem dX1_comeIn_60 : decode cX1_comeIn 60 = .ok (.invokevirtual 320, 3) := dk_182 1 64 (dk_at dksX1_comeIn_2 14 rfl rfl)
theorem dX1_comeIn_63 : decode cX1_comeIn 63 = .ok (.iinc 4 1, 3) := dk_132 4 1 (dk_at dksX1_comeIn_2 17 rfl rfl)
theorem dX1_comeIn_66 : decode cX1_comeIn 66 = .ok (.goto (-31), 3) := dk_167 255 225 (dk_at dksX1_comeIn_2 20 rfl rfl)
theorem dX1_comeIn_69 : decode cX1_comeIn 69 = .ok (.iinc 2 1, 3) := dk_132 2 1 (dk_at dksX1_comeIn_3 0 rfl rfl)
theorem dX1_comeIn_72 : decode cX1_comeIn 72 = .ok (.aload_n 0, 1) := dk_42 (dk_at dksX1_comeIn_3 3 rfl rfl)
theorem dX1_comeIn_73 : decode cX1_comeIn 73 = .ok (.iload_n 1, 1) := dk_27 (dk_at dksX1_comeIn_3 4 rfl rfl)
theorem dX1_comeIn_74 : decode cX1_comeIn 74 = .ok (.invokevirtual 301, 3) := dk_182 1 45 (dk_at dksX1_comeIn_3 5 rfl rfl)
theorem dX1_comeIn_77 : decode cX1_comeIn 77 = .ok (.astore_n 3, 1) := dk_78 (dk_at dksX1_comeIn_3 8 rfl rfl)
theorem dX1_comeIn_78 : decode cX1_comeIn 78 = .ok (.goto (-70), 3) := dk_167 255 186 (dk_at dksX1_comeIn_3 9 rfl rfl)
theorem dX1_comeIn_81 : decode cX1_comeIn 81 = .ok (.iload_n 2, 1) := dk_28 (dk_at dksX1_comeIn_3 12 rfl rfl)
theorem dX1_comeIn_82 : decode cX1_comeIn 82 = .ok (.ireturn, 1) := dk_172 (dk_at dksX1_comeIn_3 13 rfl rfl)
abbrev cX1_leaveList : ByteArray := prog_1_method_39_code
def yX1_leaveList : MethodName := ⟨RX1, "leaveList", "(LGrantworks$Application;)V"⟩
def dkwX1_leaveList_3 : List UInt8 := [42, 180, 0, 56, 28, 21, 4, 96, 4, 96, 46, 79, 132, 4, 1, 167, 255, 219, 177]
abbrev dktX1_leaveList_3 : List UInt8 := dkwX1_leaveList_3 ++ []
def dkwX1_leaveList_2 : List UInt8 := [54, 4, 21, 4, 42, 180, 0, 53, 43, 180, 0, 239, 46, 162, 0, 29, 42, 180, 0, 56, 28, 21, 4, 96]
abbrev dktX1_leaveList_2 : List UInt8 := dkwX1_leaveList_2 ++ dktX1_leaveList_3
def dkwX1_leaveList_1 : List UInt8 := [159, 0, 9, 132, 3, 1, 167, 255, 238, 42, 180, 0, 53, 43, 180, 0, 239, 92, 46, 4, 100, 79, 29]
abbrev dktX1_leaveList_1 : List UInt8 := dkwX1_leaveList_1 ++ dktX1_leaveList_2
def dkwX1_leaveList_0 : List UInt8 := [16, 24, 43, 180, 0, 239, 104, 61, 3, 62, 42, 180, 0, 56, 28, 29, 96, 46, 43, 180, 1, 42]
abbrev dktX1_leaveList_0 : List UInt8 := dkwX1_leaveList_0 ++ dktX1_leaveList_1
theorem dksX1_leaveList_0 : cX1_leaveList.data.toList.drop 0 = dktX1_leaveList_0 := by decide +kernel
theorem dksX1_leaveList_1 : cX1_leaveList.data.toList.drop 22 = dktX1_leaveList_1 := dk_seg dksX1_leaveList_0 22 rfl rfl
theorem dksX1_leaveList_2 : cX1_leaveList.data.toList.drop 45 = dktX1_leaveList_2 := dk_seg dksX1_leaveList_1 23 rfl rfl
theorem dksX1_leaveList_3 : cX1_leaveList.data.toList.drop 69 = dktX1_leaveList_3 := dk_seg dksX1_leaveList_2 24 rfl rfl
theorem dX1_leaveList_0 : decode cX1_leaveList 0 = .ok (.bipush 24, 2) := dk_16 24 (dk_at dksX1_leaveList_0 0 rfl rfl)
theorem dX1_leaveList_2 : decode cX1_leaveList 2 = .ok (.aload_n 1, 1) := dk_43 (dk_at dksX1_leaveList_0 2 rfl rfl)
theorem dX1_leaveList_3 : decode cX1_leaveList 3 = .ok (.getfield 239, 3) := dk_180 0 239 (dk_at dksX1_leaveList_0 3 rfl rfl)
theorem dX1_leaveList_6 : decode cX1_leaveList 6 = .ok (.imul, 1) := dk_104 (dk_at dksX1_leaveList_0 6 rfl rfl)
theorem dX1_leaveList_7 : decode cX1_leaveList 7 = .ok (.istore_n 2, 1) := dk_61 (dk_at dksX1_leaveList_0 7 rfl rfl)
theorem dX1_leaveList_8 : decode cX1_leaveList 8 = .ok (.iconst 0, 1) := dk_3 (dk_at dksX1_leaveList_0 8 rfl rfl)
theorem dX1_leaveList_9 : decode cX1_leaveList 9 = .ok (.istore_n 3, 1) := dk_62 (dk_at dksX1_leaveList_0 9 rfl rfl)
theorem dX1_leaveList_10 : decode cX1_leaveList 10 = .ok (.aload_n 0, 1) := dk_42 (dk_at dksX1_leaveList_0 10 rfl rfl)
theorem dX1_leaveList_11 : decode cX1_leaveList 11 = .ok (.getfield 56, 3) := dk_180 0 56 (dk_at dksX1_leaveList_0 11 rfl rfl)
theorem dX1_leaveList_14 : decode cX1_leaveList 14 = .ok (.iload_n 2, 1) := dk_28 (dk_at dksX1_leaveList_0 14 rfl rfl)
theorem dX1_leaveList_15 : decode cX1_leaveList 15 = .ok (.iload_n 3, 1) := dk_29 (dk_at dksX1_leaveList_0 15 rfl rfl)
theorem dX1_leaveList_16 : decode cX1_leaveList 16 = .ok (.iadd, 1) := dk_96 (dk_at dksX1_leaveList_0 16 rfl rfl)
theorem dX1_leaveList_17 : decode cX1_leaveList 17 = .ok (.iaload, 1) := dk_46 (dk_at dksX1_leaveList_0 17 rfl rfl)
theorem dX1_leaveList_18 : decode cX1_leaveList 18 = .ok (.aload_n 1, 1) := dk_43 (dk_at dksX1_leaveList_0 18 rfl rfl)
theorem dX1_leaveList_19 : decode cX1_leaveList 19 = .ok (.getfield 298, 3) := dk_180 1 42 (dk_at dksX1_leaveList_0 19 rfl rfl)
theorem dX1_leaveList_22 : decode cX1_leaveList 22 = .ok (.if_icmp .eq 9, 3) := dk_159 0 9 (dk_at dksX1_leaveList_1 0 rfl rfl)
theorem dX1_leaveList_25 : decode cX1_leaveList 25 = .ok (.iinc 3 1, 3) := dk_132 3 1 (dk_at dksX1_leaveList_1 3 rfl rfl)
theorem dX1_leaveList_28 : decode cX1_leaveList 28 = .ok (.goto (-18), 3) := dk_167 255 238 (dk_at dksX1_leaveList_1 6 rfl rfl)
theorem dX1_leaveList_31 : decode cX1_leaveList 31 = .ok (.aload_n 0, 1) := dk_42 (dk_at dksX1_leaveList_1 9 rfl rfl)
theorem dX1_leaveList_32 : decode cX1_leaveList 32 = .ok (.getfield 53, 3) := dk_180 0 53 (dk_at dksX1_leaveList_1 10 rfl rfl)
theorem dX1_leaveList_35 : decode cX1_leaveList 35 = .ok (.aload_n 1, 1) := dk_43 (dk_at dksX1_leaveList_1 13 rfl rfl)
theorem dX1_leaveList_36 : decode cX1_leaveList 36 = .ok (.getfield 239, 3) := dk_180 0 239 (dk_at dksX1_leaveList_1 14 rfl rfl)
theorem dX1_leaveList_39 : decode cX1_leaveList 39 = .ok (.dup2, 1) := dk_92 (dk_at dksX1_leaveList_1 17 rfl rfl)
theorem dX1_leaveList_40 : decode cX1_leaveList 40 = .ok (.iaload, 1) := dk_46 (dk_at dksX1_leaveList_1 18 rfl rfl)
theorem dX1_leaveList_41 : decode cX1_leaveList 41 = .ok (.iconst 1, 1) := dk_4 (dk_at dksX1_leaveList_1 19 rfl rfl)
theorem dX1_leaveList_42 : decode cX1_leaveList 42 = .ok (.isub, 1) := dk_100 (dk_at dksX1_leaveList_1 20 rfl rfl)
theorem dX1_leaveList_43 : decode cX1_leaveList 43 = .ok (.iastore, 1) := dk_79 (dk_at dksX1_leaveList_1 21 rfl rfl)
theorem dX1_leaveList_44 : decode cX1_leaveList 44 = .ok (.iload_n 3, 1) := dk_29 (dk_at dksX1_leaveList_1 22 rfl rfl)
theorem dX1_leaveList_45 : decode cX1_leaveList 45 = .ok (.istore 4, 2) := dk_54 4 (dk_at dksX1_leaveList_2 0 rfl rfl)
theorem dX1_leaveList_47 : decode cX1_leaveList 47 = .ok (.iload 4, 2) := dk_21 4 (dk_at dksX1_leaveList_2 2 rfl rfl)
theorem dX1_leaveList_49 : decode cX1_leaveList 49 = .ok (.aload_n 0, 1) := dk_42 (dk_at dksX1_leaveList_2 4 rfl rfl)
theorem dX1_leaveList_50 : decode cX1_leaveList 50 = .ok (.getfield 53, 3) := dk_180 0 53 (dk_at dksX1_leaveList_2 5 rfl rfl)
theorem dX1_leaveList_53 : decode cX1_leaveList 53 = .ok (.aload_n 1, 1) := dk_43 (dk_at dksX1_leaveList_2 8 rfl rfl)
theorem dX1_leaveList_54 : decode cX1_leaveList 54 = .ok (.getfield 239, 3) := dk_180 0 239 (dk_at dksX1_leaveList_2 9 rfl rfl)
theorem dX1_leaveList_57 : decode cX1_leaveList 57 = .ok (.iaload, 1) := dk_46 (dk_at dksX1_leaveList_2 12 rfl rfl)
theorem dX1_leaveList_58 : decode cX1_leaveList 58 = .ok (.if_icmp .ge 29, 3) := dk_162 0 29 (dk_at dksX1_leaveList_2 13 rfl rfl)
theorem dX1_leaveList_61 : decode cX1_leaveList 61 = .ok (.aload_n 0, 1) := dk_42 (dk_at dksX1_leaveList_2 16 rfl rfl)
theorem dX1_leaveList_62 : decode cX1_leaveList 62 = .ok (.getfield 56, 3) := dk_180 0 56 (dk_at dksX1_leaveList_2 17 rfl rfl)
theorem dX1_leaveList_65 : decode cX1_leaveList 65 = .ok (.iload_n 2, 1) := dk_28 (dk_at dksX1_leaveList_2 20 rfl rfl)
theorem dX1_leaveList_66 : decode cX1_leaveList 66 = .ok (.iload 4, 2) := dk_21 4 (dk_at dksX1_leaveList_2 21 rfl rfl)
theorem dX1_leaveList_68 : decode cX1_leaveList 68 = .ok (.iadd, 1) := dk_96 (dk_at dksX1_leaveList_2 23 rfl rfl)
theorem dX1_leaveList_69 : decode cX1_leaveList 69 = .ok (.aload_n 0, 1) := dk_42 (dk_at dksX1_leaveList_3 0 rfl rfl)
theorem dX1_leaveList_70 : decode cX1_leaveList 70 = .ok (.getfield 56, 3) := dk_180 0 56 (dk_at dksX1_leaveList_3 1 rfl rfl)
theorem dX1_leaveList_73 : decode cX1_leaveList 73 = .ok (.iload_n 2, 1) := dk_28 (dk_at dksX1_leaveList_3 4 rfl rfl)
theorem dX1_leaveList_74 : decode cX1_leaveList 74 = .ok (.iload 4, 2) := dk_21 4 (dk_at dksX1_leaveList_3 5 rfl rfl)
theorem dX1_leaveList_76 : decode cX1_leaveList 76 = .ok (.iadd, 1) := dk_96 (dk_at dksX1_leaveList_3 7 rfl rfl)
theorem dX1_leaveList_77 : decode cX1_leaveList 77 = .ok (.iconst 1, 1) := dk_4 (dk_at dksX1_leaveList_3 8 rfl rfl)
theorem dX1_leaveList_78 : decode cX1_leaveList 78 = .ok (.iadd, 1) := dk_96 (dk_at dksX1_leaveList_3 9 rfl rfl)
theorem dX1_leaveList_79 : decode cX1_leaveList 79 = .ok (.iaload, 1) := dk_46 (dk_at dksX1_leaveList_3 10 rfl rfl)
theorem dX1_leaveList_80 : decode cX1_leaveList 80 = .ok (.iastore, 1) := dk_79 (dk_at dksX1_leaveList_3 11 rfl rfl)
theorem dX1_leaveList_81 : decode cX1_leaveList 81 = .ok (.iinc 4 1, 3) := dk_132 4 1 (dk_at dksX1_leaveList_3 12 rfl rfl)
theorem dX1_leaveList_84 : decode cX1_leaveList 84 = .ok (.goto (-37), 3) := dk_167 255 219 (dk_at dksX1_leaveList_3 15 rfl rfl)
theorem dX1_leaveList_87 : decode cX1_leaveList 87 = .ok (.return_, 1) := dk_177 (dk_at dksX1_leaveList_3 18 rfl rfl)
abbrev cX1_keyFor : ByteArray := prog_1_method_36_code
def yX1_keyFor : MethodName := ⟨RX1, "keyFor", "(LGrantworks$Application;I)LGrantworks$Key;"⟩
def dkwX1_keyFor_1 : List UInt8 := [176]
abbrev dktX1_keyFor_1 : List UInt8 := dkwX1_keyFor_1 ++ []
def dkwX1_keyFor_0 : List UInt8 := [42, 42, 180, 0, 40, 43, 180, 0, 239, 46, 42, 180, 0, 50, 43, 180, 0, 239, 46, 28, 96, 182, 0, 182]
abbrev dktX1_keyFor_0 : List UInt8 := dkwX1_keyFor_0 ++ dktX1_keyFor_1
theorem dksX1_keyFor_0 : cX1_keyFor.data.toList.drop 0 = dktX1_keyFor_0 := by decide +kernel
theorem dksX1_keyFor_1 : cX1_keyFor.data.toList.drop 24 = dktX1_keyFor_1 := dk_seg dksX1_keyFor_0 24 rfl rfl
theorem dX1_keyFor_0 : decode cX1_keyFor 0 = .ok (.aload_n 0, 1) := dk_42 (dk_at dksX1_keyFor_0 0 rfl rfl)
theorem dX1_keyFor_1 : decode cX1_keyFor 1 = .ok (.aload_n 0, 1) := dk_42 (dk_at dksX1_keyFor_0 1 rfl rfl)
theorem dX1_keyFor_2 : decode cX1_keyFor 2 = .ok (.getfield 40, 3) := dk_180 0 40 (dk_at dksX1_keyFor_0 2 rfl rfl)
theorem dX1_keyFor_5 : decode cX1_keyFor 5 = .ok (.aload_n 1, 1) := dk_43 (dk_at dksX1_keyFor_0 5 rfl rfl)
theorem dX1_keyFor_6 : decode cX1_keyFor 6 = .ok (.getfield 239, 3) := dk_180 0 239 (dk_at dksX1_keyFor_0 6 rfl rfl)
theorem dX1_keyFor_9 : decode cX1_keyFor 9 = .ok (.iaload, 1) := dk_46 (dk_at dksX1_keyFor_0 9 rfl rfl)
theorem dX1_keyFor_10 : decode cX1_keyFor 10 = .ok (.aload_n 0, 1) := dk_42 (dk_at dksX1_keyFor_0 10 rfl rfl)
theorem dX1_keyFor_11 : decode cX1_keyFor 11 = .ok (.getfield 50, 3) := dk_180 0 50 (dk_at dksX1_keyFor_0 11 rfl rfl)
theorem dX1_keyFor_14 : decode cX1_keyFor 14 = .ok (.aload_n 1, 1) := dk_43 (dk_at dksX1_keyFor_0 14 rfl rfl)
theorem dX1_keyFor_15 : decode cX1_keyFor 15 = .ok (.getfield 239, 3) := dk_180 0 239 (dk_at dksX1_keyFor_0 15 rfl rfl)
theorem dX1_keyFor_18 : decode cX1_keyFor 18 = .ok (.iaload, 1) := dk_46 (dk_at dksX1_keyFor_0 18 rfl rfl)
theorem dX1_keyFor_19 : decode cX1_keyFor 19 = .ok (.iload_n 2, 1) := dk_28 (dk_at dksX1_keyFor_0 19 rfl rfl)
theorem dX1_keyFor_20 : decode cX1_keyFor 20 = .ok (.iadd, 1) := dk_96 (dk_at dksX1_keyFor_0 20 rfl rfl)
theorem dX1_keyFor_21 : decode cX1_keyFor 21 = .ok (.invokevirtual 182, 3) := dk_182 0 182 (dk_at dksX1_keyFor_0 21 rfl rfl)
theorem dX1_keyFor_24 : decode cX1_keyFor 24 = .ok (.areturn, 1) := dk_176 (dk_at dksX1_keyFor_1 0 rfl rfl)
abbrev cX1_reserve : ByteArray := prog_1_method_13_code
def yX1_reserve : MethodName := ⟨RX1, "reserve", "(LGrantworks$Key;II)V"⟩
def dkwX1_reserve_1 : List UInt8 := [187, 0, 106, 89, 43, 28, 29, 183, 0, 138, 182, 0, 141, 177]
abbrev dktX1_reserve_1 : List UInt8 := dkwX1_reserve_1 ++ []
def dkwX1_reserve_0 : List UInt8 := [28, 154, 0, 4, 177, 42, 180, 0, 22, 43, 182, 0, 129, 89, 180, 0, 133, 28, 96, 181, 0, 133, 42]
abbrev dktX1_reserve_0 : List UInt8 := dkwX1_reserve_0 ++ dktX1_reserve_1
theorem dksX1_reserve_0 : cX1_reserve.data.toList.drop 0 = dktX1_reserve_0 := by decide +kernel
theorem dksX1_reserve_1 : cX1_reserve.data.toList.drop 23 = dktX1_reserve_1 := dk_seg dksX1_reserve_0 23 rfl rfl
theorem dX1_reserve_0 : decode cX1_reserve 0 = .ok (.iload_n 2, 1) := dk_28 (dk_at dksX1_reserve_0 0 rfl rfl)
theorem dX1_reserve_1 : decode cX1_reserve 1 = .ok (.ifCond .ne 4, 3) := dk_154 0 4 (dk_at dksX1_reserve_0 1 rfl rfl)
theorem dX1_reserve_4 : decode cX1_reserve 4 = .ok (.return_, 1) := dk_177 (dk_at dksX1_reserve_0 4 rfl rfl)
theorem dX1_reserve_5 : decode cX1_reserve 5 = .ok (.aload_n 0, 1) := dk_42 (dk_at dksX1_reserve_0 5 rfl rfl)
theorem dX1_reserve_6 : decode cX1_reserve 6 = .ok (.getfield 22, 3) := dk_180 0 22 (dk_at dksX1_reserve_0 6 rfl rfl)
theorem dX1_reserve_9 : decode cX1_reserve 9 = .ok (.aload_n 1, 1) := dk_43 (dk_at dksX1_reserve_0 9 rfl rfl)
theorem dX1_reserve_10 : decode cX1_reserve 10 = .ok (.invokevirtual 129, 3) := dk_182 0 129 (dk_at dksX1_reserve_0 10 rfl rfl)
theorem dX1_reserve_13 : decode cX1_reserve 13 = .ok (.dup, 1) := dk_89 (dk_at dksX1_reserve_0 13 rfl rfl)
theorem dX1_reserve_14 : decode cX1_reserve 14 = .ok (.getfield 133, 3) := dk_180 0 133 (dk_at dksX1_reserve_0 14 rfl rfl)
theorem dX1_reserve_17 : decode cX1_reserve 17 = .ok (.iload_n 2, 1) := dk_28 (dk_at dksX1_reserve_0 17 rfl rfl)
theorem dX1_reserve_18 : decode cX1_reserve 18 = .ok (.iadd, 1) := dk_96 (dk_at dksX1_reserve_0 18 rfl rfl)
theorem dX1_reserve_19 : decode cX1_reserve 19 = .ok (.putfield 133, 3) := dk_181 0 133 (dk_at dksX1_reserve_0 19 rfl rfl)
theorem dX1_reserve_22 : decode cX1_reserve 22 = .ok (.aload_n 0, 1) := dk_42 (dk_at dksX1_reserve_0 22 rfl rfl)
theorem dX1_reserve_23 : decode cX1_reserve 23 = .ok (.new 106, 3) := dk_187 0 106 (dk_at dksX1_reserve_1 0 rfl rfl)
theorem dX1_reserve_26 : decode cX1_reserve 26 = .ok (.dup, 1) := dk_89 (dk_at dksX1_reserve_1 3 rfl rfl)
theorem dX1_reserve_27 : decode cX1_reserve 27 = .ok (.aload_n 1, 1) := dk_43 (dk_at dksX1_reserve_1 4 rfl rfl)
theorem dX1_reserve_28 : decode cX1_reserve 28 = .ok (.iload_n 2, 1) := dk_28 (dk_at dksX1_reserve_1 5 rfl rfl)
theorem dX1_reserve_29 : decode cX1_reserve 29 = .ok (.iload_n 3, 1) := dk_29 (dk_at dksX1_reserve_1 6 rfl rfl)
theorem dX1_reserve_30 : decode cX1_reserve 30 = .ok (.invokespecial 138, 3) := dk_183 0 138 (dk_at dksX1_reserve_1 7 rfl rfl)
theorem dX1_reserve_33 : decode cX1_reserve 33 = .ok (.invokevirtual 141, 3) := dk_182 0 141 (dk_at dksX1_reserve_1 10 rfl rfl)
theorem dX1_reserve_36 : decode cX1_reserve 36 = .ok (.return_, 1) := dk_177 (dk_at dksX1_reserve_1 13 rfl rfl)
abbrev cX1_call : ByteArray := prog_1_method_21_code
def yX1_call : MethodName := ⟨RX1, "call", "(IIII)I"⟩
def dkwX1_call_5 : List UInt8 := [180, 0, 196, 4, 96, 181, 0, 196, 42, 180, 0, 196, 4, 100, 172]
abbrev dktX1_call_5 : List UInt8 := dkwX1_call_5 ++ []
def dkwX1_call_4 : List UInt8 := [42, 180, 0, 47, 42, 180, 0, 196, 29, 79, 42, 180, 0, 50, 42, 180, 0, 196, 21, 4, 79, 42, 89]
abbrev dktX1_call_4 : List UInt8 := dkwX1_call_4 ++ dktX1_call_5
def dkwX1_call_3 : List UInt8 := [3, 184, 0, 206, 42, 180, 0, 40, 42, 180, 0, 196, 27, 79, 42, 180, 0, 44, 42, 180, 0, 196, 28, 79]
abbrev dktX1_call_3 : List UInt8 := dkwX1_call_3 ++ dktX1_call_4
def dkwX1_call_2 : List UInt8 := [153, 0, 7, 4, 167, 0, 4, 3, 184, 0, 156, 42, 180, 0, 196, 16, 6, 162, 0, 7, 4, 167, 0, 4]
abbrev dktX1_call_2 : List UInt8 := dkwX1_call_2 ++ dktX1_call_3
def dkwX1_call_1 : List UInt8 := [29, 133, 28, 133, 20, 0, 202, 184, 0, 98, 153, 0, 20, 21, 4, 133, 9, 20, 0, 204, 184, 0, 98]
abbrev dktX1_call_1 : List UInt8 := dkwX1_call_1 ++ dktX1_call_2
def dkwX1_call_0 : List UInt8 := [27, 133, 9, 20, 0, 96, 184, 0, 98, 153, 0, 45, 28, 133, 9, 20, 0, 202, 184, 0, 98, 153, 0, 33]
abbrev dktX1_call_0 : List UInt8 := dkwX1_call_0 ++ dktX1_call_1
theorem dksX1_call_0 : cX1_call.data.toList.drop 0 = dktX1_call_0 := by decide +kernel
theorem dksX1_call_1 : cX1_call.data.toList.drop 24 = dktX1_call_1 := dk_seg dksX1_call_0 24 rfl rfl
theorem dksX1_call_2 : cX1_call.data.toList.drop 47 = dktX1_call_2 := dk_seg dksX1_call_1 23 rfl rfl
theorem dksX1_call_3 : cX1_call.data.toList.drop 71 = dktX1_call_3 := dk_seg dksX1_call_2 24 rfl rfl
theorem dksX1_call_4 : cX1_call.data.toList.drop 95 = dktX1_call_4 := dk_seg dksX1_call_3 24 rfl rfl
theorem dksX1_call_5 : cX1_call.data.toList.drop 118 = dktX1_call_5 := dk_seg dksX1_call_4 23 rfl rfl
theorem dX1_call_0 : decode cX1_call 0 = .ok (.iload_n 1, 1) := dk_27 (dk_at dksX1_call_0 0 rfl rfl)
theorem dX1_call_1 : decode cX1_call 1 = .ok (.i2l, 1) := dk_133 (dk_at dksX1_call_0 1 rfl rfl)
theorem dX1_call_2 : decode cX1_call 2 = .ok (.lconst 0, 1) := dk_9 (dk_at dksX1_call_0 2 rfl rfl)
theorem dX1_call_3 : decode cX1_call 3 = .ok (.ldc2_w 96, 3) := dk_20 0 96 (dk_at dksX1_call_0 3 rfl rfl)
theorem dX1_call_6 : decode cX1_call 6 = .ok (.invokestatic 98, 3) := dk_184 0 98 (dk_at dksX1_call_0 6 rfl rfl)
theorem dX1_call_9 : decode cX1_call 9 = .ok (.ifCond .eq 45, 3) := dk_153 0 45 (dk_at dksX1_call_0 9 rfl rfl)
theorem dX1_call_12 : decode cX1_call 12 = .ok (.iload_n 2, 1) := dk_28 (dk_at dksX1_call_0 12 rfl rfl)
theorem dX1_call_13 : decode cX1_call 13 = .ok (.i2l, 1) := dk_133 (dk_at dksX1_call_0 13 rfl rfl)
theorem dX1_call_14 : decode cX1_call 14 = .ok (.lconst 0, 1) := dk_9 (dk_at dksX1_call_0 14 rfl rfl)
theorem dX1_call_15 : decode cX1_call 15 = .ok (.ldc2_w 202, 3) := dk_20 0 202 (dk_at dksX1_call_0 15 rfl rfl)
theorem dX1_call_18 : decode cX1_call 18 = .ok (.invokestatic 98, 3) := dk_184 0 98 (dk_at dksX1_call_0 18 rfl rfl)
theorem dX1_call_21 : decode cX1_call 21 = .ok (.ifCond .eq 33, 3) := dk_153 0 33 (dk_at dksX1_call_0 21 rfl rfl)
theorem dX1_call_24 : decode cX1_call 24 = .ok (.iload_n 3, 1) := dk_29 (dk_at dksX1_call_1 0 rfl rfl)
theorem dX1_call_25 : decode cX1_call 25 = .ok (.i2l, 1) := dk_133 (dk_at dksX1_call_1 1 rfl rfl)
theorem dX1_call_26 : decode cX1_call 26 = .ok (.iload_n 2, 1) := dk_28 (dk_at dksX1_call_1 2 rfl rfl)
theorem dX1_call_27 : decode cX1_call 27 = .ok (.i2l, 1) := dk_133 (dk_at dksX1_call_1 3 rfl rfl)
theorem dX1_call_28 : decode cX1_call 28 = .ok (.ldc2_w 202, 3) := dk_20 0 202 (dk_at dksX1_call_1 4 rfl rfl)
theorem dX1_call_31 : decode cX1_call 31 = .ok (.invokestatic 98, 3) := dk_184 0 98 (dk_at dksX1_call_1 7 rfl rfl)
theorem dX1_call_34 : decode cX1_call 34 = .ok (.ifCond .eq 20, 3) := dk_153 0 20 (dk_at dksX1_call_1 10 rfl rfl)
theorem dX1_call_37 : decode cX1_call 37 = .ok (.iload 4, 2) := dk_21 4 (dk_at dksX1_call_1 13 rfl rfl)
theorem dX1_call_39 : decode cX1_call 39 = .ok (.i2l, 1) := dk_133 (dk_at dksX1_call_1 15 rfl rfl)
theorem dX1_call_40 : decode cX1_call 40 = .ok (.lconst 0, 1) := dk_9 (dk_at dksX1_call_1 16 rfl rfl)
theorem dX1_call_41 : decode cX1_call 41 = .ok (.ldc2_w 204, 3) := dk_20 0 204 (dk_at dksX1_call_1 17 rfl rfl)
theorem dX1_call_44 : decode cX1_call 44 = .ok (.invokestatic 98, 3) := dk_184 0 98 (dk_at dksX1_call_1 20 rfl rfl)
theorem dX1_call_47 : decode cX1_call 47 = .ok (.ifCond .eq 7, 3) := dk_153 0 7 (dk_at dksX1_call_2 0 rfl rfl)
theorem dX1_call_50 : decode cX1_call 50 = .ok (.iconst 1, 1) := dk_4 (dk_at dksX1_call_2 3 rfl rfl)
theorem dX1_call_51 : decode cX1_call 51 = .ok (.goto 4, 3) := dk_167 0 4 (dk_at dksX1_call_2 4 rfl rfl)
theorem dX1_call_54 : decode cX1_call 54 = .ok (.iconst 0, 1) := dk_3 (dk_at dksX1_call_2 7 rfl rfl)
theorem dX1_call_55 : decode cX1_call 55 = .ok (.invokestatic 156, 3) := dk_184 0 156 (dk_at dksX1_call_2 8 rfl rfl)
theorem dX1_call_58 : decode cX1_call 58 = .ok (.aload_n 0, 1) := dk_42 (dk_at dksX1_call_2 11 rfl rfl)
theorem dX1_call_59 : decode cX1_call 59 = .ok (.getfield 196, 3) := dk_180 0 196 (dk_at dksX1_call_2 12 rfl rfl)
theorem dX1_call_62 : decode cX1_call 62 = .ok (.bipush 6, 2) := dk_16 6 (dk_at dksX1_call_2 15 rfl rfl)
theorem dX1_call_64 : decode cX1_call 64 = .ok (.if_icmp .ge 7, 3) := dk_162 0 7 (dk_at dksX1_call_2 17 rfl rfl)
theorem dX1_call_67 : decode cX1_call 67 = .ok (.iconst 1, 1) := dk_4 (dk_at dksX1_call_2 20 rfl rfl)
theorem dX1_call_68 : decode cX1_call 68 = .ok (.goto 4, 3) := dk_167 0 4 (dk_at dksX1_call_2 21 rfl rfl)
theorem dX1_call_71 : decode cX1_call 71 = .ok (.iconst 0, 1) := dk_3 (dk_at dksX1_call_3 0 rfl rfl)
theorem dX1_call_72 : decode cX1_call 72 = .ok (.invokestatic 206, 3) := dk_184 0 206 (dk_at dksX1_call_3 1 rfl rfl)
theorem dX1_call_75 : decode cX1_call 75 = .ok (.aload_n 0, 1) := dk_42 (dk_at dksX1_call_3 4 rfl rfl)
theorem dX1_call_76 : decode cX1_call 76 = .ok (.getfield 40, 3) := dk_180 0 40 (dk_at dksX1_call_3 5 rfl rfl)
theorem dX1_call_79 : decode cX1_call 79 = .ok (.aload_n 0, 1) := dk_42 (dk_at dksX1_call_3 8 rfl rfl)
theorem dX1_call_80 : decode cX1_call 80 = .ok (.getfield 196, 3) := dk_180 0 196 (dk_at dksX1_call_3 9 rfl rfl)
theorem dX1_call_83 : decode cX1_call 83 = .ok (.iload_n 1, 1) := dk_27 (dk_at dksX1_call_3 12 rfl rfl)
theorem dX1_call_84 : decode cX1_call 84 = .ok (.iastore, 1) := dk_79 (dk_at dksX1_call_3 13 rfl rfl)
theorem dX1_call_85 : decode cX1_call 85 = .ok (.aload_n 0, 1) := dk_42 (dk_at dksX1_call_3 14 rfl rfl)
theorem dX1_call_86 : decode cX1_call 86 = .ok (.getfield 44, 3) := dk_180 0 44 (dk_at dksX1_call_3 15 rfl rfl)
theorem dX1_call_89 : decode cX1_call 89 = .ok (.aload_n 0, 1) := dk_42 (dk_at dksX1_call_3 18 rfl rfl)
theorem dX1_call_90 : decode cX1_call 90 = .ok (.getfield 196, 3) := dk_180 0 196 (dk_at dksX1_call_3 19 rfl rfl)
theorem dX1_call_93 : decode cX1_call 93 = .ok (.iload_n 2, 1) := dk_28 (dk_at dksX1_call_3 22 rfl rfl)
theorem dX1_call_94 : decode cX1_call 94 = .ok (.iastore, 1) := dk_79 (dk_at dksX1_call_3 23 rfl rfl)
theorem dX1_call_95 : decode cX1_call 95 = .ok (.aload_n 0, 1) := dk_42 (dk_at dksX1_call_4 0 rfl rfl)
theorem dX1_call_96 : decode cX1_call 96 = .ok (.getfield 47, 3) := dk_180 0 47 (dk_at dksX1_call_4 1 rfl rfl)
theorem dX1_call_99 : decode cX1_call 99 = .ok (.aload_n 0, 1) := dk_42 (dk_at dksX1_call_4 4 rfl rfl)
theorem dX1_call_100 : decode cX1_call 100 = .ok (.getfield 196, 3) := dk_180 0 196 (dk_at dksX1_call_4 5 rfl rfl)
theorem dX1_call_103 : decode cX1_call 103 = .ok (.iload_n 3, 1) := dk_29 (dk_at dksX1_call_4 8 rfl rfl)
theorem dX1_call_104 : decode cX1_call 104 = .ok (.iastore, 1) := dk_79 (dk_at dksX1_call_4 9 rfl rfl)
theorem dX1_call_105 : decode cX1_call 105 = .ok (.aload_n 0, 1) := dk_42 (dk_at dksX1_call_4 10 rfl rfl)
theorem dX1_call_106 : decode cX1_call 106 = .ok (.getfield 50, 3) := dk_180 0 50 (dk_at dksX1_call_4 11 rfl rfl)
theorem dX1_call_109 : decode cX1_call 109 = .ok (.aload_n 0, 1) := dk_42 (dk_at dksX1_call_4 14 rfl rfl)
theorem dX1_call_110 : decode cX1_call 110 = .ok (.getfield 196, 3) := dk_180 0 196 (dk_at dksX1_call_4 15 rfl rfl)
theorem dX1_call_113 : decode cX1_call 113 = .ok (.iload 4, 2) := dk_21 4 (dk_at dksX1_call_4 18 rfl rfl)
theorem dX1_call_115 : decode cX1_call 115 = .ok (.iastore, 1) := dk_79 (dk_at dksX1_call_4 20 rfl rfl)
theorem dX1_call_116 : decode cX1_call 116 = .ok (.aload_n 0, 1) := dk_42 (dk_at dksX1_call_4 21 rfl rfl)
theorem dX1_call_117 : decode cX1_call 117 = .ok (.dup, 1) := dk_89 (dk_at dksX1_call_4 22 rfl rfl)
theorem dX1_call_118 : decode cX1_call 118 = .ok (.getfield 196, 3) := dk_180 0 196 (dk_at dksX1_call_5 0 rfl rfl)
theorem dX1_call_121 : decode cX1_call 121 = .ok (.iconst 1, 1) := dk_4 (dk_at dksX1_call_5 3 rfl rfl)
theorem dX1_call_122 : decode cX1_call 122 = .ok (.iadd, 1) := dk_96 (dk_at dksX1_call_5 4 rfl rfl)
theorem dX1_call_123 : decode cX1_call 123 = .ok (.putfield 196, 3) := dk_181 0 196 (dk_at dksX1_call_5 5 rfl rfl)
theorem dX1_call_126 : decode cX1_call 126 = .ok (.aload_n 0, 1) := dk_42 (dk_at dksX1_call_5 8 rfl rfl)
theorem dX1_call_127 : decode cX1_call 127 = .ok (.getfield 196, 3) := dk_180 0 196 (dk_at dksX1_call_5 9 rfl rfl)
theorem dX1_call_130 : decode cX1_call 130 = .ok (.iconst 1, 1) := dk_4 (dk_at dksX1_call_5 12 rfl rfl)
theorem dX1_call_131 : decode cX1_call 131 = .ok (.isub, 1) := dk_100 (dk_at dksX1_call_5 13 rfl rfl)
theorem dX1_call_132 : decode cX1_call 132 = .ok (.ireturn, 1) := dk_172 (dk_at dksX1_call_5 14 rfl rfl)
abbrev cX1_apply : ByteArray := prog_1_method_24_code
def yX1_apply : MethodName := ⟨RX1, "apply", "(IIIIII)I"⟩
def dkwX1_apply_5 : List UInt8 := [25, 7, 83, 42, 89, 180, 0, 199, 4, 96, 181, 0, 199, 42, 180, 0, 199, 4, 100, 172]
abbrev dktX1_apply_5 : List UInt8 := dkwX1_apply_5 ++ []
def dkwX1_apply_4 : List UInt8 := [25, 7, 21, 4, 21, 5, 21, 6, 42, 180, 0, 209, 182, 0, 233, 42, 180, 0, 65, 42, 180, 0, 199]
abbrev dktX1_apply_4 : List UInt8 := dkwX1_apply_4 ++ dktX1_apply_5
def dkwX1_apply_3 : List UInt8 := [4, 167, 0, 4, 3, 184, 0, 206, 187, 0, 63, 89, 42, 180, 0, 199, 27, 28, 29, 183, 0, 230, 58, 7]
abbrev dktX1_apply_3 : List UInt8 := dkwX1_apply_3 ++ dktX1_apply_4
def dkwX1_apply_2 : List UInt8 := [167, 0, 4, 3, 184, 0, 156, 42, 27, 182, 0, 227, 153, 0, 16, 42, 180, 0, 199, 16, 24, 162, 0, 7]
abbrev dktX1_apply_2 : List UInt8 := dkwX1_apply_2 ++ dktX1_apply_3
def dkwX1_apply_1 : List UInt8 := [20, 0, 204, 184, 0, 98, 153, 0, 19, 21, 4, 21, 5, 21, 6, 184, 0, 223, 153, 0, 7, 4]
abbrev dktX1_apply_1 : List UInt8 := dkwX1_apply_1 ++ dktX1_apply_2
def dkwX1_apply_0 : List UInt8 := [42, 27, 182, 0, 214, 184, 0, 218, 28, 133, 9, 20, 0, 221, 184, 0, 98, 153, 0, 31, 29, 133, 9]
abbrev dktX1_apply_0 : List UInt8 := dkwX1_apply_0 ++ dktX1_apply_1
theorem dksX1_apply_0 : cX1_apply.data.toList.drop 0 = dktX1_apply_0 := by decide +kernel
theorem dksX1_apply_1 : cX1_apply.data.toList.drop 23 = dktX1_apply_1 := dk_seg dksX1_apply_0 23 rfl rfl
theorem dksX1_apply_2 : cX1_apply.data.toList.drop 45 = dktX1_apply_2 := dk_seg dksX1_apply_1 22 rfl rfl
theorem dksX1_apply_3 : cX1_apply.data.toList.drop 69 = dktX1_apply_3 := dk_seg dksX1_apply_2 24 rfl rfl
theorem dksX1_apply_4 : cX1_apply.data.toList.drop 93 = dktX1_apply_4 := dk_seg dksX1_apply_3 24 rfl rfl
theorem dksX1_apply_5 : cX1_apply.data.toList.drop 116 = dktX1_apply_5 := dk_seg dksX1_apply_4 23 rfl rfl
theorem dX1_apply_0 : decode cX1_apply 0 = .ok (.aload_n 0, 1) := dk_42 (dk_at dksX1_apply_0 0 rfl rfl)
theorem dX1_apply_1 : decode cX1_apply 1 = .ok (.iload_n 1, 1) := dk_27 (dk_at dksX1_apply_0 1 rfl rfl)
theorem dX1_apply_2 : decode cX1_apply 2 = .ok (.invokevirtual 214, 3) := dk_182 0 214 (dk_at dksX1_apply_0 2 rfl rfl)
theorem dX1_apply_5 : decode cX1_apply 5 = .ok (.invokestatic 218, 3) := dk_184 0 218 (dk_at dksX1_apply_0 5 rfl rfl)
theorem dX1_apply_8 : decode cX1_apply 8 = .ok (.iload_n 2, 1) := dk_28 (dk_at dksX1_apply_0 8 rfl rfl)
theorem dX1_apply_9 : decode cX1_apply 9 = .ok (.i2l, 1) := dk_133 (dk_at dksX1_apply_0 9 rfl rfl)
theorem dX1_apply_10 : decode cX1_apply 10 = .ok (.lconst 0, 1) := dk_9 (dk_at dksX1_apply_0 10 rfl rfl)
theorem dX1_apply_11 : decode cX1_apply 11 = .ok (.ldc2_w 221, 3) := dk_20 0 221 (dk_at dksX1_apply_0 11 rfl rfl)
theorem dX1_apply_14 : decode cX1_apply 14 = .ok (.invokestatic 98, 3) := dk_184 0 98 (dk_at dksX1_apply_0 14 rfl rfl)
theorem dX1_apply_17 : decode cX1_apply 17 = .ok (.ifCond .eq 31, 3) := dk_153 0 31 (dk_at dksX1_apply_0 17 rfl rfl)
theorem dX1_apply_20 : decode cX1_apply 20 = .ok (.iload_n 3, 1) := dk_29 (dk_at dksX1_apply_0 20 rfl rfl)
theorem dX1_apply_21 : decode cX1_apply 21 = .ok (.i2l, 1) := dk_133 (dk_at dksX1_apply_0 21 rfl rfl)
theorem dX1_apply_22 : decode cX1_apply 22 = .ok (.lconst 0, 1) := dk_9 (dk_at dksX1_apply_0 22 rfl rfl)
theorem dX1_apply_23 : decode cX1_apply 23 = .ok (.ldc2_w 204, 3) := dk_20 0 204 (dk_at dksX1_apply_1 0 rfl rfl)
theorem dX1_apply_26 : decode cX1_apply 26 = .ok (.invokestatic 98, 3) := dk_184 0 98 (dk_at dksX1_apply_1 3 rfl rfl)
theorem dX1_apply_29 : decode cX1_apply 29 = .ok (.ifCond .eq 19, 3) := dk_153 0 19 (dk_at dksX1_apply_1 6 rfl rfl)
theorem dX1_apply_32 : decode cX1_apply 32 = .ok (.iload 4, 2) := dk_21 4 (dk_at dksX1_apply_1 9 rfl rfl)
theorem dX1_apply_34 : decode cX1_apply 34 = .ok (.iload 5, 2) := dk_21 5 (dk_at dksX1_apply_1 11 rfl rfl)
theorem dX1_apply_36 : decode cX1_apply 36 = .ok (.iload 6, 2) := dk_21 6 (dk_at dksX1_apply_1 13 rfl rfl)
theorem dX1_apply_38 : decode cX1_apply 38 = .ok (.invokestatic 223, 3) := dk_184 0 223 (dk_at dksX1_apply_1 15 rfl rfl)
theorem dX1_apply_41 : decode cX1_apply 41 = .ok (.ifCond .eq 7, 3) := dk_153 0 7 (dk_at dksX1_apply_1 18 rfl rfl)
theorem dX1_apply_44 : decode cX1_apply 44 = .ok (.iconst 1, 1) := dk_4 (dk_at dksX1_apply_1 21 rfl rfl)
theorem dX1_apply_45 : decode cX1_apply 45 = .ok (.goto 4, 3) := dk_167 0 4 (dk_at dksX1_apply_2 0 rfl rfl)
theorem dX1_apply_48 : decode cX1_apply 48 = .ok (.iconst 0, 1) := dk_3 (dk_at dksX1_apply_2 3 rfl rfl)
theorem dX1_apply_49 : decode cX1_apply 49 = .ok (.invokestatic 156, 3) := dk_184 0 156 (dk_at dksX1_apply_2 4 rfl rfl)
theorem dX1_apply_52 : decode cX1_apply 52 = .ok (.aload_n 0, 1) := dk_42 (dk_at dksX1_apply_2 7 rfl rfl)
theorem dX1_apply_53 : decode cX1_apply 53 = .ok (.iload_n 1, 1) := dk_27 (dk_at dksX1_apply_2 8 rfl rfl)
theorem dX1_apply_54 : decode cX1_apply 54 = .ok (.invokevirtual 227, 3) := dk_182 0 227 (dk_at dksX1_apply_2 9 rfl rfl)
theorem dX1_apply_57 : decode cX1_apply 57 = .ok (.ifCond .eq 16, 3) := dk_153 0 16 (dk_at dksX1_apply_2 12 rfl rfl)
theorem dX1_apply_60 : decode cX1_apply 60 = .ok (.aload_n 0, 1) := dk_42 (dk_at dksX1_apply_2 15 rfl rfl)
theorem dX1_apply_61 : decode cX1_apply 61 = .ok (.getfield 199, 3) := dk_180 0 199 (dk_at dksX1_apply_2 16 rfl rfl)
theorem dX1_apply_64 : decode cX1_apply 64 = .ok (.bipush 24, 2) := dk_16 24 (dk_at dksX1_apply_2 19 rfl rfl)
theorem dX1_apply_66 : decode cX1_apply 66 = .ok (.if_icmp .ge 7, 3) := dk_162 0 7 (dk_at dksX1_apply_2 21 rfl rfl)
theorem dX1_apply_69 : decode cX1_apply 69 = .ok (.iconst 1, 1) := dk_4 (dk_at dksX1_apply_3 0 rfl rfl)
theorem dX1_apply_70 : decode cX1_apply 70 = .ok (.goto 4, 3) := dk_167 0 4 (dk_at dksX1_apply_3 1 rfl rfl)
theorem dX1_apply_73 : decode cX1_apply 73 = .ok (.iconst 0, 1) := dk_3 (dk_at dksX1_apply_3 4 rfl rfl)
theorem dX1_apply_74 : decode cX1_apply 74 = .ok (.invokestatic 206, 3) := dk_184 0 206 (dk_at dksX1_apply_3 5 rfl rfl)
theorem dX1_apply_77 : decode cX1_apply 77 = .ok (.new 63, 3) := dk_187 0 63 (dk_at dksX1_apply_3 8 rfl rfl)
theorem dX1_apply_80 : decode cX1_apply 80 = .ok (.dup, 1) := dk_89 (dk_at dksX1_apply_3 11 rfl rfl)
theorem dX1_apply_81 : decode cX1_apply 81 = .ok (.aload_n 0, 1) := dk_42 (dk_at dksX1_apply_3 12 rfl rfl)
theorem dX1_apply_82 : decode cX1_apply 82 = .ok (.getfield 199, 3) := dk_180 0 199 (dk_at dksX1_apply_3 13 rfl rfl)
theorem dX1_apply_85 : decode cX1_apply 85 = .ok (.iload_n 1, 1) := dk_27 (dk_at dksX1_apply_3 16 rfl rfl)
theorem dX1_apply_86 : decode cX1_apply 86 = .ok (.iload_n 2, 1) := dk_28 (dk_at dksX1_apply_3 17 rfl rfl)
theorem dX1_apply_87 : decode cX1_apply 87 = .ok (.iload_n 3, 1) := dk_29 (dk_at dksX1_apply_3 18 rfl rfl)
theorem dX1_apply_88 : decode cX1_apply 88 = .ok (.invokespecial 230, 3) := dk_183 0 230 (dk_at dksX1_apply_3 19 rfl rfl)
theorem dX1_apply_91 : decode cX1_apply 91 = .ok (.astore 7, 2) := dk_58 7 (dk_at dksX1_apply_3 22 rfl rfl)
theorem dX1_apply_93 : decode cX1_apply 93 = .ok (.aload 7, 2) := dk_25 7 (dk_at dksX1_apply_4 0 rfl rfl)
theorem dX1_apply_95 : decode cX1_apply 95 = .ok (.iload 4, 2) := dk_21 4 (dk_at dksX1_apply_4 2 rfl rfl)
theorem dX1_apply_97 : decode cX1_apply 97 = .ok (.iload 5, 2) := dk_21 5 (dk_at dksX1_apply_4 4 rfl rfl)
theorem dX1_apply_99 : decode cX1_apply 99 = .ok (.iload 6, 2) := dk_21 6 (dk_at dksX1_apply_4 6 rfl rfl)
theorem dX1_apply_101 : decode cX1_apply 101 = .ok (.aload_n 0, 1) := dk_42 (dk_at dksX1_apply_4 8 rfl rfl)
theorem dX1_apply_102 : decode cX1_apply 102 = .ok (.getfield 209, 3) := dk_180 0 209 (dk_at dksX1_apply_4 9 rfl rfl)
theorem dX1_apply_105 : decode cX1_apply 105 = .ok (.invokevirtual 233, 3) := dk_182 0 233 (dk_at dksX1_apply_4 12 rfl rfl)
theorem dX1_apply_108 : decode cX1_apply 108 = .ok (.aload_n 0, 1) := dk_42 (dk_at dksX1_apply_4 15 rfl rfl)
theorem dX1_apply_109 : decode cX1_apply 109 = .ok (.getfield 65, 3) := dk_180 0 65 (dk_at dksX1_apply_4 16 rfl rfl)
theorem dX1_apply_112 : decode cX1_apply 112 = .ok (.aload_n 0, 1) := dk_42 (dk_at dksX1_apply_4 19 rfl rfl)
theorem dX1_apply_113 : decode cX1_apply 113 = .ok (.getfield 199, 3) := dk_180 0 199 (dk_at dksX1_apply_4 20 rfl rfl)
theorem dX1_apply_116 : decode cX1_apply 116 = .ok (.aload 7, 2) := dk_25 7 (dk_at dksX1_apply_5 0 rfl rfl)
theorem dX1_apply_118 : decode cX1_apply 118 = .ok (.aastore, 1) := dk_83 (dk_at dksX1_apply_5 2 rfl rfl)
theorem dX1_apply_119 : decode cX1_apply 119 = .ok (.aload_n 0, 1) := dk_42 (dk_at dksX1_apply_5 3 rfl rfl)
theorem dX1_apply_120 : decode cX1_apply 120 = .ok (.dup, 1) := dk_89 (dk_at dksX1_apply_5 4 rfl rfl)
theorem dX1_apply_121 : decode cX1_apply 121 = .ok (.getfield 199, 3) := dk_180 0 199 (dk_at dksX1_apply_5 5 rfl rfl)
theorem dX1_apply_124 : decode cX1_apply 124 = .ok (.iconst 1, 1) := dk_4 (dk_at dksX1_apply_5 8 rfl rfl)
theorem dX1_apply_125 : decode cX1_apply 125 = .ok (.iadd, 1) := dk_96 (dk_at dksX1_apply_5 9 rfl rfl)
theorem dX1_apply_126 : decode cX1_apply 126 = .ok (.putfield 199, 3) := dk_181 0 199 (dk_at dksX1_apply_5 10 rfl rfl)
theorem dX1_apply_129 : decode cX1_apply 129 = .ok (.aload_n 0, 1) := dk_42 (dk_at dksX1_apply_5 13 rfl rfl)
theorem dX1_apply_130 : decode cX1_apply 130 = .ok (.getfield 199, 3) := dk_180 0 199 (dk_at dksX1_apply_5 14 rfl rfl)
theorem dX1_apply_133 : decode cX1_apply 133 = .ok (.iconst 1, 1) := dk_4 (dk_at dksX1_apply_5 17 rfl rfl)
theorem dX1_apply_134 : decode cX1_apply 134 = .ok (.isub, 1) := dk_100 (dk_at dksX1_apply_5 18 rfl rfl)
theorem dX1_apply_135 : decode cX1_apply 135 = .ok (.ireturn, 1) := dk_172 (dk_at dksX1_apply_5 19 rfl rfl)
abbrev cX1_isCall : ByteArray := prog_1_method_19_code
def yX1_isCall : MethodName := ⟨RX1, "isCall", "(I)Z"⟩
def dkwX1_isCall_0 : List UInt8 := [27, 133, 9, 42, 180, 0, 196, 4, 100, 133, 184, 0, 98, 172]
abbrev dktX1_isCall_0 : List UInt8 := dkwX1_isCall_0 ++ []
theorem dksX1_isCall_0 : cX1_isCall.data.toList.drop 0 = dktX1_isCall_0 := by decide +kernel
theorem dX1_isCall_0 : decode cX1_isCall 0 = .ok (.iload_n 1, 1) := dk_27 (dk_at dksX1_isCall_0 0 rfl rfl)
theorem dX1_isCall_1 : decode cX1_isCall 1 = .ok (.i2l, 1) := dk_133 (dk_at dksX1_isCall_0 1 rfl rfl)
theorem dX1_isCall_2 : decode cX1_isCall 2 = .ok (.lconst 0, 1) := dk_9 (dk_at dksX1_isCall_0 2 rfl rfl)
theorem dX1_isCall_3 : decode cX1_isCall 3 = .ok (.aload_n 0, 1) := dk_42 (dk_at dksX1_isCall_0 3 rfl rfl)
theorem dX1_isCall_4 : decode cX1_isCall 4 = .ok (.getfield 196, 3) := dk_180 0 196 (dk_at dksX1_isCall_0 4 rfl rfl)
theorem dX1_isCall_7 : decode cX1_isCall 7 = .ok (.iconst 1, 1) := dk_4 (dk_at dksX1_isCall_0 7 rfl rfl)
theorem dX1_isCall_8 : decode cX1_isCall 8 = .ok (.isub, 1) := dk_100 (dk_at dksX1_isCall_0 8 rfl rfl)
theorem dX1_isCall_9 : decode cX1_isCall 9 = .ok (.i2l, 1) := dk_133 (dk_at dksX1_isCall_0 9 rfl rfl)
theorem dX1_isCall_10 : decode cX1_isCall 10 = .ok (.invokestatic 98, 3) := dk_184 0 98 (dk_at dksX1_isCall_0 10 rfl rfl)
theorem dX1_isCall_13 : decode cX1_isCall 13 = .ok (.ireturn, 1) := dk_172 (dk_at dksX1_isCall_0 13 rfl rfl)
abbrev cX1_checkIndex : ByteArray := prog_1_method_2_code
def yX1_checkIndex : MethodName := ⟨RX1, "checkIndex", "(Z)V"⟩
def dkwX1_checkIndex_0 : List UInt8 := [26, 154, 0, 11, 187, 0, 1, 89, 183, 0, 3, 191, 177]
abbrev dktX1_checkIndex_0 : List UInt8 := dkwX1_checkIndex_0 ++ []
theorem dksX1_checkIndex_0 : cX1_checkIndex.data.toList.drop 0 = dktX1_checkIndex_0 := by decide +kernel
theorem dX1_checkIndex_0 : decode cX1_checkIndex 0 = .ok (.iload_n 0, 1) := dk_26 (dk_at dksX1_checkIndex_0 0 rfl rfl)
theorem dX1_checkIndex_1 : decode cX1_checkIndex 1 = .ok (.ifCond .ne 11, 3) := dk_154 0 11 (dk_at dksX1_checkIndex_0 1 rfl rfl)
theorem dX1_checkIndex_4 : decode cX1_checkIndex 4 = .ok (.new 1, 3) := dk_187 0 1 (dk_at dksX1_checkIndex_0 4 rfl rfl)
theorem dX1_checkIndex_7 : decode cX1_checkIndex 7 = .ok (.dup, 1) := dk_89 (dk_at dksX1_checkIndex_0 7 rfl rfl)
theorem dX1_checkIndex_8 : decode cX1_checkIndex 8 = .ok (.invokespecial 3, 3) := dk_183 0 3 (dk_at dksX1_checkIndex_0 8 rfl rfl)
theorem dX1_checkIndex_11 : decode cX1_checkIndex 11 = .ok (.athrow, 1) := dk_191 (dk_at dksX1_checkIndex_0 11 rfl rfl)
theorem dX1_checkIndex_12 : decode cX1_checkIndex 12 = .ok (.return_, 1) := dk_177 (dk_at dksX1_checkIndex_0 12 rfl rfl)
abbrev cX1_isMoney : ByteArray := prog_1_method_23_code
def yX1_isMoney : MethodName := ⟨RX1, "isMoney", "(III)Z"⟩
def dkwX1_isMoney_2 : List UInt8 := [4, 167, 0, 4, 3, 172]
abbrev dktX1_isMoney_2 : List UInt8 := dkwX1_isMoney_2 ++ []
def dkwX1_isMoney_1 : List UInt8 := [28, 133, 9, 20, 0, 212, 184, 0, 98, 153, 0, 19, 26, 157, 0, 11, 27, 157, 0, 7, 28, 158, 0, 7]
abbrev dktX1_isMoney_1 : List UInt8 := dkwX1_isMoney_1 ++ dktX1_isMoney_2
def dkwX1_isMoney_0 : List UInt8 := [26, 133, 9, 20, 0, 212, 184, 0, 98, 153, 0, 43, 27, 133, 9, 20, 0, 212, 184, 0, 98, 153, 0, 31]
abbrev dktX1_isMoney_0 : List UInt8 := dkwX1_isMoney_0 ++ dktX1_isMoney_1
theorem dksX1_isMoney_0 : cX1_isMoney.data.toList.drop 0 = dktX1_isMoney_0 := by decide +kernel
theorem dksX1_isMoney_1 : cX1_isMoney.data.toList.drop 24 = dktX1_isMoney_1 := dk_seg dksX1_isMoney_0 24 rfl rfl
theorem dksX1_isMoney_2 : cX1_isMoney.data.toList.drop 48 = dktX1_isMoney_2 := dk_seg dksX1_isMoney_1 24 rfl rfl
theorem dX1_isMoney_0 : decode cX1_isMoney 0 = .ok (.iload_n 0, 1) := dk_26 (dk_at dksX1_isMoney_0 0 rfl rfl)
theorem dX1_isMoney_1 : decode cX1_isMoney 1 = .ok (.i2l, 1) := dk_133 (dk_at dksX1_isMoney_0 1 rfl rfl)
theorem dX1_isMoney_2 : decode cX1_isMoney 2 = .ok (.lconst 0, 1) := dk_9 (dk_at dksX1_isMoney_0 2 rfl rfl)
theorem dX1_isMoney_3 : decode cX1_isMoney 3 = .ok (.ldc2_w 212, 3) := dk_20 0 212 (dk_at dksX1_isMoney_0 3 rfl rfl)
theorem dX1_isMoney_6 : decode cX1_isMoney 6 = .ok (.invokestatic 98, 3) := dk_184 0 98 (dk_at dksX1_isMoney_0 6 rfl rfl)
theorem dX1_isMoney_9 : decode cX1_isMoney 9 = .ok (.ifCond .eq 43, 3) := dk_153 0 43 (dk_at dksX1_isMoney_0 9 rfl rfl)
theorem dX1_isMoney_12 : decode cX1_isMoney 12 = .ok (.iload_n 1, 1) := dk_27 (dk_at dksX1_isMoney_0 12 rfl rfl)
theorem dX1_isMoney_13 : decode cX1_isMoney 13 = .ok (.i2l, 1) := dk_133 (dk_at dksX1_isMoney_0 13 rfl rfl)
theorem dX1_isMoney_14 : decode cX1_isMoney 14 = .ok (.lconst 0, 1) := dk_9 (dk_at dksX1_isMoney_0 14 rfl rfl)
theorem dX1_isMoney_15 : decode cX1_isMoney 15 = .ok (.ldc2_w 212, 3) := dk_20 0 212 (dk_at dksX1_isMoney_0 15 rfl rfl)
theorem dX1_isMoney_18 : decode cX1_isMoney 18 = .ok (.invokestatic 98, 3) := dk_184 0 98 (dk_at dksX1_isMoney_0 18 rfl rfl)
theorem dX1_isMoney_21 : decode cX1_isMoney 21 = .ok (.ifCond .eq 31, 3) := dk_153 0 31 (dk_at dksX1_isMoney_0 21 rfl rfl)
theorem dX1_isMoney_24 : decode cX1_isMoney 24 = .ok (.iload_n 2, 1) := dk_28 (dk_at dksX1_isMoney_1 0 rfl rfl)
theorem dX1_isMoney_25 : decode cX1_isMoney 25 = .ok (.i2l, 1) := dk_133 (dk_at dksX1_isMoney_1 1 rfl rfl)
theorem dX1_isMoney_26 : decode cX1_isMoney 26 = .ok (.lconst 0, 1) := dk_9 (dk_at dksX1_isMoney_1 2 rfl rfl)
theorem dX1_isMoney_27 : decode cX1_isMoney 27 = .ok (.ldc2_w 212, 3) := dk_20 0 212 (dk_at dksX1_isMoney_1 3 rfl rfl)
theorem dX1_isMoney_30 : decode cX1_isMoney 30 = .ok (.invokestatic 98, 3) := dk_184 0 98 (dk_at dksX1_isMoney_1 6 rfl rfl)
theorem dX1_isMoney_33 : decode cX1_isMoney 33 = .ok (.ifCond .eq 19, 3) := dk_153 0 19 (dk_at dksX1_isMoney_1 9 rfl rfl)
theorem dX1_isMoney_36 : decode cX1_isMoney 36 = .ok (.iload_n 0, 1) := dk_26 (dk_at dksX1_isMoney_1 12 rfl rfl)
theorem dX1_isMoney_37 : decode cX1_isMoney 37 = .ok (.ifCond .gt 11, 3) := dk_157 0 11 (dk_at dksX1_isMoney_1 13 rfl rfl)
theorem dX1_isMoney_40 : decode cX1_isMoney 40 = .ok (.iload_n 1, 1) := dk_27 (dk_at dksX1_isMoney_1 16 rfl rfl)
theorem dX1_isMoney_41 : decode cX1_isMoney 41 = .ok (.ifCond .gt 7, 3) := dk_157 0 7 (dk_at dksX1_isMoney_1 17 rfl rfl)
theorem dX1_isMoney_44 : decode cX1_isMoney 44 = .ok (.iload_n 2, 1) := dk_28 (dk_at dksX1_isMoney_1 20 rfl rfl)
theorem dX1_isMoney_45 : decode cX1_isMoney 45 = .ok (.ifCond .le 7, 3) := dk_158 0 7 (dk_at dksX1_isMoney_1 21 rfl rfl)
theorem dX1_isMoney_48 : decode cX1_isMoney 48 = .ok (.iconst 1, 1) := dk_4 (dk_at dksX1_isMoney_2 0 rfl rfl)
theorem dX1_isMoney_49 : decode cX1_isMoney 49 = .ok (.goto 4, 3) := dk_167 0 4 (dk_at dksX1_isMoney_2 1 rfl rfl)
theorem dX1_isMoney_52 : decode cX1_isMoney 52 = .ok (.iconst 0, 1) := dk_3 (dk_at dksX1_isMoney_2 4 rfl rfl)
theorem dX1_isMoney_53 : decode cX1_isMoney 53 = .ok (.ireturn, 1) := dk_172 (dk_at dksX1_isMoney_2 5 rfl rfl)
abbrev cX1_isOpen : ByteArray := prog_1_method_22_code
def yX1_isOpen : MethodName := ⟨RX1, "isOpen", "(I)Z"⟩
def dkwX1_isOpen_0 : List UInt8 := [42, 180, 0, 209, 133, 42, 180, 0, 44, 27, 46, 133, 42, 180, 0, 47, 27, 46, 133, 184, 0, 98, 172]
abbrev dktX1_isOpen_0 : List UInt8 := dkwX1_isOpen_0 ++ []
theorem dksX1_isOpen_0 : cX1_isOpen.data.toList.drop 0 = dktX1_isOpen_0 := by decide +kernel
theorem dX1_isOpen_0 : decode cX1_isOpen 0 = .ok (.aload_n 0, 1) := dk_42 (dk_at dksX1_isOpen_0 0 rfl rfl)
theorem dX1_isOpen_1 : decode cX1_isOpen 1 = .ok (.getfield 209, 3) := dk_180 0 209 (dk_at dksX1_isOpen_0 1 rfl rfl)
theorem dX1_isOpen_4 : decode cX1_isOpen 4 = .ok (.i2l, 1) := dk_133 (dk_at dksX1_isOpen_0 4 rfl rfl)
theorem dX1_isOpen_5 : decode cX1_isOpen 5 = .ok (.aload_n 0, 1) := dk_42 (dk_at dksX1_isOpen_0 5 rfl rfl)
theorem dX1_isOpen_6 : decode cX1_isOpen 6 = .ok (.getfield 44, 3) := dk_180 0 44 (dk_at dksX1_isOpen_0 6 rfl rfl)
theorem dX1_isOpen_9 : decode cX1_isOpen 9 = .ok (.iload_n 1, 1) := dk_27 (dk_at dksX1_isOpen_0 9 rfl rfl)
theorem dX1_isOpen_10 : decode cX1_isOpen 10 = .ok (.iaload, 1) := dk_46 (dk_at dksX1_isOpen_0 10 rfl rfl)
theorem dX1_isOpen_11 : decode cX1_isOpen 11 = .ok (.i2l, 1) := dk_133 (dk_at dksX1_isOpen_0 11 rfl rfl)
theorem dX1_isOpen_12 : decode cX1_isOpen 12 = .ok (.aload_n 0, 1) := dk_42 (dk_at dksX1_isOpen_0 12 rfl rfl)
theorem dX1_isOpen_13 : decode cX1_isOpen 13 = .ok (.getfield 47, 3) := dk_180 0 47 (dk_at dksX1_isOpen_0 13 rfl rfl)
theorem dX1_isOpen_16 : decode cX1_isOpen 16 = .ok (.iload_n 1, 1) := dk_27 (dk_at dksX1_isOpen_0 16 rfl rfl)
theorem dX1_isOpen_17 : decode cX1_isOpen 17 = .ok (.iaload, 1) := dk_46 (dk_at dksX1_isOpen_0 17 rfl rfl)
theorem dX1_isOpen_18 : decode cX1_isOpen 18 = .ok (.i2l, 1) := dk_133 (dk_at dksX1_isOpen_0 18 rfl rfl)
theorem dX1_isOpen_19 : decode cX1_isOpen 19 = .ok (.invokestatic 98, 3) := dk_184 0 98 (dk_at dksX1_isOpen_0 19 rfl rfl)
theorem dX1_isOpen_22 : decode cX1_isOpen 22 = .ok (.ireturn, 1) := dk_172 (dk_at dksX1_isOpen_0 22 rfl rfl)
abbrev cX1_revise : ByteArray := prog_1_method_25_code
def yX1_revise : MethodName := ⟨RX1, "revise", "(IIII)I"⟩
def dkwX1_revise_3 : List UInt8 := [25, 5, 89, 180, 0, 251, 4, 96, 181, 0, 251, 25, 5, 180, 0, 251, 172]
abbrev dktX1_revise_3 : List UInt8 := dkwX1_revise_3 ++ []
def dkwX1_revise_2 : List UInt8 := [165, 0, 7, 4, 167, 0, 4, 3, 184, 0, 206, 25, 5, 28, 29, 21, 4, 42, 180, 0, 209, 182, 0, 233]
abbrev dktX1_revise_2 : List UInt8 := dkwX1_revise_2 ++ dktX1_revise_3
def dkwX1_revise_1 : List UInt8 := [58, 5, 42, 25, 5, 180, 0, 239, 182, 0, 227, 153, 0, 18, 25, 5, 180, 0, 242, 178, 0, 246]
abbrev dktX1_revise_1 : List UInt8 := dkwX1_revise_1 ++ dktX1_revise_2
def dkwX1_revise_0 : List UInt8 := [42, 27, 182, 0, 236, 184, 0, 218, 28, 29, 21, 4, 184, 0, 223, 184, 0, 156, 42, 180, 0, 65, 27, 50]
abbrev dktX1_revise_0 : List UInt8 := dkwX1_revise_0 ++ dktX1_revise_1
theorem dksX1_revise_0 : cX1_revise.data.toList.drop 0 = dktX1_revise_0 := by decide +kernel
theorem dksX1_revise_1 : cX1_revise.data.toList.drop 24 = dktX1_revise_1 := dk_seg dksX1_revise_0 24 rfl rfl
theorem dksX1_revise_2 : cX1_revise.data.toList.drop 46 = dktX1_revise_2 := dk_seg dksX1_revise_1 22 rfl rfl
theorem dksX1_revise_3 : cX1_revise.data.toList.drop 70 = dktX1_revise_3 := dk_seg dksX1_revise_2 24 rfl rfl
theorem dX1_revise_0 : decode cX1_revise 0 = .ok (.aload_n 0, 1) := dk_42 (dk_at dksX1_revise_0 0 rfl rfl)
theorem dX1_revise_1 : decode cX1_revise 1 = .ok (.iload_n 1, 1) := dk_27 (dk_at dksX1_revise_0 1 rfl rfl)
theorem dX1_revise_2 : decode cX1_revise 2 = .ok (.invokevirtual 236, 3) := dk_182 0 236 (dk_at dksX1_revise_0 2 rfl rfl)
theorem dX1_revise_5 : decode cX1_revise 5 = .ok (.invokestatic 218, 3) := dk_184 0 218 (dk_at dksX1_revise_0 5 rfl rfl)
theorem dX1_revise_8 : decode cX1_revise 8 = .ok (.iload_n 2, 1) := dk_28 (dk_at dksX1_revise_0 8 rfl rfl)
theorem dX1_revise_9 : decode cX1_revise 9 = .ok (.iload_n 3, 1) := dk_29 (dk_at dksX1_revise_0 9 rfl rfl)
theorem dX1_revise_10 : decode cX1_revise 10 = .ok (.iload 4, 2) := dk_21 4 (dk_at dksX1_revise_0 10 rfl rfl)
theorem dX1_revise_12 : decode cX1_revise 12 = .ok (.invokestatic 223, 3) := dk_184 0 223 (dk_at dksX1_revise_0 12 rfl rfl)
theorem dX1_revise_15 : decode cX1_revise 15 = .ok (.invokestatic 156, 3) := dk_184 0 156 (dk_at dksX1_revise_0 15 rfl rfl)
theorem dX1_revise_18 : decode cX1_revise 18 = .ok (.aload_n 0, 1) := dk_42 (dk_at dksX1_revise_0 18 rfl rfl)
theorem dX1_revise_19 : decode cX1_revise 19 = .ok (.getfield 65, 3) := dk_180 0 65 (dk_at dksX1_revise_0 19 rfl rfl)
theorem dX1_revise_22 : decode cX1_revise 22 = .ok (.iload_n 1, 1) := dk_27 (dk_at dksX1_revise_0 22 rfl rfl)
theorem dX1_revise_23 : decode cX1_revise 23 = .ok (.aaload, 1) := dk_50 (dk_at dksX1_revise_0 23 rfl rfl)
theorem dX1_revise_24 : decode cX1_revise 24 = .ok (.astore 5, 2) := dk_58 5 (dk_at dksX1_revise_1 0 rfl rfl)
theorem dX1_revise_26 : decode cX1_revise 26 = .ok (.aload_n 0, 1) := dk_42 (dk_at dksX1_revise_1 2 rfl rfl)
theorem dX1_revise_27 : decode cX1_revise 27 = .ok (.aload 5, 2) := dk_25 5 (dk_at dksX1_revise_1 3 rfl rfl)
theorem dX1_revise_29 : decode cX1_revise 29 = .ok (.getfield 239, 3) := dk_180 0 239 (dk_at dksX1_revise_1 5 rfl rfl)
theorem dX1_revise_32 : decode cX1_revise 32 = .ok (.invokevirtual 227, 3) := dk_182 0 227 (dk_at dksX1_revise_1 8 rfl rfl)
theorem dX1_revise_35 : decode cX1_revise 35 = .ok (.ifCond .eq 18, 3) := dk_153 0 18 (dk_at dksX1_revise_1 11 rfl rfl)
theorem dX1_revise_38 : decode cX1_revise 38 = .ok (.aload 5, 2) := dk_25 5 (dk_at dksX1_revise_1 14 rfl rfl)
theorem dX1_revise_40 : decode cX1_revise 40 = .ok (.getfield 242, 3) := dk_180 0 242 (dk_at dksX1_revise_1 16 rfl rfl)
theorem dX1_revise_43 : decode cX1_revise 43 = .ok (.getstatic 246, 3) := dk_178 0 246 (dk_at dksX1_revise_1 19 rfl rfl)
theorem dX1_revise_46 : decode cX1_revise 46 = .ok (.if_acmp .eq 7, 3) := dk_165 0 7 (dk_at dksX1_revise_2 0 rfl rfl)
theorem dX1_revise_49 : decode cX1_revise 49 = .ok (.iconst 1, 1) := dk_4 (dk_at dksX1_revise_2 3 rfl rfl)
theorem dX1_revise_50 : decode cX1_revise 50 = .ok (.goto 4, 3) := dk_167 0 4 (dk_at dksX1_revise_2 4 rfl rfl)
theorem dX1_revise_53 : decode cX1_revise 53 = .ok (.iconst 0, 1) := dk_3 (dk_at dksX1_revise_2 7 rfl rfl)
theorem dX1_revise_54 : decode cX1_revise 54 = .ok (.invokestatic 206, 3) := dk_184 0 206 (dk_at dksX1_revise_2 8 rfl rfl)
theorem dX1_revise_57 : decode cX1_revise 57 = .ok (.aload 5, 2) := dk_25 5 (dk_at dksX1_revise_2 11 rfl rfl)
theorem dX1_revise_59 : decode cX1_revise 59 = .ok (.iload_n 2, 1) := dk_28 (dk_at dksX1_revise_2 13 rfl rfl)
theorem dX1_revise_60 : decode cX1_revise 60 = .ok (.iload_n 3, 1) := dk_29 (dk_at dksX1_revise_2 14 rfl rfl)
theorem dX1_revise_61 : decode cX1_revise 61 = .ok (.iload 4, 2) := dk_21 4 (dk_at dksX1_revise_2 15 rfl rfl)
theorem dX1_revise_63 : decode cX1_revise 63 = .ok (.aload_n 0, 1) := dk_42 (dk_at dksX1_revise_2 17 rfl rfl)
theorem dX1_revise_64 : decode cX1_revise 64 = .ok (.getfield 209, 3) := dk_180 0 209 (dk_at dksX1_revise_2 18 rfl rfl)
theorem dX1_revise_67 : decode cX1_revise 67 = .ok (.invokevirtual 233, 3) := dk_182 0 233 (dk_at dksX1_revise_2 21 rfl rfl)
theorem dX1_revise_70 : decode cX1_revise 70 = .ok (.aload 5, 2) := dk_25 5 (dk_at dksX1_revise_3 0 rfl rfl)
theorem dX1_revise_72 : decode cX1_revise 72 = .ok (.dup, 1) := dk_89 (dk_at dksX1_revise_3 2 rfl rfl)
theorem dX1_revise_73 : decode cX1_revise 73 = .ok (.getfield 251, 3) := dk_180 0 251 (dk_at dksX1_revise_3 3 rfl rfl)
theorem dX1_revise_76 : decode cX1_revise 76 = .ok (.iconst 1, 1) := dk_4 (dk_at dksX1_revise_3 6 rfl rfl)
theorem dX1_revise_77 : decode cX1_revise 77 = .ok (.iadd, 1) := dk_96 (dk_at dksX1_revise_3 7 rfl rfl)
theorem dX1_revise_78 : decode cX1_revise 78 = .ok (.putfield 251, 3) := dk_181 0 251 (dk_at dksX1_revise_3 8 rfl rfl)
theorem dX1_revise_81 : decode cX1_revise 81 = .ok (.aload 5, 2) := dk_25 5 (dk_at dksX1_revise_3 11 rfl rfl)
theorem dX1_revise_83 : decode cX1_revise 83 = .ok (.getfield 251, 3) := dk_180 0 251 (dk_at dksX1_revise_3 13 rfl rfl)
theorem dX1_revise_86 : decode cX1_revise 86 = .ok (.ireturn, 1) := dk_172 (dk_at dksX1_revise_3 16 rfl rfl)
abbrev cX1_isApplication : ByteArray := prog_1_method_20_code
def yX1_isApplication : MethodName := ⟨RX1, "isApplication", "(I)Z"⟩
def dkwX1_isApplication_0 : List UInt8 := [27, 133, 9, 42, 180, 0, 199, 4, 100, 133, 184, 0, 98, 172]
abbrev dktX1_isApplication_0 : List UInt8 := dkwX1_isApplication_0 ++ []
theorem dksX1_isApplication_0 : cX1_isApplication.data.toList.drop 0 = dktX1_isApplication_0 := by decide +kernel
theorem dX1_isApplication_0 : decode cX1_isApplication 0 = .ok (.iload_n 1, 1) := dk_27 (dk_at dksX1_isApplication_0 0 rfl rfl)
theorem dX1_isApplication_1 : decode cX1_isApplication 1 = .ok (.i2l, 1) := dk_133 (dk_at dksX1_isApplication_0 1 rfl rfl)
theorem dX1_isApplication_2 : decode cX1_isApplication 2 = .ok (.lconst 0, 1) := dk_9 (dk_at dksX1_isApplication_0 2 rfl rfl)
theorem dX1_isApplication_3 : decode cX1_isApplication 3 = .ok (.aload_n 0, 1) := dk_42 (dk_at dksX1_isApplication_0 3 rfl rfl)
theorem dX1_isApplication_4 : decode cX1_isApplication 4 = .ok (.getfield 199, 3) := dk_180 0 199 (dk_at dksX1_isApplication_0 4 rfl rfl)
theorem dX1_isApplication_7 : decode cX1_isApplication 7 = .ok (.iconst 1, 1) := dk_4 (dk_at dksX1_isApplication_0 7 rfl rfl)
theorem dX1_isApplication_8 : decode cX1_isApplication 8 = .ok (.isub, 1) := dk_100 (dk_at dksX1_isApplication_0 8 rfl rfl)
theorem dX1_isApplication_9 : decode cX1_isApplication 9 = .ok (.i2l, 1) := dk_133 (dk_at dksX1_isApplication_0 9 rfl rfl)
theorem dX1_isApplication_10 : decode cX1_isApplication 10 = .ok (.invokestatic 98, 3) := dk_184 0 98 (dk_at dksX1_isApplication_0 10 rfl rfl)
theorem dX1_isApplication_13 : decode cX1_isApplication 13 = .ok (.ireturn, 1) := dk_172 (dk_at dksX1_isApplication_0 13 rfl rfl)
abbrev cX1_reviewer : ByteArray := prog_1_method_27_code
def yX1_reviewer : MethodName := ⟨RX1, "reviewer", "(II)I"⟩
def dkwX1_reviewer_3 : List UInt8 := [89, 180, 0, 254, 4, 96, 181, 0, 254, 42, 180, 0, 254, 4, 100, 172]
abbrev dktX1_reviewer_3 : List UInt8 := dkwX1_reviewer_3 ++ []
def dkwX1_reviewer_2 : List UInt8 := [184, 0, 206, 42, 180, 0, 69, 42, 180, 0, 254, 27, 79, 42, 180, 0, 72, 42, 180, 0, 254, 28, 79, 42]
abbrev dktX1_reviewer_2 : List UInt8 := dkwX1_reviewer_2 ++ dktX1_reviewer_3
def dkwX1_reviewer_1 : List UInt8 := [4, 167, 0, 4, 3, 184, 0, 156, 42, 180, 0, 254, 16, 10, 162, 0, 7, 4, 167, 0, 4, 3]
abbrev dktX1_reviewer_1 : List UInt8 := dkwX1_reviewer_1 ++ dktX1_reviewer_2
def dkwX1_reviewer_0 : List UInt8 := [27, 133, 9, 20, 0, 221, 184, 0, 98, 153, 0, 19, 28, 133, 9, 20, 0, 204, 184, 0, 98, 153, 0, 7]
abbrev dktX1_reviewer_0 : List UInt8 := dkwX1_reviewer_0 ++ dktX1_reviewer_1
theorem dksX1_reviewer_0 : cX1_reviewer.data.toList.drop 0 = dktX1_reviewer_0 := by decide +kernel
theorem dksX1_reviewer_1 : cX1_reviewer.data.toList.drop 24 = dktX1_reviewer_1 := dk_seg dksX1_reviewer_0 24 rfl rfl
theorem dksX1_reviewer_2 : cX1_reviewer.data.toList.drop 46 = dktX1_reviewer_2 := dk_seg dksX1_reviewer_1 22 rfl rfl
theorem dksX1_reviewer_3 : cX1_reviewer.data.toList.drop 70 = dktX1_reviewer_3 := dk_seg dksX1_reviewer_2 24 rfl rfl
theorem dX1_reviewer_0 : decode cX1_reviewer 0 = .ok (.iload_n 1, 1) := dk_27 (dk_at dksX1_reviewer_0 0 rfl rfl)
theorem dX1_reviewer_1 : decode cX1_reviewer 1 = .ok (.i2l, 1) := dk_133 (dk_at dksX1_reviewer_0 1 rfl rfl)
theorem dX1_reviewer_2 : decode cX1_reviewer 2 = .ok (.lconst 0, 1) := dk_9 (dk_at dksX1_reviewer_0 2 rfl rfl)
theorem dX1_reviewer_3 : decode cX1_reviewer 3 = .ok (.ldc2_w 221, 3) := dk_20 0 221 (dk_at dksX1_reviewer_0 3 rfl rfl)
theorem dX1_reviewer_6 : decode cX1_reviewer 6 = .ok (.invokestatic 98, 3) := dk_184 0 98 (dk_at dksX1_reviewer_0 6 rfl rfl)
theorem dX1_reviewer_9 : decode cX1_reviewer 9 = .ok (.ifCond .eq 19, 3) := dk_153 0 19 (dk_at dksX1_reviewer_0 9 rfl rfl)
theorem dX1_reviewer_12 : decode cX1_reviewer 12 = .ok (.iload_n 2, 1) := dk_28 (dk_at dksX1_reviewer_0 12 rfl rfl)
theorem dX1_reviewer_13 : decode cX1_reviewer 13 = .ok (.i2l, 1) := dk_133 (dk_at dksX1_reviewer_0 13 rfl rfl)
theorem dX1_reviewer_14 : decode cX1_reviewer 14 = .ok (.lconst 0, 1) := dk_9 (dk_at dksX1_reviewer_0 14 rfl rfl)
theorem dX1_reviewer_15 : decode cX1_reviewer 15 = .ok (.ldc2_w 204, 3) := dk_20 0 204 (dk_at dksX1_reviewer_0 15 rfl rfl)
theorem dX1_reviewer_18 : decode cX1_reviewer 18 = .ok (.invokestatic 98, 3) := dk_184 0 98 (dk_at dksX1_reviewer_0 18 rfl rfl)
theorem dX1_reviewer_21 : decode cX1_reviewer 21 = .ok (.ifCond .eq 7, 3) := dk_153 0 7 (dk_at dksX1_reviewer_0 21 rfl rfl)
theorem dX1_reviewer_24 : decode cX1_reviewer 24 = .ok (.iconst 1, 1) := dk_4 (dk_at dksX1_reviewer_1 0 rfl rfl)
theorem dX1_reviewer_25 : decode cX1_reviewer 25 = .ok (.goto 4, 3) := dk_167 0 4 (dk_at dksX1_reviewer_1 1 rfl rfl)
theorem dX1_reviewer_28 : decode cX1_reviewer 28 = .ok (.iconst 0, 1) := dk_3 (dk_at dksX1_reviewer_1 4 rfl rfl)
theorem dX1_reviewer_29 : decode cX1_reviewer 29 = .ok (.invokestatic 156, 3) := dk_184 0 156 (dk_at dksX1_reviewer_1 5 rfl rfl)
theorem dX1_reviewer_32 : decode cX1_reviewer 32 = .ok (.aload_n 0, 1) := dk_42 (dk_at dksX1_reviewer_1 8 rfl rfl)
theorem dX1_reviewer_33 : decode cX1_reviewer 33 = .ok (.getfield 254, 3) := dk_180 0 254 (dk_at dksX1_reviewer_1 9 rfl rfl)
theorem dX1_reviewer_36 : decode cX1_reviewer 36 = .ok (.bipush 10, 2) := dk_16 10 (dk_at dksX1_reviewer_1 12 rfl rfl)
theorem dX1_reviewer_38 : decode cX1_reviewer 38 = .ok (.if_icmp .ge 7, 3) := dk_162 0 7 (dk_at dksX1_reviewer_1 14 rfl rfl)
theorem dX1_reviewer_41 : decode cX1_reviewer 41 = .ok (.iconst 1, 1) := dk_4 (dk_at dksX1_reviewer_1 17 rfl rfl)
theorem dX1_reviewer_42 : decode cX1_reviewer 42 = .ok (.goto 4, 3) := dk_167 0 4 (dk_at dksX1_reviewer_1 18 rfl rfl)
theorem dX1_reviewer_45 : decode cX1_reviewer 45 = .ok (.iconst 0, 1) := dk_3 (dk_at dksX1_reviewer_1 21 rfl rfl)
theorem dX1_reviewer_46 : decode cX1_reviewer 46 = .ok (.invokestatic 206, 3) := dk_184 0 206 (dk_at dksX1_reviewer_2 0 rfl rfl)
theorem dX1_reviewer_49 : decode cX1_reviewer 49 = .ok (.aload_n 0, 1) := dk_42 (dk_at dksX1_reviewer_2 3 rfl rfl)
theorem dX1_reviewer_50 : decode cX1_reviewer 50 = .ok (.getfield 69, 3) := dk_180 0 69 (dk_at dksX1_reviewer_2 4 rfl rfl)
theorem dX1_reviewer_53 : decode cX1_reviewer 53 = .ok (.aload_n 0, 1) := dk_42 (dk_at dksX1_reviewer_2 7 rfl rfl)
theorem dX1_reviewer_54 : decode cX1_reviewer 54 = .ok (.getfield 254, 3) := dk_180 0 254 (dk_at dksX1_reviewer_2 8 rfl rfl)
theorem dX1_reviewer_57 : decode cX1_reviewer 57 = .ok (.iload_n 1, 1) := dk_27 (dk_at dksX1_reviewer_2 11 rfl rfl)
theorem dX1_reviewer_58 : decode cX1_reviewer 58 = .ok (.iastore, 1) := dk_79 (dk_at dksX1_reviewer_2 12 rfl rfl)
theorem dX1_reviewer_59 : decode cX1_reviewer 59 = .ok (.aload_n 0, 1) := dk_42 (dk_at dksX1_reviewer_2 13 rfl rfl)
theorem dX1_reviewer_60 : decode cX1_reviewer 60 = .ok (.getfield 72, 3) := dk_180 0 72 (dk_at dksX1_reviewer_2 14 rfl rfl)
theorem dX1_reviewer_63 : decode cX1_reviewer 63 = .ok (.aload_n 0, 1) := dk_42 (dk_at dksX1_reviewer_2 17 rfl rfl)
theorem dX1_reviewer_64 : decode cX1_reviewer 64 = .ok (.getfield 254, 3) := dk_180 0 254 (dk_at dksX1_reviewer_2 18 rfl rfl)
theorem dX1_reviewer_67 : decode cX1_reviewer 67 = .ok (.iload_n 2, 1) := dk_28 (dk_at dksX1_reviewer_2 21 rfl rfl)
theorem dX1_reviewer_68 : decode cX1_reviewer 68 = .ok (.iastore, 1) := dk_79 (dk_at dksX1_reviewer_2 22 rfl rfl)
theorem dX1_reviewer_69 : decode cX1_reviewer 69 = .ok (.aload_n 0, 1) := dk_42 (dk_at dksX1_reviewer_2 23 rfl rfl)
theorem dX1_reviewer_70 : decode cX1_reviewer 70 = .ok (.dup, 1) := dk_89 (dk_at dksX1_reviewer_3 0 rfl rfl)
theorem dX1_reviewer_71 : decode cX1_reviewer 71 = .ok (.getfield 254, 3) := dk_180 0 254 (dk_at dksX1_reviewer_3 1 rfl rfl)
theorem dX1_reviewer_74 : decode cX1_reviewer 74 = .ok (.iconst 1, 1) := dk_4 (dk_at dksX1_reviewer_3 4 rfl rfl)
theorem dX1_reviewer_75 : decode cX1_reviewer 75 = .ok (.iadd, 1) := dk_96 (dk_at dksX1_reviewer_3 5 rfl rfl)
theorem dX1_reviewer_76 : decode cX1_reviewer 76 = .ok (.putfield 254, 3) := dk_181 0 254 (dk_at dksX1_reviewer_3 6 rfl rfl)
theorem dX1_reviewer_79 : decode cX1_reviewer 79 = .ok (.aload_n 0, 1) := dk_42 (dk_at dksX1_reviewer_3 9 rfl rfl)
theorem dX1_reviewer_80 : decode cX1_reviewer 80 = .ok (.getfield 254, 3) := dk_180 0 254 (dk_at dksX1_reviewer_3 10 rfl rfl)
theorem dX1_reviewer_83 : decode cX1_reviewer 83 = .ok (.iconst 1, 1) := dk_4 (dk_at dksX1_reviewer_3 13 rfl rfl)
theorem dX1_reviewer_84 : decode cX1_reviewer 84 = .ok (.isub, 1) := dk_100 (dk_at dksX1_reviewer_3 14 rfl rfl)
theorem dX1_reviewer_85 : decode cX1_reviewer 85 = .ok (.ireturn, 1) := dk_172 (dk_at dksX1_reviewer_3 15 rfl rfl)
abbrev cX1_conflict : ByteArray := prog_1_method_28_code
def yX1_conflict : MethodName := ⟨RX1, "conflict", "(IIZ)Z"⟩
def dkwX1_conflict_2 : List UInt8 := [180, 0, 75, 27, 92, 46, 4, 28, 120, 130, 79, 21, 4, 172]
abbrev dktX1_conflict_2 : List UInt8 := dkwX1_conflict_2 ++ []
def dkwX1_conflict_1 : List UInt8 := [27, 46, 28, 122, 4, 126, 4, 160, 0, 7, 4, 167, 0, 4, 3, 54, 4, 21, 4, 29, 159, 0, 15, 42]
abbrev dktX1_conflict_1 : List UInt8 := dkwX1_conflict_1 ++ dktX1_conflict_2
def dkwX1_conflict_0 : List UInt8 := [42, 27, 182, 1, 1, 184, 0, 218, 28, 133, 9, 20, 0, 221, 184, 0, 98, 184, 0, 156, 42, 180, 0, 75]
abbrev dktX1_conflict_0 : List UInt8 := dkwX1_conflict_0 ++ dktX1_conflict_1
theorem dksX1_conflict_0 : cX1_conflict.data.toList.drop 0 = dktX1_conflict_0 := by decide +kernel
theorem dksX1_conflict_1 : cX1_conflict.data.toList.drop 24 = dktX1_conflict_1 := dk_seg dksX1_conflict_0 24 rfl rfl
theorem dksX1_conflict_2 : cX1_conflict.data.toList.drop 48 = dktX1_conflict_2 := dk_seg dksX1_conflict_1 24 rfl rfl
theorem dX1_conflict_0 : decode cX1_conflict 0 = .ok (.aload_n 0, 1) := dk_42 (dk_at dksX1_conflict_0 0 rfl rfl)
theorem dX1_conflict_1 : decode cX1_conflict 1 = .ok (.iload_n 1, 1) := dk_27 (dk_at dksX1_conflict_0 1 rfl rfl)
theorem dX1_conflict_2 : decode cX1_conflict 2 = .ok (.invokevirtual 257, 3) := dk_182 1 1 (dk_at dksX1_conflict_0 2 rfl rfl)
theorem dX1_conflict_5 : decode cX1_conflict 5 = .ok (.invokestatic 218, 3) := dk_184 0 218 (dk_at dksX1_conflict_0 5 rfl rfl)
theorem dX1_conflict_8 : decode cX1_conflict 8 = .ok (.iload_n 2, 1) := dk_28 (dk_at dksX1_conflict_0 8 rfl rfl)
theorem dX1_conflict_9 : decode cX1_conflict 9 = .ok (.i2l, 1) := dk_133 (dk_at dksX1_conflict_0 9 rfl rfl)
theorem dX1_conflict_10 : decode cX1_conflict 10 = .ok (.lconst 0, 1) := dk_9 (dk_at dksX1_conflict_0 10 rfl rfl)
theorem dX1_conflict_11 : decode cX1_conflict 11 = .ok (.ldc2_w 221, 3) := dk_20 0 221 (dk_at dksX1_conflict_0 11 rfl rfl)
theorem dX1_conflict_14 : decode cX1_conflict 14 = .ok (.invokestatic 98, 3) := dk_184 0 98 (dk_at dksX1_conflict_0 14 rfl rfl)
theorem dX1_conflict_17 : decode cX1_conflict 17 = .ok (.invokestatic 156, 3) := dk_184 0 156 (dk_at dksX1_conflict_0 17 rfl rfl)
theorem dX1_conflict_20 : decode cX1_conflict 20 = .ok (.aload_n 0, 1) := dk_42 (dk_at dksX1_conflict_0 20 rfl rfl)
theorem dX1_conflict_21 : decode cX1_conflict 21 = .ok (.getfield 75, 3) := dk_180 0 75 (dk_at dksX1_conflict_0 21 rfl rfl)
theorem dX1_conflict_24 : decode cX1_conflict 24 = .ok (.iload_n 1, 1) := dk_27 (dk_at dksX1_conflict_1 0 rfl rfl)
theorem dX1_conflict_25 : decode cX1_conflict 25 = .ok (.iaload, 1) := dk_46 (dk_at dksX1_conflict_1 1 rfl rfl)
theorem dX1_conflict_26 : decode cX1_conflict 26 = .ok (.iload_n 2, 1) := dk_28 (dk_at dksX1_conflict_1 2 rfl rfl)
theorem dX1_conflict_27 : decode cX1_conflict 27 = .ok (.ishr, 1) := dk_122 (dk_at dksX1_conflict_1 3 rfl rfl)
theorem dX1_conflict_28 : decode cX1_conflict 28 = .ok (.iconst 1, 1) := dk_4 (dk_at dksX1_conflict_1 4 rfl rfl)
theorem dX1_conflict_29 : decode cX1_conflict 29 = .ok (.iand, 1) := dk_126 (dk_at dksX1_conflict_1 5 rfl rfl)
theorem dX1_conflict_30 : decode cX1_conflict 30 = .ok (.iconst 1, 1) := dk_4 (dk_at dksX1_conflict_1 6 rfl rfl)
theorem dX1_conflict_31 : decode cX1_conflict 31 = .ok (.if_icmp .ne 7, 3) := dk_160 0 7 (dk_at dksX1_conflict_1 7 rfl rfl)
theorem dX1_conflict_34 : decode cX1_conflict 34 = .ok (.iconst 1, 1) := dk_4 (dk_at dksX1_conflict_1 10 rfl rfl)
theorem dX1_conflict_35 : decode cX1_conflict 35 = .ok (.goto 4, 3) := dk_167 0 4 (dk_at dksX1_conflict_1 11 rfl rfl)
theorem dX1_conflict_38 : decode cX1_conflict 38 = .ok (.iconst 0, 1) := dk_3 (dk_at dksX1_conflict_1 14 rfl rfl)
theorem dX1_conflict_39 : decode cX1_conflict 39 = .ok (.istore 4, 2) := dk_54 4 (dk_at dksX1_conflict_1 15 rfl rfl)
theorem dX1_conflict_41 : decode cX1_conflict 41 = .ok (.iload 4, 2) := dk_21 4 (dk_at dksX1_conflict_1 17 rfl rfl)
theorem dX1_conflict_43 : decode cX1_conflict 43 = .ok (.iload_n 3, 1) := dk_29 (dk_at dksX1_conflict_1 19 rfl rfl)
theorem dX1_conflict_44 : decode cX1_conflict 44 = .ok (.if_icmp .eq 15, 3) := dk_159 0 15 (dk_at dksX1_conflict_1 20 rfl rfl)
theorem dX1_conflict_47 : decode cX1_conflict 47 = .ok (.aload_n 0, 1) := dk_42 (dk_at dksX1_conflict_1 23 rfl rfl)
theorem dX1_conflict_48 : decode cX1_conflict 48 = .ok (.getfield 75, 3) := dk_180 0 75 (dk_at dksX1_conflict_2 0 rfl rfl)
theorem dX1_conflict_51 : decode cX1_conflict 51 = .ok (.iload_n 1, 1) := dk_27 (dk_at dksX1_conflict_2 3 rfl rfl)
theorem dX1_conflict_52 : decode cX1_conflict 52 = .ok (.dup2, 1) := dk_92 (dk_at dksX1_conflict_2 4 rfl rfl)
theorem dX1_conflict_53 : decode cX1_conflict 53 = .ok (.iaload, 1) := dk_46 (dk_at dksX1_conflict_2 5 rfl rfl)
theorem dX1_conflict_54 : decode cX1_conflict 54 = .ok (.iconst 1, 1) := dk_4 (dk_at dksX1_conflict_2 6 rfl rfl)
theorem dX1_conflict_55 : decode cX1_conflict 55 = .ok (.iload_n 2, 1) := dk_28 (dk_at dksX1_conflict_2 7 rfl rfl)
theorem dX1_conflict_56 : decode cX1_conflict 56 = .ok (.ishl, 1) := dk_120 (dk_at dksX1_conflict_2 8 rfl rfl)
theorem dX1_conflict_57 : decode cX1_conflict 57 = .ok (.ixor, 1) := dk_130 (dk_at dksX1_conflict_2 9 rfl rfl)
theorem dX1_conflict_58 : decode cX1_conflict 58 = .ok (.iastore, 1) := dk_79 (dk_at dksX1_conflict_2 10 rfl rfl)
theorem dX1_conflict_59 : decode cX1_conflict 59 = .ok (.iload 4, 2) := dk_21 4 (dk_at dksX1_conflict_2 11 rfl rfl)
theorem dX1_conflict_61 : decode cX1_conflict 61 = .ok (.ireturn, 1) := dk_172 (dk_at dksX1_conflict_2 13 rfl rfl)
abbrev cX1_isReviewer : ByteArray := prog_1_method_26_code
def yX1_isReviewer : MethodName := ⟨RX1, "isReviewer", "(I)Z"⟩
def dkwX1_isReviewer_0 : List UInt8 := [27, 133, 9, 42, 180, 0, 254, 4, 100, 133, 184, 0, 98, 172]
abbrev dktX1_isReviewer_0 : List UInt8 := dkwX1_isReviewer_0 ++ []
theorem dksX1_isReviewer_0 : cX1_isReviewer.data.toList.drop 0 = dktX1_isReviewer_0 := by decide +kernel
theorem dX1_isReviewer_0 : decode cX1_isReviewer 0 = .ok (.iload_n 1, 1) := dk_27 (dk_at dksX1_isReviewer_0 0 rfl rfl)
theorem dX1_isReviewer_1 : decode cX1_isReviewer 1 = .ok (.i2l, 1) := dk_133 (dk_at dksX1_isReviewer_0 1 rfl rfl)
theorem dX1_isReviewer_2 : decode cX1_isReviewer 2 = .ok (.lconst 0, 1) := dk_9 (dk_at dksX1_isReviewer_0 2 rfl rfl)
theorem dX1_isReviewer_3 : decode cX1_isReviewer 3 = .ok (.aload_n 0, 1) := dk_42 (dk_at dksX1_isReviewer_0 3 rfl rfl)
theorem dX1_isReviewer_4 : decode cX1_isReviewer 4 = .ok (.getfield 254, 3) := dk_180 0 254 (dk_at dksX1_isReviewer_0 4 rfl rfl)
theorem dX1_isReviewer_7 : decode cX1_isReviewer 7 = .ok (.iconst 1, 1) := dk_4 (dk_at dksX1_isReviewer_0 7 rfl rfl)
theorem dX1_isReviewer_8 : decode cX1_isReviewer 8 = .ok (.isub, 1) := dk_100 (dk_at dksX1_isReviewer_0 8 rfl rfl)
theorem dX1_isReviewer_9 : decode cX1_isReviewer 9 = .ok (.i2l, 1) := dk_133 (dk_at dksX1_isReviewer_0 9 rfl rfl)
theorem dX1_isReviewer_10 : decode cX1_isReviewer 10 = .ok (.invokestatic 98, 3) := dk_184 0 98 (dk_at dksX1_isReviewer_0 10 rfl rfl)
theorem dX1_isReviewer_13 : decode cX1_isReviewer 13 = .ok (.ireturn, 1) := dk_172 (dk_at dksX1_isReviewer_0 13 rfl rfl)
abbrev cX1_seat : ByteArray := prog_1_method_29_code
def yX1_seat : MethodName := ⟨RX1, "seat", "(IIZ)Z"⟩
def dkwX1_seat_2 : List UInt8 := [159, 0, 15, 42, 180, 0, 78, 27, 92, 46, 4, 28, 120, 130, 79, 21, 4, 172]
abbrev dktX1_seat_2 : List UInt8 := dkwX1_seat_2 ++ []
def dkwX1_seat_1 : List UInt8 := [42, 180, 0, 78, 27, 46, 28, 122, 4, 126, 4, 160, 0, 7, 4, 167, 0, 4, 3, 54, 4, 21, 4, 29]
abbrev dktX1_seat_1 : List UInt8 := dkwX1_seat_1 ++ dktX1_seat_2
def dkwX1_seat_0 : List UInt8 := [42, 27, 182, 0, 214, 153, 0, 15, 42, 28, 182, 1, 1, 153, 0, 7, 4, 167, 0, 4, 3, 184, 0, 218]
abbrev dktX1_seat_0 : List UInt8 := dkwX1_seat_0 ++ dktX1_seat_1
theorem dksX1_seat_0 : cX1_seat.data.toList.drop 0 = dktX1_seat_0 := by decide +kernel
theorem dksX1_seat_1 : cX1_seat.data.toList.drop 24 = dktX1_seat_1 := dk_seg dksX1_seat_0 24 rfl rfl
theorem dksX1_seat_2 : cX1_seat.data.toList.drop 48 = dktX1_seat_2 := dk_seg dksX1_seat_1 24 rfl rfl
theorem dX1_seat_0 : decode cX1_seat 0 = .ok (.aload_n 0, 1) := dk_42 (dk_at dksX1_seat_0 0 rfl rfl)
theorem dX1_seat_1 : decode cX1_seat 1 = .ok (.iload_n 1, 1) := dk_27 (dk_at dksX1_seat_0 1 rfl rfl)
theorem dX1_seat_2 : decode cX1_seat 2 = .ok (.invokevirtual 214, 3) := dk_182 0 214 (dk_at dksX1_seat_0 2 rfl rfl)
theorem dX1_seat_5 : decode cX1_seat 5 = .ok (.ifCond .eq 15, 3) := dk_153 0 15 (dk_at dksX1_seat_0 5 rfl rfl)
theorem dX1_seat_8 : decode cX1_seat 8 = .ok (.aload_n 0, 1) := dk_42 (dk_at dksX1_seat_0 8 rfl rfl)
theorem dX1_seat_9 : decode cX1_seat 9 = .ok (.iload_n 2, 1) := dk_28 (dk_at dksX1_seat_0 9 rfl rfl)
theorem dX1_seat_10 : decode cX1_seat 10 = .ok (.invokevirtual 257, 3) := dk_182 1 1 (dk_at dksX1_seat_0 10 rfl rfl)
theorem dX1_seat_13 : decode cX1_seat 13 = .ok (.ifCond .eq 7, 3) := dk_153 0 7 (dk_at dksX1_seat_0 13 rfl rfl)
theorem dX1_seat_16 : decode cX1_seat 16 = .ok (.iconst 1, 1) := dk_4 (dk_at dksX1_seat_0 16 rfl rfl)
theorem dX1_seat_17 : decode cX1_seat 17 = .ok (.goto 4, 3) := dk_167 0 4 (dk_at dksX1_seat_0 17 rfl rfl)
theorem dX1_seat_20 : decode cX1_seat 20 = .ok (.iconst 0, 1) := dk_3 (dk_at dksX1_seat_0 20 rfl rfl)
theorem dX1_seat_21 : decode cX1_seat 21 = .ok (.invokestatic 218, 3) := dk_184 0 218 (dk_at dksX1_seat_0 21 rfl rfl)
theorem dX1_seat_24 : decode cX1_seat 24 = .ok (.aload_n 0, 1) := dk_42 (dk_at dksX1_seat_1 0 rfl rfl)
theorem dX1_seat_25 : decode cX1_seat 25 = .ok (.getfield 78, 3) := dk_180 0 78 (dk_at dksX1_seat_1 1 rfl rfl)
theorem dX1_seat_28 : decode cX1_seat 28 = .ok (.iload_n 1, 1) := dk_27 (dk_at dksX1_seat_1 4 rfl rfl)
theorem dX1_seat_29 : decode cX1_seat 29 = .ok (.iaload, 1) := dk_46 (dk_at dksX1_seat_1 5 rfl rfl)
theorem dX1_seat_30 : decode cX1_seat 30 = .ok (.iload_n 2, 1) := dk_28 (dk_at dksX1_seat_1 6 rfl rfl)
theorem dX1_seat_31 : decode cX1_seat 31 = .ok (.ishr, 1) := dk_122 (dk_at dksX1_seat_1 7 rfl rfl)
theorem dX1_seat_32 : decode cX1_seat 32 = .ok (.iconst 1, 1) := dk_4 (dk_at dksX1_seat_1 8 rfl rfl)
theorem dX1_seat_33 : decode cX1_seat 33 = .ok (.iand, 1) := dk_126 (dk_at dksX1_seat_1 9 rfl rfl)
theorem dX1_seat_34 : decode cX1_seat 34 = .ok (.iconst 1, 1) := dk_4 (dk_at dksX1_seat_1 10 rfl rfl)
theorem dX1_seat_35 : decode cX1_seat 35 = .ok (.if_icmp .ne 7, 3) := dk_160 0 7 (dk_at dksX1_seat_1 11 rfl rfl)
theorem dX1_seat_38 : decode cX1_seat 38 = .ok (.iconst 1, 1) := dk_4 (dk_at dksX1_seat_1 14 rfl rfl)
theorem dX1_seat_39 : decode cX1_seat 39 = .ok (.goto 4, 3) := dk_167 0 4 (dk_at dksX1_seat_1 15 rfl rfl)
theorem dX1_seat_42 : decode cX1_seat 42 = .ok (.iconst 0, 1) := dk_3 (dk_at dksX1_seat_1 18 rfl rfl)
theorem dX1_seat_43 : decode cX1_seat 43 = .ok (.istore 4, 2) := dk_54 4 (dk_at dksX1_seat_1 19 rfl rfl)
theorem dX1_seat_45 : decode cX1_seat 45 = .ok (.iload 4, 2) := dk_21 4 (dk_at dksX1_seat_1 21 rfl rfl)
theorem dX1_seat_47 : decode cX1_seat 47 = .ok (.iload_n 3, 1) := dk_29 (dk_at dksX1_seat_1 23 rfl rfl)
theorem dX1_seat_48 : decode cX1_seat 48 = .ok (.if_icmp .eq 15, 3) := dk_159 0 15 (dk_at dksX1_seat_2 0 rfl rfl)
theorem dX1_seat_51 : decode cX1_seat 51 = .ok (.aload_n 0, 1) := dk_42 (dk_at dksX1_seat_2 3 rfl rfl)
theorem dX1_seat_52 : decode cX1_seat 52 = .ok (.getfield 78, 3) := dk_180 0 78 (dk_at dksX1_seat_2 4 rfl rfl)
theorem dX1_seat_55 : decode cX1_seat 55 = .ok (.iload_n 1, 1) := dk_27 (dk_at dksX1_seat_2 7 rfl rfl)
theorem dX1_seat_56 : decode cX1_seat 56 = .ok (.dup2, 1) := dk_92 (dk_at dksX1_seat_2 8 rfl rfl)
theorem dX1_seat_57 : decode cX1_seat 57 = .ok (.iaload, 1) := dk_46 (dk_at dksX1_seat_2 9 rfl rfl)
theorem dX1_seat_58 : decode cX1_seat 58 = .ok (.iconst 1, 1) := dk_4 (dk_at dksX1_seat_2 10 rfl rfl)
theorem dX1_seat_59 : decode cX1_seat 59 = .ok (.iload_n 2, 1) := dk_28 (dk_at dksX1_seat_2 11 rfl rfl)
theorem dX1_seat_60 : decode cX1_seat 60 = .ok (.ishl, 1) := dk_120 (dk_at dksX1_seat_2 12 rfl rfl)
theorem dX1_seat_61 : decode cX1_seat 61 = .ok (.ixor, 1) := dk_130 (dk_at dksX1_seat_2 13 rfl rfl)
theorem dX1_seat_62 : decode cX1_seat 62 = .ok (.iastore, 1) := dk_79 (dk_at dksX1_seat_2 14 rfl rfl)
theorem dX1_seat_63 : decode cX1_seat 63 = .ok (.iload 4, 2) := dk_21 4 (dk_at dksX1_seat_2 15 rfl rfl)
theorem dX1_seat_65 : decode cX1_seat 65 = .ok (.ireturn, 1) := dk_172 (dk_at dksX1_seat_2 17 rfl rfl)
abbrev cX1_review : ByteArray := prog_1_method_31_code
def yX1_review : MethodName := ⟨RX1, "review", "(III)I"⟩
def dkwX1_review_5 : List UInt8 := [42, 27, 25, 4, 182, 1, 12, 153, 0, 5, 7, 172, 25, 4, 180, 1, 16, 27, 29, 79, 3, 172]
abbrev dktX1_review_5 : List UInt8 := dkwX1_review_5 ++ []
def dkwX1_review_4 : List UInt8 := [153, 0, 5, 5, 172, 42, 180, 0, 78, 25, 4, 180, 0, 239, 46, 27, 122, 4, 126, 154, 0, 5, 6, 172]
abbrev dktX1_review_4 : List UInt8 := dkwX1_review_4 ++ dktX1_review_5
def dkwX1_review_3 : List UInt8 := [180, 0, 47, 25, 4, 180, 0, 239, 46, 163, 0, 5, 4, 172, 42, 180, 0, 59, 25, 4, 180, 0, 239, 51]
abbrev dktX1_review_3 : List UInt8 := dkwX1_review_3 ++ dktX1_review_4
def dkwX1_review_2 : List UInt8 := [180, 0, 242, 178, 0, 246, 165, 0, 7, 4, 167, 0, 4, 3, 184, 0, 206, 42, 180, 0, 209, 42]
abbrev dktX1_review_2 : List UInt8 := dkwX1_review_2 ++ dktX1_review_3
def dkwX1_review_1 : List UInt8 := [29, 133, 9, 20, 1, 10, 184, 0, 98, 184, 0, 156, 42, 180, 0, 65, 28, 50, 58, 4, 25, 4]
abbrev dktX1_review_1 : List UInt8 := dkwX1_review_1 ++ dktX1_review_2
def dkwX1_review_0 : List UInt8 := [42, 27, 182, 1, 1, 153, 0, 15, 42, 28, 182, 0, 236, 153, 0, 7, 4, 167, 0, 4, 3, 184, 0, 218]
abbrev dktX1_review_0 : List UInt8 := dkwX1_review_0 ++ dktX1_review_1
theorem dksX1_review_0 : cX1_review.data.toList.drop 0 = dktX1_review_0 := by decide +kernel
theorem dksX1_review_1 : cX1_review.data.toList.drop 24 = dktX1_review_1 := dk_seg dksX1_review_0 24 rfl rfl
theorem dksX1_review_2 : cX1_review.data.toList.drop 46 = dktX1_review_2 := dk_seg dksX1_review_1 22 rfl rfl
theorem dksX1_review_3 : cX1_review.data.toList.drop 68 = dktX1_review_3 := dk_seg dksX1_review_2 22 rfl rfl
theorem dksX1_review_4 : cX1_review.data.toList.drop 92 = dktX1_review_4 := dk_seg dksX1_review_3 24 rfl rfl
theorem dksX1_review_5 : cX1_review.data.toList.drop 116 = dktX1_review_5 := dk_seg dksX1_review_4 24 rfl rfl
theorem dX1_review_0 : decode cX1_review 0 = .ok (.aload_n 0, 1) := dk_42 (dk_at dksX1_review_0 0 rfl rfl)
theorem dX1_review_1 : decode cX1_review 1 = .ok (.iload_n 1, 1) := dk_27 (dk_at dksX1_review_0 1 rfl rfl)
theorem dX1_review_2 : decode cX1_review 2 = .ok (.invokevirtual 257, 3) := dk_182 1 1 (dk_at dksX1_review_0 2 rfl rfl)
theorem dX1_review_5 : decode cX1_review 5 = .ok (.ifCond .eq 15, 3) := dk_153 0 15 (dk_at dksX1_review_0 5 rfl rfl)
theorem dX1_review_8 : decode cX1_review 8 = .ok (.aload_n 0, 1) := dk_42 (dk_at dksX1_review_0 8 rfl rfl)
theorem dX1_review_9 : decode cX1_review 9 = .ok (.iload_n 2, 1) := dk_28 (dk_at dksX1_review_0 9 rfl rfl)
theorem dX1_review_10 : decode cX1_review 10 = .ok (.invokevirtual 236, 3) := dk_182 0 236 (dk_at dksX1_review_0 10 rfl rfl)
theorem dX1_review_13 : decode cX1_review 13 = .ok (.ifCond .eq 7, 3) := dk_153 0 7 (dk_at dksX1_review_0 13 rfl rfl)
theorem dX1_review_16 : decode cX1_review 16 = .ok (.iconst 1, 1) := dk_4 (dk_at dksX1_review_0 16 rfl rfl)
theorem dX1_review_17 : decode cX1_review 17 = .ok (.goto 4, 3) := dk_167 0 4 (dk_at dksX1_review_0 17 rfl rfl)
theorem dX1_review_20 : decode cX1_review 20 = .ok (.iconst 0, 1) := dk_3 (dk_at dksX1_review_0 20 rfl rfl)
theorem dX1_review_21 : decode cX1_review 21 = .ok (.invokestatic 218, 3) := dk_184 0 218 (dk_at dksX1_review_0 21 rfl rfl)
theorem dX1_review_24 : decode cX1_review 24 = .ok (.iload_n 3, 1) := dk_29 (dk_at dksX1_review_1 0 rfl rfl)
theorem dX1_review_25 : decode cX1_review 25 = .ok (.i2l, 1) := dk_133 (dk_at dksX1_review_1 1 rfl rfl)
theorem dX1_review_26 : decode cX1_review 26 = .ok (.lconst 0, 1) := dk_9 (dk_at dksX1_review_1 2 rfl rfl)
theorem dX1_review_27 : decode cX1_review 27 = .ok (.ldc2_w 266, 3) := dk_20 1 10 (dk_at dksX1_review_1 3 rfl rfl)
theorem dX1_review_30 : decode cX1_review 30 = .ok (.invokestatic 98, 3) := dk_184 0 98 (dk_at dksX1_review_1 6 rfl rfl)
theorem dX1_review_33 : decode cX1_review 33 = .ok (.invokestatic 156, 3) := dk_184 0 156 (dk_at dksX1_review_1 9 rfl rfl)
theorem dX1_review_36 : decode cX1_review 36 = .ok (.aload_n 0, 1) := dk_42 (dk_at dksX1_review_1 12 rfl rfl)
theorem dX1_review_37 : decode cX1_review 37 = .ok (.getfield 65, 3) := dk_180 0 65 (dk_at dksX1_review_1 13 rfl rfl)
theorem dX1_review_40 : decode cX1_review 40 = .ok (.iload_n 2, 1) := dk_28 (dk_at dksX1_review_1 16 rfl rfl)
theorem dX1_review_41 : decode cX1_review 41 = .ok (.aaload, 1) := dk_50 (dk_at dksX1_review_1 17 rfl rfl)
theorem dX1_review_42 : decode cX1_review 42 = .ok (.astore 4, 2) := dk_58 4 (dk_at dksX1_review_1 18 rfl rfl)
theorem dX1_review_44 : decode cX1_review 44 = .ok (.aload 4, 2) := dk_25 4 (dk_at dksX1_review_1 20 rfl rfl)
theorem dX1_review_46 : decode cX1_review 46 = .ok (.getfield 242, 3) := dk_180 0 242 (dk_at dksX1_review_2 0 rfl rfl)
theorem dX1_review_49 : decode cX1_review 49 = .ok (.getstatic 246, 3) := dk_178 0 246 (dk_at dksX1_review_2 3 rfl rfl)
theorem dX1_review_52 : decode cX1_review 52 = .ok (.if_acmp .eq 7, 3) := dk_165 0 7 (dk_at dksX1_review_2 6 rfl rfl)
theorem dX1_review_55 : decode cX1_review 55 = .ok (.iconst 1, 1) := dk_4 (dk_at dksX1_review_2 9 rfl rfl)
theorem dX1_review_56 : decode cX1_review 56 = .ok (.goto 4, 3) := dk_167 0 4 (dk_at dksX1_review_2 10 rfl rfl)
theorem dX1_review_59 : decode cX1_review 59 = .ok (.iconst 0, 1) := dk_3 (dk_at dksX1_review_2 13 rfl rfl)
theorem dX1_review_60 : decode cX1_review 60 = .ok (.invokestatic 206, 3) := dk_184 0 206 (dk_at dksX1_review_2 14 rfl rfl)
theorem dX1_review_63 : decode cX1_review 63 = .ok (.aload_n 0, 1) := dk_42 (dk_at dksX1_review_2 17 rfl rfl)
theorem dX1_review_64 : decode cX1_review 64 = .ok (.getfield 209, 3) := dk_180 0 209 (dk_at dksX1_review_2 18 rfl rfl)
theorem dX1_review_67 : decode cX1_review 67 = .ok (.aload_n 0, 1) := dk_42 (dk_at dksX1_review_2 21 rfl rfl)
theorem dX1_review_68 : decode cX1_review 68 = .ok (.getfield 47, 3) := dk_180 0 47 (dk_at dksX1_review_3 0 rfl rfl)
theorem dX1_review_71 : decode cX1_review 71 = .ok (.aload 4, 2) := dk_25 4 (dk_at dksX1_review_3 3 rfl rfl)
theorem dX1_review_73 : decode cX1_review 73 = .ok (.getfield 239, 3) := dk_180 0 239 (dk_at dksX1_review_3 5 rfl rfl)
theorem dX1_review_76 : decode cX1_review 76 = .ok (.iaload, 1) := dk_46 (dk_at dksX1_review_3 8 rfl rfl)
theorem dX1_review_77 : decode cX1_review 77 = .ok (.if_icmp .gt 5, 3) := dk_163 0 5 (dk_at dksX1_review_3 9 rfl rfl)
theorem dX1_review_80 : decode cX1_review 80 = .ok (.iconst 1, 1) := dk_4 (dk_at dksX1_review_3 12 rfl rfl)
theorem dX1_review_81 : decode cX1_review 81 = .ok (.ireturn, 1) := dk_172 (dk_at dksX1_review_3 13 rfl rfl)
theorem dX1_review_82 : decode cX1_review 82 = .ok (.aload_n 0, 1) := dk_42 (dk_at dksX1_review_3 14 rfl rfl)
theorem dX1_review_83 : decode cX1_review 83 = .ok (.getfield 59, 3) := dk_180 0 59 (dk_at dksX1_review_3 15 rfl rfl)
theorem dX1_review_86 : decode cX1_review 86 = .ok (.aload 4, 2) := dk_25 4 (dk_at dksX1_review_3 18 rfl rfl)
theorem dX1_review_88 : decode cX1_review 88 = .ok (.getfield 239, 3) := dk_180 0 239 (dk_at dksX1_review_3 20 rfl rfl)
theorem dX1_review_91 : decode cX1_review 91 = .ok (.baload, 1) := dk_51 (dk_at dksX1_review_3 23 rfl rfl)
theorem dX1_review_92 : decode cX1_review 92 = .ok (.ifCond .eq 5, 3) := dk_153 0 5 (dk_at dksX1_review_4 0 rfl rfl)
theorem dX1_review_95 : decode cX1_review 95 = .ok (.iconst 2, 1) := dk_5 (dk_at dksX1_review_4 3 rfl rfl)
theorem dX1_review_96 : decode cX1_review 96 = .ok (.ireturn, 1) := dk_172 (dk_at dksX1_review_4 4 rfl rfl)
theorem dX1_review_97 : decode cX1_review 97 = .ok (.aload_n 0, 1) := dk_42 (dk_at dksX1_review_4 5 rfl rfl)
theorem dX1_review_98 : decode cX1_review 98 = .ok (.getfield 78, 3) := dk_180 0 78 (dk_at dksX1_review_4 6 rfl rfl)
theorem dX1_review_101 : decode cX1_review 101 = .ok (.aload 4, 2) := dk_25 4 (dk_at dksX1_review_4 9 rfl rfl)
theorem dX1_review_103 : decode cX1_review 103 = .ok (.getfield 239, 3) := dk_180 0 239 (dk_at dksX1_review_4 11 rfl rfl)
theorem dX1_review_106 : decode cX1_review 106 = .ok (.iaload, 1) := dk_46 (dk_at dksX1_review_4 14 rfl rfl)
theorem dX1_review_107 : decode cX1_review 107 = .ok (.iload_n 1, 1) := dk_27 (dk_at dksX1_review_4 15 rfl rfl)
theorem dX1_review_108 : decode cX1_review 108 = .ok (.ishr, 1) := dk_122 (dk_at dksX1_review_4 16 rfl rfl)
theorem dX1_review_109 : decode cX1_review 109 = .ok (.iconst 1, 1) := dk_4 (dk_at dksX1_review_4 17 rfl rfl)
theorem dX1_review_110 : decode cX1_review 110 = .ok (.iand, 1) := dk_126 (dk_at dksX1_review_4 18 rfl rfl)
theorem dX1_review_111 : decode cX1_review 111 = .ok (.ifCond .ne 5, 3) := dk_154 0 5 (dk_at dksX1_review_4 19 rfl rfl)
theorem dX1_review_114 : decode cX1_review 114 = .ok (.iconst 3, 1) := dk_6 (dk_at dksX1_review_4 22 rfl rfl)
theorem dX1_review_115 : decode cX1_review 115 = .ok (.ireturn, 1) := dk_172 (dk_at dksX1_review_4 23 rfl rfl)
theorem dX1_review_116 : decode cX1_review 116 = .ok (.aload_n 0, 1) := dk_42 (dk_at dksX1_review_5 0 rfl rfl)
theorem dX1_review_117 : decode cX1_review 117 = .ok (.iload_n 1, 1) := dk_27 (dk_at dksX1_review_5 1 rfl rfl)
theorem dX1_review_118 : decode cX1_review 118 = .ok (.aload 4, 2) := dk_25 4 (dk_at dksX1_review_5 2 rfl rfl)
theorem dX1_review_120 : decode cX1_review 120 = .ok (.invokevirtual 268, 3) := dk_182 1 12 (dk_at dksX1_review_5 4 rfl rfl)
theorem dX1_review_123 : decode cX1_review 123 = .ok (.ifCond .eq 5, 3) := dk_153 0 5 (dk_at dksX1_review_5 7 rfl rfl)
theorem dX1_review_126 : decode cX1_review 126 = .ok (.iconst 4, 1) := dk_7 (dk_at dksX1_review_5 10 rfl rfl)
theorem dX1_review_127 : decode cX1_review 127 = .ok (.ireturn, 1) := dk_172 (dk_at dksX1_review_5 11 rfl rfl)
theorem dX1_review_128 : decode cX1_review 128 = .ok (.aload 4, 2) := dk_25 4 (dk_at dksX1_review_5 12 rfl rfl)
theorem dX1_review_130 : decode cX1_review 130 = .ok (.getfield 272, 3) := dk_180 1 16 (dk_at dksX1_review_5 14 rfl rfl)
theorem dX1_review_133 : decode cX1_review 133 = .ok (.iload_n 1, 1) := dk_27 (dk_at dksX1_review_5 17 rfl rfl)
theorem dX1_review_134 : decode cX1_review 134 = .ok (.iload_n 3, 1) := dk_29 (dk_at dksX1_review_5 18 rfl rfl)
theorem dX1_review_135 : decode cX1_review 135 = .ok (.iastore, 1) := dk_79 (dk_at dksX1_review_5 19 rfl rfl)
theorem dX1_review_136 : decode cX1_review 136 = .ok (.iconst 0, 1) := dk_3 (dk_at dksX1_review_5 20 rfl rfl)
theorem dX1_review_137 : decode cX1_review 137 = .ok (.ireturn, 1) := dk_172 (dk_at dksX1_review_5 21 rfl rfl)
abbrev cX1_hasConflict : ByteArray := prog_1_method_30_code
def yX1_hasConflict : MethodName := ⟨RX1, "hasConflict", "(ILGrantworks$Application;)Z"⟩
def dkwX1_hasConflict_2 : List UInt8 := [3, 172]
abbrev dktX1_hasConflict_2 : List UInt8 := dkwX1_hasConflict_2 ++ []
def dkwX1_hasConflict_1 : List UInt8 := [159, 0, 20, 42, 180, 0, 75, 27, 46, 44, 180, 1, 4, 122, 4, 126, 4, 160, 0, 7, 4, 167, 0, 4]
abbrev dktX1_hasConflict_1 : List UInt8 := dkwX1_hasConflict_1 ++ dktX1_hasConflict_2
def dkwX1_hasConflict_0 : List UInt8 := [42, 180, 0, 69, 27, 46, 44, 180, 1, 4, 159, 0, 33, 42, 180, 0, 72, 27, 46, 44, 180, 1, 7]
abbrev dktX1_hasConflict_0 : List UInt8 := dkwX1_hasConflict_0 ++ dktX1_hasConflict_1
theorem dksX1_hasConflict_0 : cX1_hasConflict.data.toList.drop 0 = dktX1_hasConflict_0 := by decide +kernel
theorem dksX1_hasConflict_1 : cX1_hasConflict.data.toList.drop 23 = dktX1_hasConflict_1 := dk_seg dksX1_hasConflict_0 23 rfl rfl
theorem dksX1_hasConflict_2 : cX1_hasConflict.data.toList.drop 47 = dktX1_hasConflict_2 := dk_seg dksX1_hasConflict_1 24 rfl rfl
theorem dX1_hasConflict_0 : decode cX1_hasConflict 0 = .ok (.aload_n 0, 1) := dk_42 (dk_at dksX1_hasConflict_0 0 rfl rfl)
theorem dX1_hasConflict_1 : decode cX1_hasConflict 1 = .ok (.getfield 69, 3) := dk_180 0 69 (dk_at dksX1_hasConflict_0 1 rfl rfl)
theorem dX1_hasConflict_4 : decode cX1_hasConflict 4 = .ok (.iload_n 1, 1) := dk_27 (dk_at dksX1_hasConflict_0 4 rfl rfl)
theorem dX1_hasConflict_5 : decode cX1_hasConflict 5 = .ok (.iaload, 1) := dk_46 (dk_at dksX1_hasConflict_0 5 rfl rfl)
theorem dX1_hasConflict_6 : decode cX1_hasConflict 6 = .ok (.aload_n 2, 1) := dk_44 (dk_at dksX1_hasConflict_0 6 rfl rfl)
theorem dX1_hasConflict_7 : decode cX1_hasConflict 7 = .ok (.getfield 260, 3) := dk_180 1 4 (dk_at dksX1_hasConflict_0 7 rfl rfl)
theorem dX1_hasConflict_10 : decode cX1_hasConflict 10 = .ok (.if_icmp .eq 33, 3) := dk_159 0 33 (dk_at dksX1_hasConflict_0 10 rfl rfl)
theorem dX1_hasConflict_13 : decode cX1_hasConflict 13 = .ok (.aload_n 0, 1) := dk_42 (dk_at dksX1_hasConflict_0 13 rfl rfl)
theorem dX1_hasConflict_14 : decode cX1_hasConflict 14 = .ok (.getfield 72, 3) := dk_180 0 72 (dk_at dksX1_hasConflict_0 14 rfl rfl)
theorem dX1_hasConflict_17 : decode cX1_hasConflict 17 = .ok (.iload_n 1, 1) := dk_27 (dk_at dksX1_hasConflict_0 17 rfl rfl)
theorem dX1_hasConflict_18 : decode cX1_hasConflict 18 = .ok (.iaload, 1) := dk_46 (dk_at dksX1_hasConflict_0 18 rfl rfl)
theorem dX1_hasConflict_19 : decode cX1_hasConflict 19 = .ok (.aload_n 2, 1) := dk_44 (dk_at dksX1_hasConflict_0 19 rfl rfl)
theorem dX1_hasConflict_20 : decode cX1_hasConflict 20 = .ok (.getfield 263, 3) := dk_180 1 7 (dk_at dksX1_hasConflict_0 20 rfl rfl)
theorem dX1_hasConflict_23 : decode cX1_hasConflict 23 = .ok (.if_icmp .eq 20, 3) := dk_159 0 20 (dk_at dksX1_hasConflict_1 0 rfl rfl)
theorem dX1_hasConflict_26 : decode cX1_hasConflict 26 = .ok (.aload_n 0, 1) := dk_42 (dk_at dksX1_hasConflict_1 3 rfl rfl)
theorem dX1_hasConflict_27 : decode cX1_hasConflict 27 = .ok (.getfield 75, 3) := dk_180 0 75 (dk_at dksX1_hasConflict_1 4 rfl rfl)
theorem dX1_hasConflict_30 : decode cX1_hasConflict 30 = .ok (.iload_n 1, 1) := dk_27 (dk_at dksX1_hasConflict_1 7 rfl rfl)
theorem dX1_hasConflict_31 : decode cX1_hasConflict 31 = .ok (.iaload, 1) := dk_46 (dk_at dksX1_hasConflict_1 8 rfl rfl)
theorem dX1_hasConflict_32 : decode cX1_hasConflict 32 = .ok (.aload_n 2, 1) := dk_44 (dk_at dksX1_hasConflict_1 9 rfl rfl)
theorem dX1_hasConflict_33 : decode cX1_hasConflict 33 = .ok (.getfield 260, 3) := dk_180 1 4 (dk_at dksX1_hasConflict_1 10 rfl rfl)
theorem dX1_hasConflict_36 : decode cX1_hasConflict 36 = .ok (.ishr, 1) := dk_122 (dk_at dksX1_hasConflict_1 13 rfl rfl)
theorem dX1_hasConflict_37 : decode cX1_hasConflict 37 = .ok (.iconst 1, 1) := dk_4 (dk_at dksX1_hasConflict_1 14 rfl rfl)
theorem dX1_hasConflict_38 : decode cX1_hasConflict 38 = .ok (.iand, 1) := dk_126 (dk_at dksX1_hasConflict_1 15 rfl rfl)
theorem dX1_hasConflict_39 : decode cX1_hasConflict 39 = .ok (.iconst 1, 1) := dk_4 (dk_at dksX1_hasConflict_1 16 rfl rfl)
theorem dX1_hasConflict_40 : decode cX1_hasConflict 40 = .ok (.if_icmp .ne 7, 3) := dk_160 0 7 (dk_at dksX1_hasConflict_1 17 rfl rfl)
theorem dX1_hasConflict_43 : decode cX1_hasConflict 43 = .ok (.iconst 1, 1) := dk_4 (dk_at dksX1_hasConflict_1 20 rfl rfl)
theorem dX1_hasConflict_44 : decode cX1_hasConflict 44 = .ok (.goto 4, 3) := dk_167 0 4 (dk_at dksX1_hasConflict_1 21 rfl rfl)
theorem dX1_hasConflict_47 : decode cX1_hasConflict 47 = .ok (.iconst 0, 1) := dk_3 (dk_at dksX1_hasConflict_2 0 rfl rfl)
theorem dX1_hasConflict_48 : decode cX1_hasConflict 48 = .ok (.ireturn, 1) := dk_172 (dk_at dksX1_hasConflict_2 1 rfl rfl)
abbrev cX1_alike : ByteArray := prog_1_method_33_code
def yX1_alike : MethodName := ⟨RX1, "alike", "(II)I"⟩
def dkwX1_alike_2 : List UInt8 := [27, 45, 182, 1, 29, 172]
abbrev dktX1_alike_2 : List UInt8 := dkwX1_alike_2 ++ []
def dkwX1_alike_1 : List UInt8 := [42, 180, 0, 65, 28, 50, 78, 45, 180, 1, 16, 27, 46, 2, 160, 0, 9, 19, 1, 28, 167, 0, 9, 42]
abbrev dktX1_alike_1 : List UInt8 := dkwX1_alike_1 ++ dktX1_alike_2
def dkwX1_alike_0 : List UInt8 := [42, 27, 182, 1, 1, 153, 0, 15, 42, 28, 182, 0, 236, 153, 0, 7, 4, 167, 0, 4, 3, 184, 0, 218]
abbrev dktX1_alike_0 : List UInt8 := dkwX1_alike_0 ++ dktX1_alike_1
theorem dksX1_alike_0 : cX1_alike.data.toList.drop 0 = dktX1_alike_0 := by decide +kernel
theorem dksX1_alike_1 : cX1_alike.data.toList.drop 24 = dktX1_alike_1 := dk_seg dksX1_alike_0 24 rfl rfl
theorem dksX1_alike_2 : cX1_alike.data.toList.drop 48 = dktX1_alike_2 := dk_seg dksX1_alike_1 24 rfl rfl
theorem dX1_alike_0 : decode cX1_alike 0 = .ok (.aload_n 0, 1) := dk_42 (dk_at dksX1_alike_0 0 rfl rfl)
theorem dX1_alike_1 : decode cX1_alike 1 = .ok (.iload_n 1, 1) := dk_27 (dk_at dksX1_alike_0 1 rfl rfl)
theorem dX1_alike_2 : decode cX1_alike 2 = .ok (.invokevirtual 257, 3) := dk_182 1 1 (dk_at dksX1_alike_0 2 rfl rfl)
theorem dX1_alike_5 : decode cX1_alike 5 = .ok (.ifCond .eq 15, 3) := dk_153 0 15 (dk_at dksX1_alike_0 5 rfl rfl)
theorem dX1_alike_8 : decode cX1_alike 8 = .ok (.aload_n 0, 1) := dk_42 (dk_at dksX1_alike_0 8 rfl rfl)
theorem dX1_alike_9 : decode cX1_alike 9 = .ok (.iload_n 2, 1) := dk_28 (dk_at dksX1_alike_0 9 rfl rfl)
theorem dX1_alike_10 : decode cX1_alike 10 = .ok (.invokevirtual 236, 3) := dk_182 0 236 (dk_at dksX1_alike_0 10 rfl rfl)
theorem dX1_alike_13 : decode cX1_alike 13 = .ok (.ifCond .eq 7, 3) := dk_153 0 7 (dk_at dksX1_alike_0 13 rfl rfl)
theorem dX1_alike_16 : decode cX1_alike 16 = .ok (.iconst 1, 1) := dk_4 (dk_at dksX1_alike_0 16 rfl rfl)
theorem dX1_alike_17 : decode cX1_alike 17 = .ok (.goto 4, 3) := dk_167 0 4 (dk_at dksX1_alike_0 17 rfl rfl)
theorem dX1_alike_20 : decode cX1_alike 20 = .ok (.iconst 0, 1) := dk_3 (dk_at dksX1_alike_0 20 rfl rfl)
theorem dX1_alike_21 : decode cX1_alike 21 = .ok (.invokestatic 218, 3) := dk_184 0 218 (dk_at dksX1_alike_0 21 rfl rfl)
theorem dX1_alike_24 : decode cX1_alike 24 = .ok (.aload_n 0, 1) := dk_42 (dk_at dksX1_alike_1 0 rfl rfl)
theorem dX1_alike_25 : decode cX1_alike 25 = .ok (.getfield 65, 3) := dk_180 0 65 (dk_at dksX1_alike_1 1 rfl rfl)
theorem dX1_alike_28 : decode cX1_alike 28 = .ok (.iload_n 2, 1) := dk_28 (dk_at dksX1_alike_1 4 rfl rfl)
theorem dX1_alike_29 : decode cX1_alike 29 = .ok (.aaload, 1) := dk_50 (dk_at dksX1_alike_1 5 rfl rfl)
theorem dX1_alike_30 : decode cX1_alike 30 = .ok (.astore_n 3, 1) := dk_78 (dk_at dksX1_alike_1 6 rfl rfl)
theorem dX1_alike_31 : decode cX1_alike 31 = .ok (.aload_n 3, 1) := dk_45 (dk_at dksX1_alike_1 7 rfl rfl)
theorem dX1_alike_32 : decode cX1_alike 32 = .ok (.getfield 272, 3) := dk_180 1 16 (dk_at dksX1_alike_1 8 rfl rfl)
theorem dX1_alike_35 : decode cX1_alike 35 = .ok (.iload_n 1, 1) := dk_27 (dk_at dksX1_alike_1 11 rfl rfl)
theorem dX1_alike_36 : decode cX1_alike 36 = .ok (.iaload, 1) := dk_46 (dk_at dksX1_alike_1 12 rfl rfl)
theorem dX1_alike_37 : decode cX1_alike 37 = .ok (.iconst (-1), 1) := dk_2 (dk_at dksX1_alike_1 13 rfl rfl)
theorem dX1_alike_38 : decode cX1_alike 38 = .ok (.if_icmp .ne 9, 3) := dk_160 0 9 (dk_at dksX1_alike_1 14 rfl rfl)
theorem dX1_alike_41 : decode cX1_alike 41 = .ok (.ldc_w 284, 3) := dk_19 1 28 (dk_at dksX1_alike_1 17 rfl rfl)
theorem dX1_alike_44 : decode cX1_alike 44 = .ok (.goto 9, 3) := dk_167 0 9 (dk_at dksX1_alike_1 20 rfl rfl)
theorem dX1_alike_47 : decode cX1_alike 47 = .ok (.aload_n 0, 1) := dk_42 (dk_at dksX1_alike_1 23 rfl rfl)
theorem dX1_alike_48 : decode cX1_alike 48 = .ok (.iload_n 1, 1) := dk_27 (dk_at dksX1_alike_2 0 rfl rfl)
theorem dX1_alike_49 : decode cX1_alike 49 = .ok (.aload_n 3, 1) := dk_45 (dk_at dksX1_alike_2 1 rfl rfl)
theorem dX1_alike_50 : decode cX1_alike 50 = .ok (.invokevirtual 285, 3) := dk_182 1 29 (dk_at dksX1_alike_2 2 rfl rfl)
theorem dX1_alike_53 : decode cX1_alike 53 = .ok (.ireturn, 1) := dk_172 (dk_at dksX1_alike_2 5 rfl rfl)
abbrev cX1_alikeOf : ByteArray := prog_1_method_32_code
def yX1_alikeOf : MethodName := ⟨RX1, "alikeOf", "(ILGrantworks$Application;)I"⟩
def dkwX1_alikeOf_5 : List UInt8 := [180, 1, 16, 27, 46, 29, 21, 4, 108, 100, 17, 3, 232, 104, 21, 6, 21, 5, 100, 108, 96, 172]
abbrev dktX1_alikeOf_5 : List UInt8 := dkwX1_alikeOf_5 ++ []
def dkwX1_alikeOf_4 : List UInt8 := [132, 7, 1, 167, 255, 174, 21, 6, 21, 5, 160, 0, 9, 17, 1, 244, 167, 0, 28, 17, 1, 244, 44]
abbrev dktX1_alikeOf_4 : List UInt8 := dkwX1_alikeOf_4 ++ dktX1_alikeOf_5
def dkwX1_alikeOf_3 : List UInt8 := [62, 132, 4, 1, 21, 5, 21, 8, 184, 1, 19, 54, 5, 21, 6, 21, 8, 184, 1, 25, 54, 6]
abbrev dktX1_alikeOf_3 : List UInt8 := dkwX1_alikeOf_3 ++ dktX1_alikeOf_4
def dkwX1_alikeOf_2 : List UInt8 := [180, 1, 16, 27, 46, 167, 0, 4, 2, 54, 8, 21, 8, 2, 160, 0, 6, 167, 0, 29, 29, 21, 8, 96]
abbrev dktX1_alikeOf_2 : List UInt8 := dkwX1_alikeOf_2 ++ dktX1_alikeOf_3
def dkwX1_alikeOf_1 : List UInt8 := [42, 180, 0, 65, 21, 7, 50, 180, 0, 239, 44, 180, 0, 239, 160, 0, 18, 42, 180, 0, 65, 21, 7, 50]
abbrev dktX1_alikeOf_1 : List UInt8 := dkwX1_alikeOf_1 ++ dktX1_alikeOf_2
def dkwX1_alikeOf_0 : List UInt8 := [3, 62, 3, 54, 4, 16, 100, 54, 5, 3, 54, 6, 3, 54, 7, 21, 7, 42, 180, 0, 199, 162, 0, 79]
abbrev dktX1_alikeOf_0 : List UInt8 := dkwX1_alikeOf_0 ++ dktX1_alikeOf_1
theorem dksX1_alikeOf_0 : cX1_alikeOf.data.toList.drop 0 = dktX1_alikeOf_0 := by decide +kernel
theorem dksX1_alikeOf_1 : cX1_alikeOf.data.toList.drop 24 = dktX1_alikeOf_1 := dk_seg dksX1_alikeOf_0 24 rfl rfl
theorem dksX1_alikeOf_2 : cX1_alikeOf.data.toList.drop 48 = dktX1_alikeOf_2 := dk_seg dksX1_alikeOf_1 24 rfl rfl
theorem dksX1_alikeOf_3 : cX1_alikeOf.data.toList.drop 72 = dktX1_alikeOf_3 := dk_seg dksX1_alikeOf_2 24 rfl rfl
theorem dksX1_alikeOf_4 : cX1_alikeOf.data.toList.drop 94 = dktX1_alikeOf_4 := dk_seg dksX1_alikeOf_3 22 rfl rfl
theorem dksX1_alikeOf_5 : cX1_alikeOf.data.toList.drop 117 = dktX1_alikeOf_5 := dk_seg dksX1_alikeOf_4 23 rfl rfl
theorem dX1_alikeOf_0 : decode cX1_alikeOf 0 = .ok (.iconst 0, 1) := dk_3 (dk_at dksX1_alikeOf_0 0 rfl rfl)
theorem dX1_alikeOf_1 : decode cX1_alikeOf 1 = .ok (.istore_n 3, 1) := dk_62 (dk_at dksX1_alikeOf_0 1 rfl rfl)
theorem dX1_alikeOf_2 : decode cX1_alikeOf 2 = .ok (.iconst 0, 1) := dk_3 (dk_at dksX1_alikeOf_0 2 rfl rfl)
theorem dX1_alikeOf_3 : decode cX1_alikeOf 3 = .ok (.istore 4, 2) := dk_54 4 (dk_at dksX1_alikeOf_0 3 rfl rfl)
theorem dX1_alikeOf_5 : decode cX1_alikeOf 5 = .ok (.bipush 100, 2) := dk_16 100 (dk_at dksX1_alikeOf_0 5 rfl rfl)
theorem dX1_alikeOf_7 : decode cX1_alikeOf 7 = .ok (.istore 5, 2) := dk_54 5 (dk_at dksX1_alikeOf_0 7 rfl rfl)
theorem dX1_alikeOf_9 : decode cX1_alikeOf 9 = .ok (.iconst 0, 1) := dk_3 (dk_at dksX1_alikeOf_0 9 rfl rfl)
theorem dX1_alikeOf_10 : decode cX1_alikeOf 10 = .ok (.istore 6, 2) := dk_54 6 (dk_at dksX1_alikeOf_0 10 rfl rfl)
theorem dX1_alikeOf_12 : decode cX1_alikeOf 12 = .ok (.iconst 0, 1) := dk_3 (dk_at dksX1_alikeOf_0 12 rfl rfl)
theorem dX1_alikeOf_13 : decode cX1_alikeOf 13 = .ok (.istore 7, 2) := dk_54 7 (dk_at dksX1_alikeOf_0 13 rfl rfl)
theorem dX1_alikeOf_15 : decode cX1_alikeOf 15 = .ok (.iload 7, 2) := dk_21 7 (dk_at dksX1_alikeOf_0 15 rfl rfl)
theorem dX1_alikeOf_17 : decode cX1_alikeOf 17 = .ok (.aload_n 0, 1) := dk_42 (dk_at dksX1_alikeOf_0 17 rfl rfl)
theorem dX1_alikeOf_18 : decode cX1_alikeOf 18 = .ok (.getfield 199, 3) := dk_180 0 199 (dk_at dksX1_alikeOf_0 18 rfl rfl)
theorem dX1_alikeOf_21 : decode cX1_alikeOf 21 = .ok (.if_icmp .ge 79, 3) := dk_162 0 79 (dk_at dksX1_alikeOf_0 21 rfl rfl)
theorem dX1_alikeOf_24 : decode cX1_alikeOf 24 = .ok (.aload_n 0, 1) := dk_42 (dk_at dksX1_alikeOf_1 0 rfl rfl)
theorem dX1_alikeOf_25 : decode cX1_alikeOf 25 = .ok (.getfield 65, 3) := dk_180 0 65 (dk_at dksX1_alikeOf_1 1 rfl rfl)
theorem dX1_alikeOf_28 : decode cX1_alikeOf 28 = .ok (.iload 7, 2) := dk_21 7 (dk_at dksX1_alikeOf_1 4 rfl rfl)
theorem dX1_alikeOf_30 : decode cX1_alikeOf 30 = .ok (.aaload, 1) := dk_50 (dk_at dksX1_alikeOf_1 6 rfl rfl)
theorem dX1_alikeOf_31 : decode cX1_alikeOf 31 = .ok (.getfield 239, 3) := dk_180 0 239 (dk_at dksX1_alikeOf_1 7 rfl rfl)
theorem dX1_alikeOf_34 : decode cX1_alikeOf 34 = .ok (.aload_n 2, 1) := dk_44 (dk_at dksX1_alikeOf_1 10 rfl rfl)
theorem dX1_alikeOf_35 : decode cX1_alikeOf 35 = .ok (.getfield 239, 3) := dk_180 0 239 (dk_at dksX1_alikeOf_1 11 rfl rfl)
theorem dX1_alikeOf_38 : decode cX1_alikeOf 38 = .ok (.if_icmp .ne 18, 3) := dk_160 0 18 (dk_at dksX1_alikeOf_1 14 rfl rfl)
theorem dX1_alikeOf_41 : decode cX1_alikeOf 41 = .ok (.aload_n 0, 1) := dk_42 (dk_at dksX1_alikeOf_1 17 rfl rfl)
theorem dX1_alikeOf_42 : decode cX1_alikeOf 42 = .ok (.getfield 65, 3) := dk_180 0 65 (dk_at dksX1_alikeOf_1 18 rfl rfl)
theorem dX1_alikeOf_45 : decode cX1_alikeOf 45 = .ok (.iload 7, 2) := dk_21 7 (dk_at dksX1_alikeOf_1 21 rfl rfl)
theorem dX1_alikeOf_47 : decode cX1_alikeOf 47 = .ok (.aaload, 1) := dk_50 (dk_at dksX1_alikeOf_1 23 rfl rfl)
theorem dX1_alikeOf_48 : decode cX1_alikeOf 48 = .ok (.getfield 272, 3) := dk_180 1 16 (dk_at dksX1_alikeOf_2 0 rfl rfl)
theorem dX1_alikeOf_51 : decode cX1_alikeOf 51 = .ok (.iload_n 1, 1) := dk_27 (dk_at dksX1_alikeOf_2 3 rfl rfl)
theorem dX1_alikeOf_52 : decode cX1_alikeOf 52 = .ok (.iaload, 1) := dk_46 (dk_at dksX1_alikeOf_2 4 rfl rfl)
theorem dX1_alikeOf_53 : decode cX1_alikeOf 53 = .ok (.goto 4, 3) := dk_167 0 4 (dk_at dksX1_alikeOf_2 5 rfl rfl)
theorem dX1_alikeOf_56 : decode cX1_alikeOf 56 = .ok (.iconst (-1), 1) := dk_2 (dk_at dksX1_alikeOf_2 8 rfl rfl)
theorem dX1_alikeOf_57 : decode cX1_alikeOf 57 = .ok (.istore 8, 2) := dk_54 8 (dk_at dksX1_alikeOf_2 9 rfl rfl)
theorem dX1_alikeOf_59 : decode cX1_alikeOf 59 = .ok (.iload 8, 2) := dk_21 8 (dk_at dksX1_alikeOf_2 11 rfl rfl)
theorem dX1_alikeOf_61 : decode cX1_alikeOf 61 = .ok (.iconst (-1), 1) := dk_2 (dk_at dksX1_alikeOf_2 13 rfl rfl)
theorem dX1_alikeOf_62 : decode cX1_alikeOf 62 = .ok (.if_icmp .ne 6, 3) := dk_160 0 6 (dk_at dksX1_alikeOf_2 14 rfl rfl)
theorem dX1_alikeOf_65 : decode cX1_alikeOf 65 = .ok (.goto 29, 3) := dk_167 0 29 (dk_at dksX1_alikeOf_2 17 rfl rfl)
theorem dX1_alikeOf_68 : decode cX1_alikeOf 68 = .ok (.iload_n 3, 1) := dk_29 (dk_at dksX1_alikeOf_2 20 rfl rfl)
theorem dX1_alikeOf_69 : decode cX1_alikeOf 69 = .ok (.iload 8, 2) := dk_21 8 (dk_at dksX1_alikeOf_2 21 rfl rfl)
theorem dX1_alikeOf_71 : decode cX1_alikeOf 71 = .ok (.iadd, 1) := dk_96 (dk_at dksX1_alikeOf_2 23 rfl rfl)
theorem dX1_alikeOf_72 : decode cX1_alikeOf 72 = .ok (.istore_n 3, 1) := dk_62 (dk_at dksX1_alikeOf_3 0 rfl rfl)
theorem dX1_alikeOf_73 : decode cX1_alikeOf 73 = .ok (.iinc 4 1, 3) := dk_132 4 1 (dk_at dksX1_alikeOf_3 1 rfl rfl)
theorem dX1_alikeOf_76 : decode cX1_alikeOf 76 = .ok (.iload 5, 2) := dk_21 5 (dk_at dksX1_alikeOf_3 4 rfl rfl)
theorem dX1_alikeOf_78 : decode cX1_alikeOf 78 = .ok (.iload 8, 2) := dk_21 8 (dk_at dksX1_alikeOf_3 6 rfl rfl)
theorem dX1_alikeOf_80 : decode cX1_alikeOf 80 = .ok (.invokestatic 275, 3) := dk_184 1 19 (dk_at dksX1_alikeOf_3 8 rfl rfl)
theorem dX1_alikeOf_83 : decode cX1_alikeOf 83 = .ok (.istore 5, 2) := dk_54 5 (dk_at dksX1_alikeOf_3 11 rfl rfl)
theorem dX1_alikeOf_85 : decode cX1_alikeOf 85 = .ok (.iload 6, 2) := dk_21 6 (dk_at dksX1_alikeOf_3 13 rfl rfl)
theorem dX1_alikeOf_87 : decode cX1_alikeOf 87 = .ok (.iload 8, 2) := dk_21 8 (dk_at dksX1_alikeOf_3 15 rfl rfl)
theorem dX1_alikeOf_89 : decode cX1_alikeOf 89 = .ok (.invokestatic 281, 3) := dk_184 1 25 (dk_at dksX1_alikeOf_3 17 rfl rfl)
theorem dX1_alikeOf_92 : decode cX1_alikeOf 92 = .ok (.istore 6, 2) := dk_54 6 (dk_at dksX1_alikeOf_3 20 rfl rfl)
theorem dX1_alikeOf_94 : decode cX1_alikeOf 94 = .ok (.iinc 7 1, 3) := dk_132 7 1 (dk_at dksX1_alikeOf_4 0 rfl rfl)
theorem dX1_alikeOf_97 : decode cX1_alikeOf 97 = .ok (.goto (-82), 3) := dk_167 255 174 (dk_at dksX1_alikeOf_4 3 rfl rfl)
theorem dX1_alikeOf_100 : decode cX1_alikeOf 100 = .ok (.iload 6, 2) := dk_21 6 (dk_at dksX1_alikeOf_4 6 rfl rfl)
theorem dX1_alikeOf_102 : decode cX1_alikeOf 102 = .ok (.iload 5, 2) := dk_21 5 (dk_at dksX1_alikeOf_4 8 rfl rfl)
theorem dX1_alikeOf_104 : decode cX1_alikeOf 104 = .ok (.if_icmp .ne 9, 3) := dk_160 0 9 (dk_at dksX1_alikeOf_4 10 rfl rfl)
theorem dX1_alikeOf_107 : decode cX1_alikeOf 107 = .ok (.sipush 500, 3) := dk_17 1 244 (dk_at dksX1_alikeOf_4 13 rfl rfl)
theorem dX1_alikeOf_110 : decode cX1_alikeOf 110 = .ok (.goto 28, 3) := dk_167 0 28 (dk_at dksX1_alikeOf_4 16 rfl rfl)
theorem dX1_alikeOf_113 : decode cX1_alikeOf 113 = .ok (.sipush 500, 3) := dk_17 1 244 (dk_at dksX1_alikeOf_4 19 rfl rfl)
theorem dX1_alikeOf_116 : decode cX1_alikeOf 116 = .ok (.aload_n 2, 1) := dk_44 (dk_at dksX1_alikeOf_4 22 rfl rfl)
theorem dX1_alikeOf_117 : decode cX1_alikeOf 117 = .ok (.getfield 272, 3) := dk_180 1 16 (dk_at dksX1_alikeOf_5 0 rfl rfl)
theorem dX1_alikeOf_120 : decode cX1_alikeOf 120 = .ok (.iload_n 1, 1) := dk_27 (dk_at dksX1_alikeOf_5 3 rfl rfl)
theorem dX1_alikeOf_121 : decode cX1_alikeOf 121 = .ok (.iaload, 1) := dk_46 (dk_at dksX1_alikeOf_5 4 rfl rfl)
theorem dX1_alikeOf_122 : decode cX1_alikeOf 122 = .ok (.iload_n 3, 1) := dk_29 (dk_at dksX1_alikeOf_5 5 rfl rfl)
theorem dX1_alikeOf_123 : decode cX1_alikeOf 123 = .ok (.iload 4, 2) := dk_21 4 (dk_at dksX1_alikeOf_5 6 rfl rfl)
theorem dX1_alikeOf_125 : decode cX1_alikeOf 125 = .ok (.idiv, 1) := dk_108 (dk_at dksX1_alikeOf_5 8 rfl rfl)
theorem dX1_alikeOf_126 : decode cX1_alikeOf 126 = .ok (.isub, 1) := dk_100 (dk_at dksX1_alikeOf_5 9 rfl rfl)
theorem dX1_alikeOf_127 : decode cX1_alikeOf 127 = .ok (.sipush 1000, 3) := dk_17 3 232 (dk_at dksX1_alikeOf_5 10 rfl rfl)
theorem dX1_alikeOf_130 : decode cX1_alikeOf 130 = .ok (.imul, 1) := dk_104 (dk_at dksX1_alikeOf_5 13 rfl rfl)
theorem dX1_alikeOf_131 : decode cX1_alikeOf 131 = .ok (.iload 6, 2) := dk_21 6 (dk_at dksX1_alikeOf_5 14 rfl rfl)
theorem dX1_alikeOf_133 : decode cX1_alikeOf 133 = .ok (.iload 5, 2) := dk_21 5 (dk_at dksX1_alikeOf_5 16 rfl rfl)
theorem dX1_alikeOf_135 : decode cX1_alikeOf 135 = .ok (.isub, 1) := dk_100 (dk_at dksX1_alikeOf_5 18 rfl rfl)
theorem dX1_alikeOf_136 : decode cX1_alikeOf 136 = .ok (.idiv, 1) := dk_108 (dk_at dksX1_alikeOf_5 19 rfl rfl)
theorem dX1_alikeOf_137 : decode cX1_alikeOf 137 = .ok (.iadd, 1) := dk_96 (dk_at dksX1_alikeOf_5 20 rfl rfl)
theorem dX1_alikeOf_138 : decode cX1_alikeOf 138 = .ok (.ireturn, 1) := dk_172 (dk_at dksX1_alikeOf_5 21 rfl rfl)
abbrev cX1_award : ByteArray := prog_1_method_44_code
def yX1_award : MethodName := ⟨RX1, "award", "(I)I"⟩
def dkwX1_award_10 : List UInt8 := [172]
abbrev dktX1_award_10 : List UInt8 := dkwX1_award_10 ++ []
def dkwX1_award_9 : List UInt8 := [96, 29, 79, 42, 180, 0, 53, 27, 92, 46, 4, 96, 79, 132, 3, 1, 167, 255, 90, 42, 27, 182, 1, 67]
abbrev dktX1_award_9 : List UInt8 := dkwX1_award_9 ++ dktX1_award_10
def dkwX1_award_8 : List UInt8 := [180, 0, 56, 28, 21, 5, 96, 4, 100, 46, 79, 132, 5, 255, 167, 255, 203, 42, 180, 0, 56, 28, 21, 5]
abbrev dktX1_award_8 : List UInt8 := dkwX1_award_8 ++ dktX1_award_9
def dkwX1_award_7 : List UInt8 := [21, 5, 96, 4, 100, 46, 50, 182, 1, 99, 153, 0, 29, 42, 180, 0, 56, 28, 21, 5, 96, 42]
abbrev dktX1_award_7 : List UInt8 := dkwX1_award_7 ++ dktX1_award_8
def dkwX1_award_6 : List UInt8 := [180, 0, 53, 27, 46, 54, 5, 21, 5, 158, 0, 54, 42, 25, 4, 42, 180, 0, 65, 42, 180, 0, 56, 28]
abbrev dktX1_award_6 : List UInt8 := dkwX1_award_6 ++ dktX1_award_7
def dkwX1_award_5 : List UInt8 := [167, 0, 6, 178, 1, 96, 181, 0, 242, 25, 4, 180, 0, 242, 178, 1, 93, 166, 0, 6, 167, 0, 87, 42]
abbrev dktX1_award_5 : List UInt8 := dkwX1_award_5 ++ dktX1_award_6
def dkwX1_award_4 : List UInt8 := [166, 0, 6, 167, 0, 127, 25, 4, 42, 25, 4, 182, 1, 88, 19, 1, 28, 160, 0, 9, 178, 1, 93]
abbrev dktX1_award_4 : List UInt8 := dkwX1_award_4 ++ dktX1_award_5
def dkwX1_award_3 : List UInt8 := [180, 0, 65, 29, 50, 58, 4, 25, 4, 180, 0, 239, 27, 160, 0, 141, 25, 4, 180, 0, 242, 178, 0, 246]
abbrev dktX1_award_3 : List UInt8 := dkwX1_award_3 ++ dktX1_award_4
def dkwX1_award_2 : List UInt8 := [180, 0, 59, 27, 4, 84, 16, 24, 27, 104, 61, 3, 62, 29, 42, 180, 0, 199, 162, 0, 164, 42]
abbrev dktX1_award_2 : List UInt8 := dkwX1_award_2 ++ dktX1_award_3
def dkwX1_award_1 : List UInt8 := [180, 0, 59, 27, 51, 154, 0, 14, 42, 182, 1, 73, 154, 0, 7, 4, 167, 0, 4, 3, 184, 0, 206, 42]
abbrev dktX1_award_1 : List UInt8 := dkwX1_award_1 ++ dktX1_award_2
def dkwX1_award_0 : List UInt8 := [42, 27, 182, 0, 214, 184, 0, 218, 42, 180, 0, 209, 42, 180, 0, 47, 27, 46, 164, 0, 23, 42]
abbrev dktX1_award_0 : List UInt8 := dkwX1_award_0 ++ dktX1_award_1
theorem dksX1_award_0 : cX1_award.data.toList.drop 0 = dktX1_award_0 := by decide +kernel
theorem dksX1_award_1 : cX1_award.data.toList.drop 22 = dktX1_award_1 := dk_seg dksX1_award_0 22 rfl rfl
theorem dksX1_award_2 : cX1_award.data.toList.drop 46 = dktX1_award_2 := dk_seg dksX1_award_1 24 rfl rfl
theorem dksX1_award_3 : cX1_award.data.toList.drop 68 = dktX1_award_3 := dk_seg dksX1_award_2 22 rfl rfl
theorem dksX1_award_4 : cX1_award.data.toList.drop 92 = dktX1_award_4 := dk_seg dksX1_award_3 24 rfl rfl
theorem dksX1_award_5 : cX1_award.data.toList.drop 115 = dktX1_award_5 := dk_seg dksX1_award_4 23 rfl rfl
theorem dksX1_award_6 : cX1_award.data.toList.drop 139 = dktX1_award_6 := dk_seg dksX1_award_5 24 rfl rfl
theorem dksX1_award_7 : cX1_award.data.toList.drop 163 = dktX1_award_7 := dk_seg dksX1_award_6 24 rfl rfl
theorem dksX1_award_8 : cX1_award.data.toList.drop 185 = dktX1_award_8 := dk_seg dksX1_award_7 22 rfl rfl
theorem dksX1_award_9 : cX1_award.data.toList.drop 209 = dktX1_award_9 := dk_seg dksX1_award_8 24 rfl rfl
theorem dksX1_award_10 : cX1_award.data.toList.drop 233 = dktX1_award_10 := dk_seg dksX1_award_9 24 rfl rfl
theorem dX1_award_0 : decode cX1_award 0 = .ok (.aload_n 0, 1) := dk_42 (dk_at dksX1_award_0 0 rfl rfl)
theorem dX1_award_1 : decode cX1_award 1 = .ok (.iload_n 1, 1) := dk_27 (dk_at dksX1_award_0 1 rfl rfl)
theorem dX1_award_2 : decode cX1_award 2 = .ok (.invokevirtual 214, 3) := dk_182 0 214 (dk_at dksX1_award_0 2 rfl rfl)
theorem dX1_award_5 : decode cX1_award 5 = .ok (.invokestatic 218, 3) := dk_184 0 218 (dk_at dksX1_award_0 5 rfl rfl)
theorem dX1_award_8 : decode cX1_award 8 = .ok (.aload_n 0, 1) := dk_42 (dk_at dksX1_award_0 8 rfl rfl)
theorem dX1_award_9 : decode cX1_award 9 = .ok (.getfield 209, 3) := dk_180 0 209 (dk_at dksX1_award_0 9 rfl rfl)
theorem dX1_award_12 : decode cX1_award 12 = .ok (.aload_n 0, 1) := dk_42 (dk_at dksX1_award_0 12 rfl rfl)
theorem dX1_award_13 : decode cX1_award 13 = .ok (.getfield 47, 3) := dk_180 0 47 (dk_at dksX1_award_0 13 rfl rfl)
theorem dX1_award_16 : decode cX1_award 16 = .ok (.iload_n 1, 1) := dk_27 (dk_at dksX1_award_0 16 rfl rfl)
theorem dX1_award_17 : decode cX1_award 17 = .ok (.iaload, 1) := dk_46 (dk_at dksX1_award_0 17 rfl rfl)
theorem dX1_award_18 : decode cX1_award 18 = .ok (.if_icmp .le 23, 3) := dk_164 0 23 (dk_at dksX1_award_0 18 rfl rfl)
theorem dX1_award_21 : decode cX1_award 21 = .ok (.aload_n 0, 1) := dk_42 (dk_at dksX1_award_0 21 rfl rfl)
theorem dX1_award_22 : decode cX1_award 22 = .ok (.getfield 59, 3) := dk_180 0 59 (dk_at dksX1_award_1 0 rfl rfl)
theorem dX1_award_25 : decode cX1_award 25 = .ok (.iload_n 1, 1) := dk_27 (dk_at dksX1_award_1 3 rfl rfl)
theorem dX1_award_26 : decode cX1_award 26 = .ok (.baload, 1) := dk_51 (dk_at dksX1_award_1 4 rfl rfl)
theorem dX1_award_27 : decode cX1_award 27 = .ok (.ifCond .ne 14, 3) := dk_154 0 14 (dk_at dksX1_award_1 5 rfl rfl)
theorem dX1_award_30 : decode cX1_award 30 = .ok (.aload_n 0, 1) := dk_42 (dk_at dksX1_award_1 8 rfl rfl)
theorem dX1_award_31 : decode cX1_award 31 = .ok (.invokevirtual 329, 3) := dk_182 1 73 (dk_at dksX1_award_1 9 rfl rfl)
theorem dX1_award_34 : decode cX1_award 34 = .ok (.ifCond .ne 7, 3) := dk_154 0 7 (dk_at dksX1_award_1 12 rfl rfl)
theorem dX1_award_37 : decode cX1_award 37 = .ok (.iconst 1, 1) := dk_4 (dk_at dksX1_award_1 15 rfl rfl)
theorem dX1_award_38 : decode cX1_award 38 = .ok (.goto 4, 3) := dk_167 0 4 (dk_at dksX1_award_1 16 rfl rfl)
theorem dX1_award_41 : decode cX1_award 41 = .ok (.iconst 0, 1) := dk_3 (dk_at dksX1_award_1 19 rfl rfl)
theorem dX1_award_42 : decode cX1_award 42 = .ok (.invokestatic 206, 3) := dk_184 0 206 (dk_at dksX1_award_1 20 rfl rfl)
theorem dX1_award_45 : decode cX1_award 45 = .ok (.aload_n 0, 1) := dk_42 (dk_at dksX1_award_1 23 rfl rfl)
theorem dX1_award_46 : decode cX1_award 46 = .ok (.getfield 59, 3) := dk_180 0 59 (dk_at dksX1_award_2 0 rfl rfl)
theorem dX1_award_49 : decode cX1_award 49 = .ok (.iload_n 1, 1) := dk_27 (dk_at dksX1_award_2 3 rfl rfl)
theorem dX1_award_50 : decode cX1_award 50 = .ok (.iconst 1, 1) := dk_4 (dk_at dksX1_award_2 4 rfl rfl)
theorem dX1_award_51 : decode cX1_award 51 = .ok (.bastore, 1) := dk_84 (dk_at dksX1_award_2 5 rfl rfl)
theorem dX1_award_52 : decode cX1_award 52 = .ok (.bipush 24, 2) := dk_16 24 (dk_at dksX1_award_2 6 rfl rfl)
theorem dX1_award_54 : decode cX1_award 54 = .ok (.iload_n 1, 1) := dk_27 (dk_at dksX1_award_2 8 rfl rfl)
theorem dX1_award_55 : decode cX1_award 55 = .ok (.imul, 1) := dk_104 (dk_at dksX1_award_2 9 rfl rfl)
theorem dX1_award_56 : decode cX1_award 56 = .ok (.istore_n 2, 1) := dk_61 (dk_at dksX1_award_2 10 rfl rfl)
theorem dX1_award_57 : decode cX1_award 57 = .ok (.iconst 0, 1) := dk_3 (dk_at dksX1_award_2 11 rfl rfl)
theorem dX1_award_58 : decode cX1_award 58 = .ok (.istore_n 3, 1) := dk_62 (dk_at dksX1_award_2 12 rfl rfl)
theorem dX1_award_59 : decode cX1_award 59 = .ok (.iload_n 3, 1) := dk_29 (dk_at dksX1_award_2 13 rfl rfl)
theorem dX1_award_60 : decode cX1_award 60 = .ok (.aload_n 0, 1) := dk_42 (dk_at dksX1_award_2 14 rfl rfl)
theorem dX1_award_61 : decode cX1_award 61 = .ok (.getfield 199, 3) := dk_180 0 199 (dk_at dksX1_award_2 15 rfl rfl)
theorem dX1_award_64 : decode cX1_award 64 = .ok (.if_icmp .ge 164, 3) := dk_162 0 164 (dk_at dksX1_award_2 18 rfl rfl)
theorem dX1_award_67 : decode cX1_award 67 = .ok (.aload_n 0, 1) := dk_42 (dk_at dksX1_award_2 21 rfl rfl)
theorem dX1_award_68 : decode cX1_award 68 = .ok (.getfield 65, 3) := dk_180 0 65 (dk_at dksX1_award_3 0 rfl rfl)
theorem dX1_award_71 : decode cX1_award 71 = .ok (.iload_n 3, 1) := dk_29 (dk_at dksX1_award_3 3 rfl rfl)
theorem dX1_award_72 : decode cX1_award 72 = .ok (.aaload, 1) := dk_50 (dk_at dksX1_award_3 4 rfl rfl)
theorem dX1_award_73 : decode cX1_award 73 = .ok (.astore 4, 2) := dk_58 4 (dk_at dksX1_award_3 5 rfl rfl)
theorem dX1_award_75 : decode cX1_award 75 = .ok (.aload 4, 2) := dk_25 4 (dk_at dksX1_award_3 7 rfl rfl)
theorem dX1_award_77 : decode cX1_award 77 = .ok (.getfield 239, 3) := dk_180 0 239 (dk_at dksX1_award_3 9 rfl rfl)
theorem dX1_award_80 : decode cX1_award 80 = .ok (.iload_n 1, 1) := dk_27 (dk_at dksX1_award_3 12 rfl rfl)
theorem dX1_award_81 : decode cX1_award 81 = .ok (.if_icmp .ne 141, 3) := dk_160 0 141 (dk_at dksX1_award_3 13 rfl rfl)
theorem dX1_award_84 : decode cX1_award 84 = .ok (.aload 4, 2) := dk_25 4 (dk_at dksX1_award_3 16 rfl rfl)
theorem dX1_award_86 : decode cX1_award 86 = .ok (.getfield 242, 3) := dk_180 0 242 (dk_at dksX1_award_3 18 rfl rfl)
theorem dX1_award_89 : decode cX1_award 89 = .ok (.getstatic 246, 3) := dk_178 0 246 (dk_at dksX1_award_3 21 rfl rfl)
theorem dX1_award_92 : decode cX1_award 92 = .ok (.if_acmp .ne 6, 3) := dk_166 0 6 (dk_at dksX1_award_4 0 rfl rfl)
theorem dX1_award_95 : decode cX1_award 95 = .ok (.goto 127, 3) := dk_167 0 127 (dk_at dksX1_award_4 3 rfl rfl)
theorem dX1_award_98 : decode cX1_award 98 = .ok (.aload 4, 2) := dk_25 4 (dk_at dksX1_award_4 6 rfl rfl)
theorem dX1_award_100 : decode cX1_award 100 = .ok (.aload_n 0, 1) := dk_42 (dk_at dksX1_award_4 8 rfl rfl)
theorem dX1_award_101 : decode cX1_award 101 = .ok (.aload 4, 2) := dk_25 4 (dk_at dksX1_award_4 9 rfl rfl)
theorem dX1_award_103 : decode cX1_award 103 = .ok (.invokevirtual 344, 3) := dk_182 1 88 (dk_at dksX1_award_4 11 rfl rfl)
theorem dX1_award_106 : decode cX1_award 106 = .ok (.ldc_w 284, 3) := dk_19 1 28 (dk_at dksX1_award_4 14 rfl rfl)
theorem dX1_award_109 : decode cX1_award 109 = .ok (.if_icmp .ne 9, 3) := dk_160 0 9 (dk_at dksX1_award_4 17 rfl rfl)
theorem dX1_award_112 : decode cX1_award 112 = .ok (.getstatic 349, 3) := dk_178 1 93 (dk_at dksX1_award_4 20 rfl rfl)
theorem dX1_award_115 : decode cX1_award 115 = .ok (.goto 6, 3) := dk_167 0 6 (dk_at dksX1_award_5 0 rfl rfl)
theorem dX1_award_118 : decode cX1_award 118 = .ok (.getstatic 352, 3) := dk_178 1 96 (dk_at dksX1_award_5 3 rfl rfl)
theorem dX1_award_121 : decode cX1_award 121 = .ok (.putfield 242, 3) := dk_181 0 242 (dk_at dksX1_award_5 6 rfl rfl)
theorem dX1_award_124 : decode cX1_award 124 = .ok (.aload 4, 2) := dk_25 4 (dk_at dksX1_award_5 9 rfl rfl)
theorem dX1_award_126 : decode cX1_award 126 = .ok (.getfield 242, 3) := dk_180 0 242 (dk_at dksX1_award_5 11 rfl rfl)
theorem dX1_award_129 : decode cX1_award 129 = .ok (.getstatic 349, 3) := dk_178 1 93 (dk_at dksX1_award_5 14 rfl rfl)
theorem dX1_award_132 : decode cX1_award 132 = .ok (.if_acmp .ne 6, 3) := dk_166 0 6 (dk_at dksX1_award_5 17 rfl rfl)
theorem dX1_award_135 : decode cX1_award 135 = .ok (.goto 87, 3) := dk_167 0 87 (dk_at dksX1_award_5 20 rfl rfl)
theorem dX1_award_138 : decode cX1_award 138 = .ok (.aload_n 0, 1) := dk_42 (dk_at dksX1_award_5 23 rfl rfl)
theorem dX1_award_139 : decode cX1_award 139 = .ok (.getfield 53, 3) := dk_180 0 53 (dk_at dksX1_award_6 0 rfl rfl)
theorem dX1_award_142 : decode cX1_award 142 = .ok (.iload_n 1, 1) := dk_27 (dk_at dksX1_award_6 3 rfl rfl)
theorem dX1_award_143 : decode cX1_award 143 = .ok (.iaload, 1) := dk_46 (dk_at dksX1_award_6 4 rfl rfl)
theorem dX1_award_144 : decode cX1_award 144 = .ok (.istore 5, 2) := dk_54 5 (dk_at dksX1_award_6 5 rfl rfl)
theorem dX1_award_146 : decode cX1_award 146 = .ok (.iload 5, 2) := dk_21 5 (dk_at dksX1_award_6 7 rfl rfl)
theorem dX1_award_148 : decode cX1_award 148 = .ok (.ifCond .le 54, 3) := dk_158 0 54 (dk_at dksX1_award_6 9 rfl rfl)
theorem dX1_award_151 : decode cX1_award 151 = .ok (.aload_n 0, 1) := dk_42 (dk_at dksX1_award_6 12 rfl rfl)
theorem dX1_award_152 : decode cX1_award 152 = .ok (.aload 4, 2) := dk_25 4 (dk_at dksX1_award_6 13 rfl rfl)
theorem dX1_award_154 : decode cX1_award 154 = .ok (.aload_n 0, 1) := dk_42 (dk_at dksX1_award_6 15 rfl rfl)
theorem dX1_award_155 : decode cX1_award 155 = .ok (.getfield 65, 3) := dk_180 0 65 (dk_at dksX1_award_6 16 rfl rfl)
theorem dX1_award_158 : decode cX1_award 158 = .ok (.aload_n 0, 1) := dk_42 (dk_at dksX1_award_6 19 rfl rfl)
theorem dX1_award_159 : decode cX1_award 159 = .ok (.getfield 56, 3) := dk_180 0 56 (dk_at dksX1_award_6 20 rfl rfl)
theorem dX1_award_162 : decode cX1_award 162 = .ok (.iload_n 2, 1) := dk_28 (dk_at dksX1_award_6 23 rfl rfl)
theorem dX1_award_163 : decode cX1_award 163 = .ok (.iload 5, 2) := dk_21 5 (dk_at dksX1_award_7 0 rfl rfl)
theorem dX1_award_165 : decode cX1_award 165 = .ok (.iadd, 1) := dk_96 (dk_at dksX1_award_7 2 rfl rfl)
theorem dX1_award_166 : decode cX1_award 166 = .ok (.iconst 1, 1) := dk_4 (dk_at dksX1_award_7 3 rfl rfl)
theorem dX1_award_167 : decode cX1_award 167 = .ok (.isub, 1) := dk_100 (dk_at dksX1_award_7 4 rfl rfl)
theorem dX1_award_168 : decode cX1_award 168 = .ok (.iaload, 1) := dk_46 (dk_at dksX1_award_7 5 rfl rfl)
theorem dX1_award_169 : decode cX1_award 169 = .ok (.aaload, 1) := dk_50 (dk_at dksX1_award_7 6 rfl rfl)
theorem dX1_award_170 : decode cX1_award 170 = .ok (.invokevirtual 355, 3) := dk_182 1 99 (dk_at dksX1_award_7 7 rfl rfl)
theorem dX1_award_173 : decode cX1_award 173 = .ok (.ifCond .eq 29, 3) := dk_153 0 29 (dk_at dksX1_award_7 10 rfl rfl)
theorem dX1_award_176 : decode cX1_award 176 = .ok (.aload_n 0, 1) := dk_42 (dk_at dksX1_award_7 13 rfl rfl)
theorem dX1_award_177 : decode cX1_award 177 = .ok (.getfield 56, 3) := dk_180 0 56 (dk_at dksX1_award_7 14 rfl rfl)
theorem dX1_award_180 : decode cX1_award 180 = .ok (.iload_n 2, 1) := dk_28 (dk_at dksX1_award_7 17 rfl rfl)
theorem dX1_award_181 : decode cX1_award 181 = .ok (.iload 5, 2) := dk_21 5 (dk_at dksX1_award_7 18 rfl rfl)
theorem dX1_award_183 : decode cX1_award 183 = .ok (.iadd, 1) := dk_96 (dk_at dksX1_award_7 20 rfl rfl)
theorem dX1_award_184 : decode cX1_award 184 = .ok (.aload_n 0, 1) := dk_42 (dk_at dksX1_award_7 21 rfl rfl)
theorem dX1_award_185 : decode cX1_award 185 = .ok (.getfield 56, 3) := dk_180 0 56 (dk_at dksX1_award_8 0 rfl rfl)
theorem dX1_award_188 : decode cX1_award 188 = .ok (.iload_n 2, 1) := dk_28 (dk_at dksX1_award_8 3 rfl rfl)
theorem dX1_award_189 : decode cX1_award 189 = .ok (.iload 5, 2) := dk_21 5 (dk_at dksX1_award_8 4 rfl rfl)
theorem dX1_award_191 : decode cX1_award 191 = .ok (.iadd, 1) := dk_96 (dk_at dksX1_award_8 6 rfl rfl)
theorem dX1_award_192 : decode cX1_award 192 = .ok (.iconst 1, 1) := dk_4 (dk_at dksX1_award_8 7 rfl rfl)
theorem dX1_award_193 : decode cX1_award 193 = .ok (.isub, 1) := dk_100 (dk_at dksX1_award_8 8 rfl rfl)
theorem dX1_award_194 : decode cX1_award 194 = .ok (.iaload, 1) := dk_46 (dk_at dksX1_award_8 9 rfl rfl)
theorem dX1_award_195 : decode cX1_award 195 = .ok (.iastore, 1) := dk_79 (dk_at dksX1_award_8 10 rfl rfl)
theorem dX1_award_196 : decode cX1_award 196 = .ok (.iinc 5 (-1), 3) := dk_132 5 255 (dk_at dksX1_award_8 11 rfl rfl)
theorem dX1_award_199 : decode cX1_award 199 = .ok (.goto (-53), 3) := dk_167 255 203 (dk_at dksX1_award_8 14 rfl rfl)
theorem dX1_award_202 : decode cX1_award 202 = .ok (.aload_n 0, 1) := dk_42 (dk_at dksX1_award_8 17 rfl rfl)
theorem dX1_award_203 : decode cX1_award 203 = .ok (.getfield 56, 3) := dk_180 0 56 (dk_at dksX1_award_8 18 rfl rfl)
theorem dX1_award_206 : decode cX1_award 206 = .ok (.iload_n 2, 1) := dk_28 (dk_at dksX1_award_8 21 rfl rfl)
theorem dX1_award_207 : decode cX1_award 207 = .ok (.iload 5, 2) := dk_21 5 (dk_at dksX1_award_8 22 rfl rfl)
theorem dX1_award_209 : decode cX1_award 209 = .ok (.iadd, 1) := dk_96 (dk_at dksX1_award_9 0 rfl rfl)
theorem dX1_award_210 : decode cX1_award 210 = .ok (.iload_n 3, 1) := dk_29 (dk_at dksX1_award_9 1 rfl rfl)
theorem dX1_award_211 : decode cX1_award 211 = .ok (.iastore, 1) := dk_79 (dk_at dksX1_award_9 2 rfl rfl)
theorem dX1_award_212 : decode cX1_award 212 = .ok (.aload_n 0, 1) := dk_42 (dk_at dksX1_award_9 3 rfl rfl)
theorem dX1_award_213 : decode cX1_award 213 = .ok (.getfield 53, 3) := dk_180 0 53 (dk_at dksX1_award_9 4 rfl rfl)
theorem dX1_award_216 : decode cX1_award 216 = .ok (.iload_n 1, 1) := dk_27 (dk_at dksX1_award_9 7 rfl rfl)
theorem dX1_award_217 : decode cX1_award 217 = .ok (.dup2, 1) := dk_92 (dk_at dksX1_award_9 8 rfl rfl)
theorem dX1_award_218 : decode cX1_award 218 = .ok (.iaload, 1) := dk_46 (dk_at dksX1_award_9 9 rfl rfl)
theorem dX1_award_219 : decode cX1_award 219 = .ok (.iconst 1, 1) := dk_4 (dk_at dksX1_award_9 10 rfl rfl)
theorem dX1_award_220 : decode cX1_award 220 = .ok (.iadd, 1) := dk_96 (dk_at dksX1_award_9 11 rfl rfl)
theorem dX1_award_221 : decode cX1_award 221 = .ok (.iastore, 1) := dk_79 (dk_at dksX1_award_9 12 rfl rfl)
theorem dX1_award_222 : decode cX1_award 222 = .ok (.iinc 3 1, 3) := dk_132 3 1 (dk_at dksX1_award_9 13 rfl rfl)
theorem dX1_award_225 : decode cX1_award 225 = .ok (.goto (-166), 3) := dk_167 255 90 (dk_at dksX1_award_9 16 rfl rfl)
theorem dX1_award_228 : decode cX1_award 228 = .ok (.aload_n 0, 1) := dk_42 (dk_at dksX1_award_9 19 rfl rfl)
theorem dX1_award_229 : decode cX1_award 229 = .ok (.iload_n 1, 1) := dk_27 (dk_at dksX1_award_9 20 rfl rfl)
theorem dX1_award_230 : decode cX1_award 230 = .ok (.invokevirtual 323, 3) := dk_182 1 67 (dk_at dksX1_award_9 21 rfl rfl)
theorem dX1_award_233 : decode cX1_award 233 = .ok (.ireturn, 1) := dk_172 (dk_at dksX1_award_10 0 rfl rfl)
abbrev cX1_scoreOf : ByteArray := prog_1_method_34_code
def yX1_scoreOf : MethodName := ⟨RX1, "scoreOf", "(LGrantworks$Application;)I"⟩
def dkwX1_scoreOf_2 : List UInt8 := [182, 1, 29, 96, 62, 132, 4, 1, 167, 255, 223, 29, 28, 108, 172]
abbrev dktX1_scoreOf_2 : List UInt8 := dkwX1_scoreOf_2 ++ []
def dkwX1_scoreOf_1 : List UInt8 := [180, 0, 254, 162, 0, 30, 43, 180, 1, 16, 21, 4, 46, 2, 159, 0, 13, 29, 42, 21, 4, 43]
abbrev dktX1_scoreOf_1 : List UInt8 := dkwX1_scoreOf_1 ++ dktX1_scoreOf_2
def dkwX1_scoreOf_0 : List UInt8 := [43, 182, 1, 33, 61, 28, 5, 162, 0, 7, 19, 1, 28, 172, 3, 62, 3, 54, 4, 21, 4, 42]
abbrev dktX1_scoreOf_0 : List UInt8 := dkwX1_scoreOf_0 ++ dktX1_scoreOf_1
theorem dksX1_scoreOf_0 : cX1_scoreOf.data.toList.drop 0 = dktX1_scoreOf_0 := by decide +kernel
theorem dksX1_scoreOf_1 : cX1_scoreOf.data.toList.drop 22 = dktX1_scoreOf_1 := dk_seg dksX1_scoreOf_0 22 rfl rfl
theorem dksX1_scoreOf_2 : cX1_scoreOf.data.toList.drop 44 = dktX1_scoreOf_2 := dk_seg dksX1_scoreOf_1 22 rfl rfl
theorem dX1_scoreOf_0 : decode cX1_scoreOf 0 = .ok (.aload_n 1, 1) := dk_43 (dk_at dksX1_scoreOf_0 0 rfl rfl)
theorem dX1_scoreOf_1 : decode cX1_scoreOf 1 = .ok (.invokevirtual 289, 3) := dk_182 1 33 (dk_at dksX1_scoreOf_0 1 rfl rfl)
theorem dX1_scoreOf_4 : decode cX1_scoreOf 4 = .ok (.istore_n 2, 1) := dk_61 (dk_at dksX1_scoreOf_0 4 rfl rfl)
theorem dX1_scoreOf_5 : decode cX1_scoreOf 5 = .ok (.iload_n 2, 1) := dk_28 (dk_at dksX1_scoreOf_0 5 rfl rfl)
theorem dX1_scoreOf_6 : decode cX1_scoreOf 6 = .ok (.iconst 2, 1) := dk_5 (dk_at dksX1_scoreOf_0 6 rfl rfl)
theorem dX1_scoreOf_7 : decode cX1_scoreOf 7 = .ok (.if_icmp .ge 7, 3) := dk_162 0 7 (dk_at dksX1_scoreOf_0 7 rfl rfl)
theorem dX1_scoreOf_10 : decode cX1_scoreOf 10 = .ok (.ldc_w 284, 3) := dk_19 1 28 (dk_at dksX1_scoreOf_0 10 rfl rfl)
theorem dX1_scoreOf_13 : decode cX1_scoreOf 13 = .ok (.ireturn, 1) := dk_172 (dk_at dksX1_scoreOf_0 13 rfl rfl)
theorem dX1_scoreOf_14 : decode cX1_scoreOf 14 = .ok (.iconst 0, 1) := dk_3 (dk_at dksX1_scoreOf_0 14 rfl rfl)
theorem dX1_scoreOf_15 : decode cX1_scoreOf 15 = .ok (.istore_n 3, 1) := dk_62 (dk_at dksX1_scoreOf_0 15 rfl rfl)
theorem dX1_scoreOf_16 : decode cX1_scoreOf 16 = .ok (.iconst 0, 1) := dk_3 (dk_at dksX1_scoreOf_0 16 rfl rfl)
theorem dX1_scoreOf_17 : decode cX1_scoreOf 17 = .ok (.istore 4, 2) := dk_54 4 (dk_at dksX1_scoreOf_0 17 rfl rfl)
theorem dX1_scoreOf_19 : decode cX1_scoreOf 19 = .ok (.iload 4, 2) := dk_21 4 (dk_at dksX1_scoreOf_0 19 rfl rfl)
theorem dX1_scoreOf_21 : decode cX1_scoreOf 21 = .ok (.aload_n 0, 1) := dk_42 (dk_at dksX1_scoreOf_0 21 rfl rfl)
theorem dX1_scoreOf_22 : decode cX1_scoreOf 22 = .ok (.getfield 254, 3) := dk_180 0 254 (dk_at dksX1_scoreOf_1 0 rfl rfl)
theorem dX1_scoreOf_25 : decode cX1_scoreOf 25 = .ok (.if_icmp .ge 30, 3) := dk_162 0 30 (dk_at dksX1_scoreOf_1 3 rfl rfl)
theorem dX1_scoreOf_28 : decode cX1_scoreOf 28 = .ok (.aload_n 1, 1) := dk_43 (dk_at dksX1_scoreOf_1 6 rfl rfl)
theorem dX1_scoreOf_29 : decode cX1_scoreOf 29 = .ok (.getfield 272, 3) := dk_180 1 16 (dk_at dksX1_scoreOf_1 7 rfl rfl)
theorem dX1_scoreOf_32 : decode cX1_scoreOf 32 = .ok (.iload 4, 2) := dk_21 4 (dk_at dksX1_scoreOf_1 10 rfl rfl)
theorem dX1_scoreOf_34 : decode cX1_scoreOf 34 = .ok (.iaload, 1) := dk_46 (dk_at dksX1_scoreOf_1 12 rfl rfl)
theorem dX1_scoreOf_35 : decode cX1_scoreOf 35 = .ok (.iconst (-1), 1) := dk_2 (dk_at dksX1_scoreOf_1 13 rfl rfl)
theorem dX1_scoreOf_36 : decode cX1_scoreOf 36 = .ok (.if_icmp .eq 13, 3) := dk_159 0 13 (dk_at dksX1_scoreOf_1 14 rfl rfl)
theorem dX1_scoreOf_39 : decode cX1_scoreOf 39 = .ok (.iload_n 3, 1) := dk_29 (dk_at dksX1_scoreOf_1 17 rfl rfl)
theorem dX1_scoreOf_40 : decode cX1_scoreOf 40 = .ok (.aload_n 0, 1) := dk_42 (dk_at dksX1_scoreOf_1 18 rfl rfl)
theorem dX1_scoreOf_41 : decode cX1_scoreOf 41 = .ok (.iload 4, 2) := dk_21 4 (dk_at dksX1_scoreOf_1 19 rfl rfl)
theorem dX1_scoreOf_43 : decode cX1_scoreOf 43 = .ok (.aload_n 1, 1) := dk_43 (dk_at dksX1_scoreOf_1 21 rfl rfl)
theorem dX1_scoreOf_44 : decode cX1_scoreOf 44 = .ok (.invokevirtual 285, 3) := dk_182 1 29 (dk_at dksX1_scoreOf_2 0 rfl rfl)
theorem dX1_scoreOf_47 : decode cX1_scoreOf 47 = .ok (.iadd, 1) := dk_96 (dk_at dksX1_scoreOf_2 3 rfl rfl)
theorem dX1_scoreOf_48 : decode cX1_scoreOf 48 = .ok (.istore_n 3, 1) := dk_62 (dk_at dksX1_scoreOf_2 4 rfl rfl)
theorem dX1_scoreOf_49 : decode cX1_scoreOf 49 = .ok (.iinc 4 1, 3) := dk_132 4 1 (dk_at dksX1_scoreOf_2 5 rfl rfl)
theorem dX1_scoreOf_52 : decode cX1_scoreOf 52 = .ok (.goto (-33), 3) := dk_167 255 223 (dk_at dksX1_scoreOf_2 8 rfl rfl)
theorem dX1_scoreOf_55 : decode cX1_scoreOf 55 = .ok (.iload_n 3, 1) := dk_29 (dk_at dksX1_scoreOf_2 11 rfl rfl)
theorem dX1_scoreOf_56 : decode cX1_scoreOf 56 = .ok (.iload_n 2, 1) := dk_28 (dk_at dksX1_scoreOf_2 12 rfl rfl)
theorem dX1_scoreOf_57 : decode cX1_scoreOf 57 = .ok (.idiv, 1) := dk_108 (dk_at dksX1_scoreOf_2 13 rfl rfl)
theorem dX1_scoreOf_58 : decode cX1_scoreOf 58 = .ok (.ireturn, 1) := dk_172 (dk_at dksX1_scoreOf_2 14 rfl rfl)
abbrev cX1_standsAhead : ByteArray := prog_1_method_43_code
def yX1_standsAhead : MethodName := ⟨RX1, "standsAhead", "(LGrantworks$Application;LGrantworks$Application;)Z"⟩
def dkwX1_standsAhead_3 : List UInt8 := [172]
abbrev dktX1_standsAhead_3 : List UInt8 := dkwX1_standsAhead_3 ++ []
def dkwX1_standsAhead_2 : List UInt8 := [4, 167, 0, 23, 3, 167, 0, 19, 43, 180, 1, 42, 44, 180, 1, 42, 162, 0, 7, 4, 167, 0, 4, 3]
abbrev dktX1_standsAhead_2 : List UInt8 := dkwX1_standsAhead_2 ++ dktX1_standsAhead_3
def dkwX1_standsAhead_1 : List UInt8 := [3, 172, 43, 180, 1, 92, 44, 180, 1, 92, 159, 0, 22, 43, 180, 1, 92, 44, 180, 1, 92, 162, 0, 7]
abbrev dktX1_standsAhead_1 : List UInt8 := dkwX1_standsAhead_1 ++ dktX1_standsAhead_2
def dkwX1_standsAhead_0 : List UInt8 := [42, 43, 182, 1, 88, 42, 44, 182, 1, 88, 100, 62, 29, 153, 0, 13, 29, 158, 0, 7, 4, 167, 0, 4]
abbrev dktX1_standsAhead_0 : List UInt8 := dkwX1_standsAhead_0 ++ dktX1_standsAhead_1
theorem dksX1_standsAhead_0 : cX1_standsAhead.data.toList.drop 0 = dktX1_standsAhead_0 := by decide +kernel
theorem dksX1_standsAhead_1 : cX1_standsAhead.data.toList.drop 24 = dktX1_standsAhead_1 := dk_seg dksX1_standsAhead_0 24 rfl rfl
theorem dksX1_standsAhead_2 : cX1_standsAhead.data.toList.drop 48 = dktX1_standsAhead_2 := dk_seg dksX1_standsAhead_1 24 rfl rfl
theorem dksX1_standsAhead_3 : cX1_standsAhead.data.toList.drop 72 = dktX1_standsAhead_3 := dk_seg dksX1_standsAhead_2 24 rfl rfl
theorem dX1_standsAhead_0 : decode cX1_standsAhead 0 = .ok (.aload_n 0, 1) := dk_42 (dk_at dksX1_standsAhead_0 0 rfl rfl)
theorem dX1_standsAhead_1 : decode cX1_standsAhead 1 = .ok (.aload_n 1, 1) := dk_43 (dk_at dksX1_standsAhead_0 1 rfl rfl)
theorem dX1_standsAhead_2 : decode cX1_standsAhead 2 = .ok (.invokevirtual 344, 3) := dk_182 1 88 (dk_at dksX1_standsAhead_0 2 rfl rfl)
theorem dX1_standsAhead_5 : decode cX1_standsAhead 5 = .ok (.aload_n 0, 1) := dk_42 (dk_at dksX1_standsAhead_0 5 rfl rfl)
theorem dX1_standsAhead_6 : decode cX1_standsAhead 6 = .ok (.aload_n 2, 1) := dk_44 (dk_at dksX1_standsAhead_0 6 rfl rfl)
theorem dX1_standsAhead_7 : decode cX1_standsAhead 7 = .ok (.invokevirtual 344, 3) := dk_182 1 88 (dk_at dksX1_standsAhead_0 7 rfl rfl)
theorem dX1_standsAhead_10 : decode cX1_standsAhead 10 = .ok (.isub, 1) := dk_100 (dk_at dksX1_standsAhead_0 10 rfl rfl)
theorem dX1_standsAhead_11 : decode cX1_standsAhead 11 = .ok (.istore_n 3, 1) := dk_62 (dk_at dksX1_standsAhead_0 11 rfl rfl)
theorem dX1_standsAhead_12 : decode cX1_standsAhead 12 = .ok (.iload_n 3, 1) := dk_29 (dk_at dksX1_standsAhead_0 12 rfl rfl)
theorem dX1_standsAhead_13 : decode cX1_standsAhead 13 = .ok (.ifCond .eq 13, 3) := dk_153 0 13 (dk_at dksX1_standsAhead_0 13 rfl rfl)
theorem dX1_standsAhead_16 : decode cX1_standsAhead 16 = .ok (.iload_n 3, 1) := dk_29 (dk_at dksX1_standsAhead_0 16 rfl rfl)
theorem dX1_standsAhead_17 : decode cX1_standsAhead 17 = .ok (.ifCond .le 7, 3) := dk_158 0 7 (dk_at dksX1_standsAhead_0 17 rfl rfl)
theorem dX1_standsAhead_20 : decode cX1_standsAhead 20 = .ok (.iconst 1, 1) := dk_4 (dk_at dksX1_standsAhead_0 20 rfl rfl)
theorem dX1_standsAhead_21 : decode cX1_standsAhead 21 = .ok (.goto 4, 3) := dk_167 0 4 (dk_at dksX1_standsAhead_0 21 rfl rfl)
theorem dX1_standsAhead_24 : decode cX1_standsAhead 24 = .ok (.iconst 0, 1) := dk_3 (dk_at dksX1_standsAhead_1 0 rfl rfl)
theorem dX1_standsAhead_25 : decode cX1_standsAhead 25 = .ok (.ireturn, 1) := dk_172 (dk_at dksX1_standsAhead_1 1 rfl rfl)
theorem dX1_standsAhead_26 : decode cX1_standsAhead 26 = .ok (.aload_n 1, 1) := dk_43 (dk_at dksX1_standsAhead_1 2 rfl rfl)
theorem dX1_standsAhead_27 : decode cX1_standsAhead 27 = .ok (.getfield 348, 3) := dk_180 1 92 (dk_at dksX1_standsAhead_1 3 rfl rfl)
theorem dX1_standsAhead_30 : decode cX1_standsAhead 30 = .ok (.aload_n 2, 1) := dk_44 (dk_at dksX1_standsAhead_1 6 rfl rfl)
theorem dX1_standsAhead_31 : decode cX1_standsAhead 31 = .ok (.getfield 348, 3) := dk_180 1 92 (dk_at dksX1_standsAhead_1 7 rfl rfl)
theorem dX1_standsAhead_34 : decode cX1_standsAhead 34 = .ok (.if_icmp .eq 22, 3) := dk_159 0 22 (dk_at dksX1_standsAhead_1 10 rfl rfl)
theorem dX1_standsAhead_37 : decode cX1_standsAhead 37 = .ok (.aload_n 1, 1) := dk_43 (dk_at dksX1_standsAhead_1 13 rfl rfl)
theorem dX1_standsAhead_38 : decode cX1_standsAhead 38 = .ok (.getfield 348, 3) := dk_180 1 92 (dk_at dksX1_standsAhead_1 14 rfl rfl)
theorem dX1_standsAhead_41 : decode cX1_standsAhead 41 = .ok (.aload_n 2, 1) := dk_44 (dk_at dksX1_standsAhead_1 17 rfl rfl)
theorem dX1_standsAhead_42 : decode cX1_standsAhead 42 = .ok (.getfield 348, 3) := dk_180 1 92 (dk_at dksX1_standsAhead_1 18 rfl rfl)
theorem dX1_standsAhead_45 : decode cX1_standsAhead 45 = .ok (.if_icmp .ge 7, 3) := dk_162 0 7 (dk_at dksX1_standsAhead_1 21 rfl rfl)
theorem dX1_standsAhead_48 : decode cX1_standsAhead 48 = .ok (.iconst 1, 1) := dk_4 (dk_at dksX1_standsAhead_2 0 rfl rfl)
theorem dX1_standsAhead_49 : decode cX1_standsAhead 49 = .ok (.goto 23, 3) := dk_167 0 23 (dk_at dksX1_standsAhead_2 1 rfl rfl)
theorem dX1_standsAhead_52 : decode cX1_standsAhead 52 = .ok (.iconst 0, 1) := dk_3 (dk_at dksX1_standsAhead_2 4 rfl rfl)
theorem dX1_standsAhead_53 : decode cX1_standsAhead 53 = .ok (.goto 19, 3) := dk_167 0 19 (dk_at dksX1_standsAhead_2 5 rfl rfl)
theorem dX1_standsAhead_56 : decode cX1_standsAhead 56 = .ok (.aload_n 1, 1) := dk_43 (dk_at dksX1_standsAhead_2 8 rfl rfl)
theorem dX1_standsAhead_57 : decode cX1_standsAhead 57 = .ok (.getfield 298, 3) := dk_180 1 42 (dk_at dksX1_standsAhead_2 9 rfl rfl)
theorem dX1_standsAhead_60 : decode cX1_standsAhead 60 = .ok (.aload_n 2, 1) := dk_44 (dk_at dksX1_standsAhead_2 12 rfl rfl)
theorem dX1_standsAhead_61 : decode cX1_standsAhead 61 = .ok (.getfield 298, 3) := dk_180 1 42 (dk_at dksX1_standsAhead_2 13 rfl rfl)
theorem dX1_standsAhead_64 : decode cX1_standsAhead 64 = .ok (.if_icmp .ge 7, 3) := dk_162 0 7 (dk_at dksX1_standsAhead_2 16 rfl rfl)
theorem dX1_standsAhead_67 : decode cX1_standsAhead 67 = .ok (.iconst 1, 1) := dk_4 (dk_at dksX1_standsAhead_2 19 rfl rfl)
theorem dX1_standsAhead_68 : decode cX1_standsAhead 68 = .ok (.goto 4, 3) := dk_167 0 4 (dk_at dksX1_standsAhead_2 20 rfl rfl)
theorem dX1_standsAhead_71 : decode cX1_standsAhead 71 = .ok (.iconst 0, 1) := dk_3 (dk_at dksX1_standsAhead_2 23 rfl rfl)
theorem dX1_standsAhead_72 : decode cX1_standsAhead 72 = .ok (.ireturn, 1) := dk_172 (dk_at dksX1_standsAhead_3 0 rfl rfl)
abbrev cX1_report : ByteArray := prog_1_method_45_code
def yX1_report : MethodName := ⟨RX1, "report", "(II)I"⟩
def dkwX1_report_6 : List UInt8 := [180, 0, 40, 45, 180, 0, 239, 46, 182, 1, 84, 21, 4, 28, 100, 172]
abbrev dktX1_report_6 : List UInt8 := dkwX1_report_6 ++ []
def dkwX1_report_5 : List UInt8 := [182, 1, 110, 42, 25, 5, 21, 4, 28, 100, 27, 182, 1, 113, 21, 4, 28, 164, 0, 16, 42, 42]
abbrev dktX1_report_5 : List UInt8 := dkwX1_report_5 ++ dktX1_report_6
def dkwX1_report_4 : List UInt8 := [181, 1, 106, 45, 180, 1, 103, 6, 160, 0, 10, 45, 178, 1, 107, 181, 0, 242, 42, 25, 5, 28, 27]
abbrev dktX1_report_4 : List UInt8 := dkwX1_report_4 ++ dktX1_report_5
def dkwX1_report_3 : List UInt8 := [182, 1, 60, 58, 5, 45, 89, 180, 1, 103, 4, 96, 181, 1, 103, 45, 89, 180, 1, 106, 28, 96]
abbrev dktX1_report_3 : List UInt8 := dkwX1_report_3 ++ dktX1_report_4
def dkwX1_report_2 : List UInt8 := [180, 1, 103, 46, 54, 4, 28, 133, 9, 21, 4, 133, 184, 0, 98, 184, 0, 156, 42, 45, 45, 180, 1, 103]
abbrev dktX1_report_2 : List UInt8 := dkwX1_report_2 ++ dktX1_report_3
def dkwX1_report_1 : List UInt8 := [166, 0, 14, 42, 182, 1, 73, 154, 0, 7, 4, 167, 0, 4, 3, 184, 0, 206, 45, 180, 1, 36, 45]
abbrev dktX1_report_1 : List UInt8 := dkwX1_report_1 ++ dktX1_report_2
def dkwX1_report_0 : List UInt8 := [42, 27, 182, 0, 236, 184, 0, 218, 42, 180, 0, 65, 27, 50, 78, 45, 180, 0, 242, 178, 1, 57]
abbrev dktX1_report_0 : List UInt8 := dkwX1_report_0 ++ dktX1_report_1
theorem dksX1_report_0 : cX1_report.data.toList.drop 0 = dktX1_report_0 := by decide +kernel
theorem dksX1_report_1 : cX1_report.data.toList.drop 22 = dktX1_report_1 := dk_seg dksX1_report_0 22 rfl rfl
theorem dksX1_report_2 : cX1_report.data.toList.drop 45 = dktX1_report_2 := dk_seg dksX1_report_1 23 rfl rfl
theorem dksX1_report_3 : cX1_report.data.toList.drop 69 = dktX1_report_3 := dk_seg dksX1_report_2 24 rfl rfl
theorem dksX1_report_4 : cX1_report.data.toList.drop 91 = dktX1_report_4 := dk_seg dksX1_report_3 22 rfl rfl
theorem dksX1_report_5 : cX1_report.data.toList.drop 114 = dktX1_report_5 := dk_seg dksX1_report_4 23 rfl rfl
theorem dksX1_report_6 : cX1_report.data.toList.drop 136 = dktX1_report_6 := dk_seg dksX1_report_5 22 rfl rfl
theorem dX1_report_0 : decode cX1_report 0 = .ok (.aload_n 0, 1) := dk_42 (dk_at dksX1_report_0 0 rfl rfl)
theorem dX1_report_1 : decode cX1_report 1 = .ok (.iload_n 1, 1) := dk_27 (dk_at dksX1_report_0 1 rfl rfl)
theorem dX1_report_2 : decode cX1_report 2 = .ok (.invokevirtual 236, 3) := dk_182 0 236 (dk_at dksX1_report_0 2 rfl rfl)
theorem dX1_report_5 : decode cX1_report 5 = .ok (.invokestatic 218, 3) := dk_184 0 218 (dk_at dksX1_report_0 5 rfl rfl)
theorem dX1_report_8 : decode cX1_report 8 = .ok (.aload_n 0, 1) := dk_42 (dk_at dksX1_report_0 8 rfl rfl)
theorem dX1_report_9 : decode cX1_report 9 = .ok (.getfield 65, 3) := dk_180 0 65 (dk_at dksX1_report_0 9 rfl rfl)
theorem dX1_report_12 : decode cX1_report 12 = .ok (.iload_n 1, 1) := dk_27 (dk_at dksX1_report_0 12 rfl rfl)
theorem dX1_report_13 : decode cX1_report 13 = .ok (.aaload, 1) := dk_50 (dk_at dksX1_report_0 13 rfl rfl)
theorem dX1_report_14 : decode cX1_report 14 = .ok (.astore_n 3, 1) := dk_78 (dk_at dksX1_report_0 14 rfl rfl)
theorem dX1_report_15 : decode cX1_report 15 = .ok (.aload_n 3, 1) := dk_45 (dk_at dksX1_report_0 15 rfl rfl)
theorem dX1_report_16 : decode cX1_report 16 = .ok (.getfield 242, 3) := dk_180 0 242 (dk_at dksX1_report_0 16 rfl rfl)
theorem dX1_report_19 : decode cX1_report 19 = .ok (.getstatic 313, 3) := dk_178 1 57 (dk_at dksX1_report_0 19 rfl rfl)
theorem dX1_report_22 : decode cX1_report 22 = .ok (.if_acmp .ne 14, 3) := dk_166 0 14 (dk_at dksX1_report_1 0 rfl rfl)
theorem dX1_report_25 : decode cX1_report 25 = .ok (.aload_n 0, 1) := dk_42 (dk_at dksX1_report_1 3 rfl rfl)
theorem dX1_report_26 : decode cX1_report 26 = .ok (.invokevirtual 329, 3) := dk_182 1 73 (dk_at dksX1_report_1 4 rfl rfl)
theorem dX1_report_29 : decode cX1_report 29 = .ok (.ifCond .ne 7, 3) := dk_154 0 7 (dk_at dksX1_report_1 7 rfl rfl)
theorem dX1_report_32 : decode cX1_report 32 = .ok (.iconst 1, 1) := dk_4 (dk_at dksX1_report_1 10 rfl rfl)
theorem dX1_report_33 : decode cX1_report 33 = .ok (.goto 4, 3) := dk_167 0 4 (dk_at dksX1_report_1 11 rfl rfl)
theorem dX1_report_36 : decode cX1_report 36 = .ok (.iconst 0, 1) := dk_3 (dk_at dksX1_report_1 14 rfl rfl)
theorem dX1_report_37 : decode cX1_report 37 = .ok (.invokestatic 206, 3) := dk_184 0 206 (dk_at dksX1_report_1 15 rfl rfl)
theorem dX1_report_40 : decode cX1_report 40 = .ok (.aload_n 3, 1) := dk_45 (dk_at dksX1_report_1 18 rfl rfl)
theorem dX1_report_41 : decode cX1_report 41 = .ok (.getfield 292, 3) := dk_180 1 36 (dk_at dksX1_report_1 19 rfl rfl)
theorem dX1_report_44 : decode cX1_report 44 = .ok (.aload_n 3, 1) := dk_45 (dk_at dksX1_report_1 22 rfl rfl)
theorem dX1_report_45 : decode cX1_report 45 = .ok (.getfield 359, 3) := dk_180 1 103 (dk_at dksX1_report_2 0 rfl rfl)
theorem dX1_report_48 : decode cX1_report 48 = .ok (.iaload, 1) := dk_46 (dk_at dksX1_report_2 3 rfl rfl)
theorem dX1_report_49 : decode cX1_report 49 = .ok (.istore 4, 2) := dk_54 4 (dk_at dksX1_report_2 4 rfl rfl)
theorem dX1_report_51 : decode cX1_report 51 = .ok (.iload_n 2, 1) := dk_28 (dk_at dksX1_report_2 6 rfl rfl)
theorem dX1_report_52 : decode cX1_report 52 = .ok (.i2l, 1) := dk_133 (dk_at dksX1_report_2 7 rfl rfl)
theorem dX1_report_53 : decode cX1_report 53 = .ok (.lconst 0, 1) := dk_9 (dk_at dksX1_report_2 8 rfl rfl)
theorem dX1_report_54 : decode cX1_report 54 = .ok (.iload 4, 2) := dk_21 4 (dk_at dksX1_report_2 9 rfl rfl)
theorem dX1_report_56 : decode cX1_report 56 = .ok (.i2l, 1) := dk_133 (dk_at dksX1_report_2 11 rfl rfl)
theorem dX1_report_57 : decode cX1_report 57 = .ok (.invokestatic 98, 3) := dk_184 0 98 (dk_at dksX1_report_2 12 rfl rfl)
theorem dX1_report_60 : decode cX1_report 60 = .ok (.invokestatic 156, 3) := dk_184 0 156 (dk_at dksX1_report_2 15 rfl rfl)
theorem dX1_report_63 : decode cX1_report 63 = .ok (.aload_n 0, 1) := dk_42 (dk_at dksX1_report_2 18 rfl rfl)
theorem dX1_report_64 : decode cX1_report 64 = .ok (.aload_n 3, 1) := dk_45 (dk_at dksX1_report_2 19 rfl rfl)
theorem dX1_report_65 : decode cX1_report 65 = .ok (.aload_n 3, 1) := dk_45 (dk_at dksX1_report_2 20 rfl rfl)
theorem dX1_report_66 : decode cX1_report 66 = .ok (.getfield 359, 3) := dk_180 1 103 (dk_at dksX1_report_2 21 rfl rfl)
theorem dX1_report_69 : decode cX1_report 69 = .ok (.invokevirtual 316, 3) := dk_182 1 60 (dk_at dksX1_report_3 0 rfl rfl)
theorem dX1_report_72 : decode cX1_report 72 = .ok (.astore 5, 2) := dk_58 5 (dk_at dksX1_report_3 3 rfl rfl)
theorem dX1_report_74 : decode cX1_report 74 = .ok (.aload_n 3, 1) := dk_45 (dk_at dksX1_report_3 5 rfl rfl)
theorem dX1_report_75 : decode cX1_report 75 = .ok (.dup, 1) := dk_89 (dk_at dksX1_report_3 6 rfl rfl)
theorem dX1_report_76 : decode cX1_report 76 = .ok (.getfield 359, 3) := dk_180 1 103 (dk_at dksX1_report_3 7 rfl rfl)
theorem dX1_report_79 : decode cX1_report 79 = .ok (.iconst 1, 1) := dk_4 (dk_at dksX1_report_3 10 rfl rfl)
theorem dX1_report_80 : decode cX1_report 80 = .ok (.iadd, 1) := dk_96 (dk_at dksX1_report_3 11 rfl rfl)
theorem dX1_report_81 : decode cX1_report 81 = .ok (.putfield 359, 3) := dk_181 1 103 (dk_at dksX1_report_3 12 rfl rfl)
theorem dX1_report_84 : decode cX1_report 84 = .ok (.aload_n 3, 1) := dk_45 (dk_at dksX1_report_3 15 rfl rfl)
theorem dX1_report_85 : decode cX1_report 85 = .ok (.dup, 1) := dk_89 (dk_at dksX1_report_3 16 rfl rfl)
theorem dX1_report_86 : decode cX1_report 86 = .ok (.getfield 362, 3) := dk_180 1 106 (dk_at dksX1_report_3 17 rfl rfl)
theorem dX1_report_89 : decode cX1_report 89 = .ok (.iload_n 2, 1) := dk_28 (dk_at dksX1_report_3 20 rfl rfl)
theorem dX1_report_90 : decode cX1_report 90 = .ok (.iadd, 1) := dk_96 (dk_at dksX1_report_3 21 rfl rfl)
theorem dX1_report_91 : decode cX1_report 91 = .ok (.putfield 362, 3) := dk_181 1 106 (dk_at dksX1_report_4 0 rfl rfl)
theorem dX1_report_94 : decode cX1_report 94 = .ok (.aload_n 3, 1) := dk_45 (dk_at dksX1_report_4 3 rfl rfl)
theorem dX1_report_95 : decode cX1_report 95 = .ok (.getfield 359, 3) := dk_180 1 103 (dk_at dksX1_report_4 4 rfl rfl)
theorem dX1_report_98 : decode cX1_report 98 = .ok (.iconst 3, 1) := dk_6 (dk_at dksX1_report_4 7 rfl rfl)
theorem dX1_report_99 : decode cX1_report 99 = .ok (.if_icmp .ne 10, 3) := dk_160 0 10 (dk_at dksX1_report_4 8 rfl rfl)
theorem dX1_report_102 : decode cX1_report 102 = .ok (.aload_n 3, 1) := dk_45 (dk_at dksX1_report_4 11 rfl rfl)
theorem dX1_report_103 : decode cX1_report 103 = .ok (.getstatic 363, 3) := dk_178 1 107 (dk_at dksX1_report_4 12 rfl rfl)
theorem dX1_report_106 : decode cX1_report 106 = .ok (.putfield 242, 3) := dk_181 0 242 (dk_at dksX1_report_4 15 rfl rfl)
theorem dX1_report_109 : decode cX1_report 109 = .ok (.aload_n 0, 1) := dk_42 (dk_at dksX1_report_4 18 rfl rfl)
theorem dX1_report_110 : decode cX1_report 110 = .ok (.aload 5, 2) := dk_25 5 (dk_at dksX1_report_4 19 rfl rfl)
theorem dX1_report_112 : decode cX1_report 112 = .ok (.iload_n 2, 1) := dk_28 (dk_at dksX1_report_4 21 rfl rfl)
theorem dX1_report_113 : decode cX1_report 113 = .ok (.iload_n 1, 1) := dk_27 (dk_at dksX1_report_4 22 rfl rfl)
theorem dX1_report_114 : decode cX1_report 114 = .ok (.invokevirtual 366, 3) := dk_182 1 110 (dk_at dksX1_report_5 0 rfl rfl)
theorem dX1_report_117 : decode cX1_report 117 = .ok (.aload_n 0, 1) := dk_42 (dk_at dksX1_report_5 3 rfl rfl)
theorem dX1_report_118 : decode cX1_report 118 = .ok (.aload 5, 2) := dk_25 5 (dk_at dksX1_report_5 4 rfl rfl)
theorem dX1_report_120 : decode cX1_report 120 = .ok (.iload 4, 2) := dk_21 4 (dk_at dksX1_report_5 6 rfl rfl)
theorem dX1_report_122 : decode cX1_report 122 = .ok (.iload_n 2, 1) := dk_28 (dk_at dksX1_report_5 8 rfl rfl)
theorem dX1_report_123 : decode cX1_report 123 = .ok (.isub, 1) := dk_100 (dk_at dksX1_report_5 9 rfl rfl)
theorem dX1_report_124 : decode cX1_report 124 = .ok (.iload_n 1, 1) := dk_27 (dk_at dksX1_report_5 10 rfl rfl)
theorem dX1_report_125 : decode cX1_report 125 = .ok (.invokevirtual 369, 3) := dk_182 1 113 (dk_at dksX1_report_5 11 rfl rfl)
theorem dX1_report_128 : decode cX1_report 128 = .ok (.iload 4, 2) := dk_21 4 (dk_at dksX1_report_5 14 rfl rfl)
theorem dX1_report_130 : decode cX1_report 130 = .ok (.iload_n 2, 1) := dk_28 (dk_at dksX1_report_5 16 rfl rfl)
theorem dX1_report_131 : decode cX1_report 131 = .ok (.if_icmp .le 16, 3) := dk_164 0 16 (dk_at dksX1_report_5 17 rfl rfl)
theorem dX1_report_134 : decode cX1_report 134 = .ok (.aload_n 0, 1) := dk_42 (dk_at dksX1_report_5 20 rfl rfl)
theorem dX1_report_135 : decode cX1_report 135 = .ok (.aload_n 0, 1) := dk_42 (dk_at dksX1_report_5 21 rfl rfl)
theorem dX1_report_136 : decode cX1_report 136 = .ok (.getfield 40, 3) := dk_180 0 40 (dk_at dksX1_report_6 0 rfl rfl)
theorem dX1_report_139 : decode cX1_report 139 = .ok (.aload_n 3, 1) := dk_45 (dk_at dksX1_report_6 3 rfl rfl)
theorem dX1_report_140 : decode cX1_report 140 = .ok (.getfield 239, 3) := dk_180 0 239 (dk_at dksX1_report_6 4 rfl rfl)
theorem dX1_report_143 : decode cX1_report 143 = .ok (.iaload, 1) := dk_46 (dk_at dksX1_report_6 7 rfl rfl)
theorem dX1_report_144 : decode cX1_report 144 = .ok (.invokevirtual 340, 3) := dk_182 1 84 (dk_at dksX1_report_6 8 rfl rfl)
theorem dX1_report_147 : decode cX1_report 147 = .ok (.iload 4, 2) := dk_21 4 (dk_at dksX1_report_6 11 rfl rfl)
theorem dX1_report_149 : decode cX1_report 149 = .ok (.iload_n 2, 1) := dk_28 (dk_at dksX1_report_6 13 rfl rfl)
theorem dX1_report_150 : decode cX1_report 150 = .ok (.isub, 1) := dk_100 (dk_at dksX1_report_6 14 rfl rfl)
theorem dX1_report_151 : decode cX1_report 151 = .ok (.ireturn, 1) := dk_172 (dk_at dksX1_report_6 15 rfl rfl)
abbrev cX1_pay : ByteArray := prog_1_method_14_code
def yX1_pay : MethodName := ⟨RX1, "pay", "(LGrantworks$Key;II)V"⟩
def dkwX1_pay_2 : List UInt8 := [183, 0, 148, 182, 0, 141, 177]
abbrev dktX1_pay_2 : List UInt8 := dkwX1_pay_2 ++ []
def dkwX1_pay_1 : List UInt8 := [180, 0, 22, 43, 182, 0, 129, 89, 180, 0, 145, 28, 96, 181, 0, 145, 42, 187, 0, 108, 89, 43, 28, 29]
abbrev dktX1_pay_1 : List UInt8 := dkwX1_pay_1 ++ dktX1_pay_2
def dkwX1_pay_0 : List UInt8 := [28, 154, 0, 4, 177, 42, 180, 0, 22, 43, 182, 0, 129, 89, 180, 0, 133, 28, 100, 181, 0, 133, 42]
abbrev dktX1_pay_0 : List UInt8 := dkwX1_pay_0 ++ dktX1_pay_1
theorem dksX1_pay_0 : cX1_pay.data.toList.drop 0 = dktX1_pay_0 := by decide +kernel
theorem dksX1_pay_1 : cX1_pay.data.toList.drop 23 = dktX1_pay_1 := dk_seg dksX1_pay_0 23 rfl rfl
theorem dksX1_pay_2 : cX1_pay.data.toList.drop 47 = dktX1_pay_2 := dk_seg dksX1_pay_1 24 rfl rfl
theorem dX1_pay_0 : decode cX1_pay 0 = .ok (.iload_n 2, 1) := dk_28 (dk_at dksX1_pay_0 0 rfl rfl)
theorem dX1_pay_1 : decode cX1_pay 1 = .ok (.ifCond .ne 4, 3) := dk_154 0 4 (dk_at dksX1_pay_0 1 rfl rfl)
theorem dX1_pay_4 : decode cX1_pay 4 = .ok (.return_, 1) := dk_177 (dk_at dksX1_pay_0 4 rfl rfl)
theorem dX1_pay_5 : decode cX1_pay 5 = .ok (.aload_n 0, 1) := dk_42 (dk_at dksX1_pay_0 5 rfl rfl)
theorem dX1_pay_6 : decode cX1_pay 6 = .ok (.getfield 22, 3) := dk_180 0 22 (dk_at dksX1_pay_0 6 rfl rfl)
theorem dX1_pay_9 : decode cX1_pay 9 = .ok (.aload_n 1, 1) := dk_43 (dk_at dksX1_pay_0 9 rfl rfl)
theorem dX1_pay_10 : decode cX1_pay 10 = .ok (.invokevirtual 129, 3) := dk_182 0 129 (dk_at dksX1_pay_0 10 rfl rfl)
theorem dX1_pay_13 : decode cX1_pay 13 = .ok (.dup, 1) := dk_89 (dk_at dksX1_pay_0 13 rfl rfl)
theorem dX1_pay_14 : decode cX1_pay 14 = .ok (.getfield 133, 3) := dk_180 0 133 (dk_at dksX1_pay_0 14 rfl rfl)
theorem dX1_pay_17 : decode cX1_pay 17 = .ok (.iload_n 2, 1) := dk_28 (dk_at dksX1_pay_0 17 rfl rfl)
theorem dX1_pay_18 : decode cX1_pay 18 = .ok (.isub, 1) := dk_100 (dk_at dksX1_pay_0 18 rfl rfl)
theorem dX1_pay_19 : decode cX1_pay 19 = .ok (.putfield 133, 3) := dk_181 0 133 (dk_at dksX1_pay_0 19 rfl rfl)
theorem dX1_pay_22 : decode cX1_pay 22 = .ok (.aload_n 0, 1) := dk_42 (dk_at dksX1_pay_0 22 rfl rfl)
theorem dX1_pay_23 : decode cX1_pay 23 = .ok (.getfield 22, 3) := dk_180 0 22 (dk_at dksX1_pay_1 0 rfl rfl)
theorem dX1_pay_26 : decode cX1_pay 26 = .ok (.aload_n 1, 1) := dk_43 (dk_at dksX1_pay_1 3 rfl rfl)
theorem dX1_pay_27 : decode cX1_pay 27 = .ok (.invokevirtual 129, 3) := dk_182 0 129 (dk_at dksX1_pay_1 4 rfl rfl)
theorem dX1_pay_30 : decode cX1_pay 30 = .ok (.dup, 1) := dk_89 (dk_at dksX1_pay_1 7 rfl rfl)
theorem dX1_pay_31 : decode cX1_pay 31 = .ok (.getfield 145, 3) := dk_180 0 145 (dk_at dksX1_pay_1 8 rfl rfl)
theorem dX1_pay_34 : decode cX1_pay 34 = .ok (.iload_n 2, 1) := dk_28 (dk_at dksX1_pay_1 11 rfl rfl)
theorem dX1_pay_35 : decode cX1_pay 35 = .ok (.iadd, 1) := dk_96 (dk_at dksX1_pay_1 12 rfl rfl)
theorem dX1_pay_36 : decode cX1_pay 36 = .ok (.putfield 145, 3) := dk_181 0 145 (dk_at dksX1_pay_1 13 rfl rfl)
theorem dX1_pay_39 : decode cX1_pay 39 = .ok (.aload_n 0, 1) := dk_42 (dk_at dksX1_pay_1 16 rfl rfl)
theorem dX1_pay_40 : decode cX1_pay 40 = .ok (.new 108, 3) := dk_187 0 108 (dk_at dksX1_pay_1 17 rfl rfl)
theorem dX1_pay_43 : decode cX1_pay 43 = .ok (.dup, 1) := dk_89 (dk_at dksX1_pay_1 20 rfl rfl)
theorem dX1_pay_44 : decode cX1_pay 44 = .ok (.aload_n 1, 1) := dk_43 (dk_at dksX1_pay_1 21 rfl rfl)
theorem dX1_pay_45 : decode cX1_pay 45 = .ok (.iload_n 2, 1) := dk_28 (dk_at dksX1_pay_1 22 rfl rfl)
theorem dX1_pay_46 : decode cX1_pay 46 = .ok (.iload_n 3, 1) := dk_29 (dk_at dksX1_pay_1 23 rfl rfl)
theorem dX1_pay_47 : decode cX1_pay 47 = .ok (.invokespecial 148, 3) := dk_183 0 148 (dk_at dksX1_pay_2 0 rfl rfl)
theorem dX1_pay_50 : decode cX1_pay 50 = .ok (.invokevirtual 141, 3) := dk_182 0 141 (dk_at dksX1_pay_2 3 rfl rfl)
theorem dX1_pay_53 : decode cX1_pay 53 = .ok (.return_, 1) := dk_177 (dk_at dksX1_pay_2 6 rfl rfl)
abbrev cX1_giveBack : ByteArray := prog_1_method_15_code
def yX1_giveBack : MethodName := ⟨RX1, "giveBack", "(LGrantworks$Key;II)V"⟩
def dkwX1_giveBack_1 : List UInt8 := [187, 0, 116, 89, 43, 28, 29, 183, 0, 149, 182, 0, 141, 177]
abbrev dktX1_giveBack_1 : List UInt8 := dkwX1_giveBack_1 ++ []
def dkwX1_giveBack_0 : List UInt8 := [28, 154, 0, 4, 177, 42, 180, 0, 22, 43, 182, 0, 129, 89, 180, 0, 133, 28, 100, 181, 0, 133, 42]
abbrev dktX1_giveBack_0 : List UInt8 := dkwX1_giveBack_0 ++ dktX1_giveBack_1
theorem dksX1_giveBack_0 : cX1_giveBack.data.toList.drop 0 = dktX1_giveBack_0 := by decide +kernel
theorem dksX1_giveBack_1 : cX1_giveBack.data.toList.drop 23 = dktX1_giveBack_1 := dk_seg dksX1_giveBack_0 23 rfl rfl
theorem dX1_giveBack_0 : decode cX1_giveBack 0 = .ok (.iload_n 2, 1) := dk_28 (dk_at dksX1_giveBack_0 0 rfl rfl)
theorem dX1_giveBack_1 : decode cX1_giveBack 1 = .ok (.ifCond .ne 4, 3) := dk_154 0 4 (dk_at dksX1_giveBack_0 1 rfl rfl)
theorem dX1_giveBack_4 : decode cX1_giveBack 4 = .ok (.return_, 1) := dk_177 (dk_at dksX1_giveBack_0 4 rfl rfl)
theorem dX1_giveBack_5 : decode cX1_giveBack 5 = .ok (.aload_n 0, 1) := dk_42 (dk_at dksX1_giveBack_0 5 rfl rfl)
theorem dX1_giveBack_6 : decode cX1_giveBack 6 = .ok (.getfield 22, 3) := dk_180 0 22 (dk_at dksX1_giveBack_0 6 rfl rfl)
theorem dX1_giveBack_9 : decode cX1_giveBack 9 = .ok (.aload_n 1, 1) := dk_43 (dk_at dksX1_giveBack_0 9 rfl rfl)
theorem dX1_giveBack_10 : decode cX1_giveBack 10 = .ok (.invokevirtual 129, 3) := dk_182 0 129 (dk_at dksX1_giveBack_0 10 rfl rfl)
theorem dX1_giveBack_13 : decode cX1_giveBack 13 = .ok (.dup, 1) := dk_89 (dk_at dksX1_giveBack_0 13 rfl rfl)
theorem dX1_giveBack_14 : decode cX1_giveBack 14 = .ok (.getfield 133, 3) := dk_180 0 133 (dk_at dksX1_giveBack_0 14 rfl rfl)
theorem dX1_giveBack_17 : decode cX1_giveBack 17 = .ok (.iload_n 2, 1) := dk_28 (dk_at dksX1_giveBack_0 17 rfl rfl)
theorem dX1_giveBack_18 : decode cX1_giveBack 18 = .ok (.isub, 1) := dk_100 (dk_at dksX1_giveBack_0 18 rfl rfl)
theorem dX1_giveBack_19 : decode cX1_giveBack 19 = .ok (.putfield 133, 3) := dk_181 0 133 (dk_at dksX1_giveBack_0 19 rfl rfl)
theorem dX1_giveBack_22 : decode cX1_giveBack 22 = .ok (.aload_n 0, 1) := dk_42 (dk_at dksX1_giveBack_0 22 rfl rfl)
theorem dX1_giveBack_23 : decode cX1_giveBack 23 = .ok (.new 116, 3) := dk_187 0 116 (dk_at dksX1_giveBack_1 0 rfl rfl)
theorem dX1_giveBack_26 : decode cX1_giveBack 26 = .ok (.dup, 1) := dk_89 (dk_at dksX1_giveBack_1 3 rfl rfl)
theorem dX1_giveBack_27 : decode cX1_giveBack 27 = .ok (.aload_n 1, 1) := dk_43 (dk_at dksX1_giveBack_1 4 rfl rfl)
theorem dX1_giveBack_28 : decode cX1_giveBack 28 = .ok (.iload_n 2, 1) := dk_28 (dk_at dksX1_giveBack_1 5 rfl rfl)
theorem dX1_giveBack_29 : decode cX1_giveBack 29 = .ok (.iload_n 3, 1) := dk_29 (dk_at dksX1_giveBack_1 6 rfl rfl)
theorem dX1_giveBack_30 : decode cX1_giveBack 30 = .ok (.invokespecial 149, 3) := dk_183 0 149 (dk_at dksX1_giveBack_1 7 rfl rfl)
theorem dX1_giveBack_33 : decode cX1_giveBack 33 = .ok (.invokevirtual 141, 3) := dk_182 0 141 (dk_at dksX1_giveBack_1 10 rfl rfl)
theorem dX1_giveBack_36 : decode cX1_giveBack 36 = .ok (.return_, 1) := dk_177 (dk_at dksX1_giveBack_1 13 rfl rfl)
abbrev cX1_end : ByteArray := prog_1_method_46_code
def yX1_end : MethodName := ⟨RX1, "end", "(IZ)I"⟩
def dkwX1_end_7 : List UInt8 := [21, 4, 172]
abbrev dktX1_end_7 : List UInt8 := dkwX1_end_7 ++ []
def dkwX1_end_6 : List UInt8 := [21, 5, 154, 0, 8, 21, 4, 158, 0, 16, 42, 42, 180, 0, 40, 45, 180, 0, 239, 46, 182, 1, 84]
abbrev dktX1_end_6 : List UInt8 := dkwX1_end_6 ++ dktX1_end_7
def dkwX1_end_5 : List UInt8 := [132, 6, 1, 167, 255, 223, 21, 5, 153, 0, 8, 42, 45, 182, 1, 53, 45, 178, 0, 246, 181, 0, 242]
abbrev dktX1_end_5 : List UInt8 := dkwX1_end_5 ++ dktX1_end_6
def dkwX1_end_4 : List UInt8 := [158, 0, 28, 42, 42, 45, 21, 6, 182, 1, 60, 45, 180, 1, 36, 21, 6, 46, 27, 182, 1, 113]
abbrev dktX1_end_4 : List UInt8 := dkwX1_end_4 ++ dktX1_end_5
def dkwX1_end_3 : List UInt8 := [166, 0, 7, 4, 167, 0, 4, 3, 54, 5, 45, 180, 1, 103, 54, 6, 21, 6, 6, 162, 0, 33, 21, 4]
abbrev dktX1_end_3 : List UInt8 := dkwX1_end_3 ++ dktX1_end_4
def dkwX1_end_2 : List UInt8 := [182, 1, 120, 153, 0, 10, 45, 182, 1, 123, 167, 0, 4, 3, 54, 4, 45, 180, 0, 242, 178, 1, 96]
abbrev dktX1_end_2 : List UInt8 := dkwX1_end_2 ++ dktX1_end_3
def dkwX1_end_1 : List UInt8 := [153, 0, 14, 42, 182, 1, 73, 154, 0, 7, 4, 167, 0, 4, 3, 184, 0, 206, 45, 180, 0, 242]
abbrev dktX1_end_1 : List UInt8 := dkwX1_end_1 ++ dktX1_end_2
def dkwX1_end_0 : List UInt8 := [42, 27, 182, 0, 236, 184, 0, 218, 42, 180, 0, 65, 27, 50, 78, 45, 180, 0, 242, 28, 182, 1, 116]
abbrev dktX1_end_0 : List UInt8 := dkwX1_end_0 ++ dktX1_end_1
theorem dksX1_end_0 : cX1_end.data.toList.drop 0 = dktX1_end_0 := by decide +kernel
theorem dksX1_end_1 : cX1_end.data.toList.drop 23 = dktX1_end_1 := dk_seg dksX1_end_0 23 rfl rfl
theorem dksX1_end_2 : cX1_end.data.toList.drop 45 = dktX1_end_2 := dk_seg dksX1_end_1 22 rfl rfl
theorem dksX1_end_3 : cX1_end.data.toList.drop 68 = dktX1_end_3 := dk_seg dksX1_end_2 23 rfl rfl
theorem dksX1_end_4 : cX1_end.data.toList.drop 92 = dktX1_end_4 := dk_seg dksX1_end_3 24 rfl rfl
theorem dksX1_end_5 : cX1_end.data.toList.drop 114 = dktX1_end_5 := dk_seg dksX1_end_4 22 rfl rfl
theorem dksX1_end_6 : cX1_end.data.toList.drop 137 = dktX1_end_6 := dk_seg dksX1_end_5 23 rfl rfl
theorem dksX1_end_7 : cX1_end.data.toList.drop 160 = dktX1_end_7 := dk_seg dksX1_end_6 23 rfl rfl
theorem dX1_end_0 : decode cX1_end 0 = .ok (.aload_n 0, 1) := dk_42 (dk_at dksX1_end_0 0 rfl rfl)
theorem dX1_end_1 : decode cX1_end 1 = .ok (.iload_n 1, 1) := dk_27 (dk_at dksX1_end_0 1 rfl rfl)
theorem dX1_end_2 : decode cX1_end 2 = .ok (.invokevirtual 236, 3) := dk_182 0 236 (dk_at dksX1_end_0 2 rfl rfl)
theorem dX1_end_5 : decode cX1_end 5 = .ok (.invokestatic 218, 3) := dk_184 0 218 (dk_at dksX1_end_0 5 rfl rfl)
theorem dX1_end_8 : decode cX1_end 8 = .ok (.aload_n 0, 1) := dk_42 (dk_at dksX1_end_0 8 rfl rfl)
theorem dX1_end_9 : decode cX1_end 9 = .ok (.getfield 65, 3) := dk_180 0 65 (dk_at dksX1_end_0 9 rfl rfl)
theorem dX1_end_12 : decode cX1_end 12 = .ok (.iload_n 1, 1) := dk_27 (dk_at dksX1_end_0 12 rfl rfl)
theorem dX1_end_13 : decode cX1_end 13 = .ok (.aaload, 1) := dk_50 (dk_at dksX1_end_0 13 rfl rfl)
theorem dX1_end_14 : decode cX1_end 14 = .ok (.astore_n 3, 1) := dk_78 (dk_at dksX1_end_0 14 rfl rfl)
theorem dX1_end_15 : decode cX1_end 15 = .ok (.aload_n 3, 1) := dk_45 (dk_at dksX1_end_0 15 rfl rfl)
theorem dX1_end_16 : decode cX1_end 16 = .ok (.getfield 242, 3) := dk_180 0 242 (dk_at dksX1_end_0 16 rfl rfl)
theorem dX1_end_19 : decode cX1_end 19 = .ok (.iload_n 2, 1) := dk_28 (dk_at dksX1_end_0 19 rfl rfl)
theorem dX1_end_20 : decode cX1_end 20 = .ok (.invokevirtual 372, 3) := dk_182 1 116 (dk_at dksX1_end_0 20 rfl rfl)
theorem dX1_end_23 : decode cX1_end 23 = .ok (.ifCond .eq 14, 3) := dk_153 0 14 (dk_at dksX1_end_1 0 rfl rfl)
theorem dX1_end_26 : decode cX1_end 26 = .ok (.aload_n 0, 1) := dk_42 (dk_at dksX1_end_1 3 rfl rfl)
theorem dX1_end_27 : decode cX1_end 27 = .ok (.invokevirtual 329, 3) := dk_182 1 73 (dk_at dksX1_end_1 4 rfl rfl)
theorem dX1_end_30 : decode cX1_end 30 = .ok (.ifCond .ne 7, 3) := dk_154 0 7 (dk_at dksX1_end_1 7 rfl rfl)
theorem dX1_end_33 : decode cX1_end 33 = .ok (.iconst 1, 1) := dk_4 (dk_at dksX1_end_1 10 rfl rfl)
theorem dX1_end_34 : decode cX1_end 34 = .ok (.goto 4, 3) := dk_167 0 4 (dk_at dksX1_end_1 11 rfl rfl)
theorem dX1_end_37 : decode cX1_end 37 = .ok (.iconst 0, 1) := dk_3 (dk_at dksX1_end_1 14 rfl rfl)
theorem dX1_end_38 : decode cX1_end 38 = .ok (.invokestatic 206, 3) := dk_184 0 206 (dk_at dksX1_end_1 15 rfl rfl)
theorem dX1_end_41 : decode cX1_end 41 = .ok (.aload_n 3, 1) := dk_45 (dk_at dksX1_end_1 18 rfl rfl)
theorem dX1_end_42 : decode cX1_end 42 = .ok (.getfield 242, 3) := dk_180 0 242 (dk_at dksX1_end_1 19 rfl rfl)
theorem dX1_end_45 : decode cX1_end 45 = .ok (.invokevirtual 376, 3) := dk_182 1 120 (dk_at dksX1_end_2 0 rfl rfl)
theorem dX1_end_48 : decode cX1_end 48 = .ok (.ifCond .eq 10, 3) := dk_153 0 10 (dk_at dksX1_end_2 3 rfl rfl)
theorem dX1_end_51 : decode cX1_end 51 = .ok (.aload_n 3, 1) := dk_45 (dk_at dksX1_end_2 6 rfl rfl)
theorem dX1_end_52 : decode cX1_end 52 = .ok (.invokevirtual 379, 3) := dk_182 1 123 (dk_at dksX1_end_2 7 rfl rfl)
theorem dX1_end_55 : decode cX1_end 55 = .ok (.goto 4, 3) := dk_167 0 4 (dk_at dksX1_end_2 10 rfl rfl)
theorem dX1_end_58 : decode cX1_end 58 = .ok (.iconst 0, 1) := dk_3 (dk_at dksX1_end_2 13 rfl rfl)
theorem dX1_end_59 : decode cX1_end 59 = .ok (.istore 4, 2) := dk_54 4 (dk_at dksX1_end_2 14 rfl rfl)
theorem dX1_end_61 : decode cX1_end 61 = .ok (.aload_n 3, 1) := dk_45 (dk_at dksX1_end_2 16 rfl rfl)
theorem dX1_end_62 : decode cX1_end 62 = .ok (.getfield 242, 3) := dk_180 0 242 (dk_at dksX1_end_2 17 rfl rfl)
theorem dX1_end_65 : decode cX1_end 65 = .ok (.getstatic 352, 3) := dk_178 1 96 (dk_at dksX1_end_2 20 rfl rfl)
theorem dX1_end_68 : decode cX1_end 68 = .ok (.if_acmp .ne 7, 3) := dk_166 0 7 (dk_at dksX1_end_3 0 rfl rfl)
theorem dX1_end_71 : decode cX1_end 71 = .ok (.iconst 1, 1) := dk_4 (dk_at dksX1_end_3 3 rfl rfl)
theorem dX1_end_72 : decode cX1_end 72 = .ok (.goto 4, 3) := dk_167 0 4 (dk_at dksX1_end_3 4 rfl rfl)
theorem dX1_end_75 : decode cX1_end 75 = .ok (.iconst 0, 1) := dk_3 (dk_at dksX1_end_3 7 rfl rfl)
theorem dX1_end_76 : decode cX1_end 76 = .ok (.istore 5, 2) := dk_54 5 (dk_at dksX1_end_3 8 rfl rfl)
theorem dX1_end_78 : decode cX1_end 78 = .ok (.aload_n 3, 1) := dk_45 (dk_at dksX1_end_3 10 rfl rfl)
theorem dX1_end_79 : decode cX1_end 79 = .ok (.getfield 359, 3) := dk_180 1 103 (dk_at dksX1_end_3 11 rfl rfl)
theorem dX1_end_82 : decode cX1_end 82 = .ok (.istore 6, 2) := dk_54 6 (dk_at dksX1_end_3 14 rfl rfl)
theorem dX1_end_84 : decode cX1_end 84 = .ok (.iload 6, 2) := dk_21 6 (dk_at dksX1_end_3 16 rfl rfl)
theorem dX1_end_86 : decode cX1_end 86 = .ok (.iconst 3, 1) := dk_6 (dk_at dksX1_end_3 18 rfl rfl)
theorem dX1_end_87 : decode cX1_end 87 = .ok (.if_icmp .ge 33, 3) := dk_162 0 33 (dk_at dksX1_end_3 19 rfl rfl)
theorem dX1_end_90 : decode cX1_end 90 = .ok (.iload 4, 2) := dk_21 4 (dk_at dksX1_end_3 22 rfl rfl)
theorem dX1_end_92 : decode cX1_end 92 = .ok (.ifCond .le 28, 3) := dk_158 0 28 (dk_at dksX1_end_4 0 rfl rfl)
theorem dX1_end_95 : decode cX1_end 95 = .ok (.aload_n 0, 1) := dk_42 (dk_at dksX1_end_4 3 rfl rfl)
theorem dX1_end_96 : decode cX1_end 96 = .ok (.aload_n 0, 1) := dk_42 (dk_at dksX1_end_4 4 rfl rfl)
theorem dX1_end_97 : decode cX1_end 97 = .ok (.aload_n 3, 1) := dk_45 (dk_at dksX1_end_4 5 rfl rfl)
theorem dX1_end_98 : decode cX1_end 98 = .ok (.iload 6, 2) := dk_21 6 (dk_at dksX1_end_4 6 rfl rfl)
theorem dX1_end_100 : decode cX1_end 100 = .ok (.invokevirtual 316, 3) := dk_182 1 60 (dk_at dksX1_end_4 8 rfl rfl)
theorem dX1_end_103 : decode cX1_end 103 = .ok (.aload_n 3, 1) := dk_45 (dk_at dksX1_end_4 11 rfl rfl)
theorem dX1_end_104 : decode cX1_end 104 = .ok (.getfield 292, 3) := dk_180 1 36 (dk_at dksX1_end_4 12 rfl rfl)
theorem dX1_end_107 : decode cX1_end 107 = .ok (.iload 6, 2) := dk_21 6 (dk_at dksX1_end_4 15 rfl rfl)
theorem dX1_end_109 : decode cX1_end 109 = .ok (.iaload, 1) := dk_46 (dk_at dksX1_end_4 17 rfl rfl)
theorem dX1_end_110 : decode cX1_end 110 = .ok (.iload_n 1, 1) := dk_27 (dk_at dksX1_end_4 18 rfl rfl)
theorem dX1_end_111 : decode cX1_end 111 = .ok (.invokevirtual 369, 3) := dk_182 1 113 (dk_at dksX1_end_4 19 rfl rfl)
theorem dX1_end_114 : decode cX1_end 114 = .ok (.iinc 6 1, 3) := dk_132 6 1 (dk_at dksX1_end_5 0 rfl rfl)
theorem dX1_end_117 : decode cX1_end 117 = .ok (.goto (-33), 3) := dk_167 255 223 (dk_at dksX1_end_5 3 rfl rfl)
theorem dX1_end_120 : decode cX1_end 120 = .ok (.iload 5, 2) := dk_21 5 (dk_at dksX1_end_5 6 rfl rfl)
theorem dX1_end_122 : decode cX1_end 122 = .ok (.ifCond .eq 8, 3) := dk_153 0 8 (dk_at dksX1_end_5 8 rfl rfl)
theorem dX1_end_125 : decode cX1_end 125 = .ok (.aload_n 0, 1) := dk_42 (dk_at dksX1_end_5 11 rfl rfl)
theorem dX1_end_126 : decode cX1_end 126 = .ok (.aload_n 3, 1) := dk_45 (dk_at dksX1_end_5 12 rfl rfl)
theorem dX1_end_127 : decode cX1_end 127 = .ok (.invokevirtual 309, 3) := dk_182 1 53 (dk_at dksX1_end_5 13 rfl rfl)
theorem dX1_end_130 : decode cX1_end 130 = .ok (.aload_n 3, 1) := dk_45 (dk_at dksX1_end_5 16 rfl rfl)
theorem dX1_end_131 : decode cX1_end 131 = .ok (.getstatic 246, 3) := dk_178 0 246 (dk_at dksX1_end_5 17 rfl rfl)
theorem dX1_end_134 : decode cX1_end 134 = .ok (.putfield 242, 3) := dk_181 0 242 (dk_at dksX1_end_5 20 rfl rfl)
theorem dX1_end_137 : decode cX1_end 137 = .ok (.iload 5, 2) := dk_21 5 (dk_at dksX1_end_6 0 rfl rfl)
theorem dX1_end_139 : decode cX1_end 139 = .ok (.ifCond .ne 8, 3) := dk_154 0 8 (dk_at dksX1_end_6 2 rfl rfl)
theorem dX1_end_142 : decode cX1_end 142 = .ok (.iload 4, 2) := dk_21 4 (dk_at dksX1_end_6 5 rfl rfl)
theorem dX1_end_144 : decode cX1_end 144 = .ok (.ifCond .le 16, 3) := dk_158 0 16 (dk_at dksX1_end_6 7 rfl rfl)
theorem dX1_end_147 : decode cX1_end 147 = .ok (.aload_n 0, 1) := dk_42 (dk_at dksX1_end_6 10 rfl rfl)
theorem dX1_end_148 : decode cX1_end 148 = .ok (.aload_n 0, 1) := dk_42 (dk_at dksX1_end_6 11 rfl rfl)
theorem dX1_end_149 : decode cX1_end 149 = .ok (.getfield 40, 3) := dk_180 0 40 (dk_at dksX1_end_6 12 rfl rfl)
theorem dX1_end_152 : decode cX1_end 152 = .ok (.aload_n 3, 1) := dk_45 (dk_at dksX1_end_6 15 rfl rfl)
theorem dX1_end_153 : decode cX1_end 153 = .ok (.getfield 239, 3) := dk_180 0 239 (dk_at dksX1_end_6 16 rfl rfl)
theorem dX1_end_156 : decode cX1_end 156 = .ok (.iaload, 1) := dk_46 (dk_at dksX1_end_6 19 rfl rfl)
theorem dX1_end_157 : decode cX1_end 157 = .ok (.invokevirtual 340, 3) := dk_182 1 84 (dk_at dksX1_end_6 20 rfl rfl)
theorem dX1_end_160 : decode cX1_end 160 = .ok (.iload 4, 2) := dk_21 4 (dk_at dksX1_end_7 0 rfl rfl)
theorem dX1_end_162 : decode cX1_end 162 = .ok (.ireturn, 1) := dk_172 (dk_at dksX1_end_7 2 rfl rfl)
abbrev cX1_pass : ByteArray := prog_1_method_47_code
def yX1_pass : MethodName := ⟨RX1, "pass", "(I)I"⟩
def dkwX1_pass_1 : List UInt8 := [4, 167, 0, 4, 3, 184, 0, 206, 42, 89, 180, 0, 209, 27, 96, 181, 0, 209, 42, 180, 0, 209, 172]
abbrev dktX1_pass_1 : List UInt8 := dkwX1_pass_1 ++ []
def dkwX1_pass_0 : List UInt8 := [27, 133, 10, 20, 1, 126, 184, 0, 98, 184, 0, 156, 42, 180, 0, 209, 27, 96, 17, 78, 32, 163, 0, 7]
abbrev dktX1_pass_0 : List UInt8 := dkwX1_pass_0 ++ dktX1_pass_1
theorem dksX1_pass_0 : cX1_pass.data.toList.drop 0 = dktX1_pass_0 := by decide +kernel
theorem dksX1_pass_1 : cX1_pass.data.toList.drop 24 = dktX1_pass_1 := dk_seg dksX1_pass_0 24 rfl rfl
theorem dX1_pass_0 : decode cX1_pass 0 = .ok (.iload_n 1, 1) := dk_27 (dk_at dksX1_pass_0 0 rfl rfl)
theorem dX1_pass_1 : decode cX1_pass 1 = .ok (.i2l, 1) := dk_133 (dk_at dksX1_pass_0 1 rfl rfl)
theorem dX1_pass_2 : decode cX1_pass 2 = .ok (.lconst 1, 1) := dk_10 (dk_at dksX1_pass_0 2 rfl rfl)
theorem dX1_pass_3 : decode cX1_pass 3 = .ok (.ldc2_w 382, 3) := dk_20 1 126 (dk_at dksX1_pass_0 3 rfl rfl)
theorem dX1_pass_6 : decode cX1_pass 6 = .ok (.invokestatic 98, 3) := dk_184 0 98 (dk_at dksX1_pass_0 6 rfl rfl)
theorem dX1_pass_9 : decode cX1_pass 9 = .ok (.invokestatic 156, 3) := dk_184 0 156 (dk_at dksX1_pass_0 9 rfl rfl)
theorem dX1_pass_12 : decode cX1_pass 12 = .ok (.aload_n 0, 1) := dk_42 (dk_at dksX1_pass_0 12 rfl rfl)
theorem dX1_pass_13 : decode cX1_pass 13 = .ok (.getfield 209, 3) := dk_180 0 209 (dk_at dksX1_pass_0 13 rfl rfl)
theorem dX1_pass_16 : decode cX1_pass 16 = .ok (.iload_n 1, 1) := dk_27 (dk_at dksX1_pass_0 16 rfl rfl)
theorem dX1_pass_17 : decode cX1_pass 17 = .ok (.iadd, 1) := dk_96 (dk_at dksX1_pass_0 17 rfl rfl)
theorem dX1_pass_18 : decode cX1_pass 18 = .ok (.sipush 20000, 3) := dk_17 78 32 (dk_at dksX1_pass_0 18 rfl rfl)
theorem dX1_pass_21 : decode cX1_pass 21 = .ok (.if_icmp .gt 7, 3) := dk_163 0 7 (dk_at dksX1_pass_0 21 rfl rfl)
theorem dX1_pass_24 : decode cX1_pass 24 = .ok (.iconst 1, 1) := dk_4 (dk_at dksX1_pass_1 0 rfl rfl)
theorem dX1_pass_25 : decode cX1_pass 25 = .ok (.goto 4, 3) := dk_167 0 4 (dk_at dksX1_pass_1 1 rfl rfl)
theorem dX1_pass_28 : decode cX1_pass 28 = .ok (.iconst 0, 1) := dk_3 (dk_at dksX1_pass_1 4 rfl rfl)
theorem dX1_pass_29 : decode cX1_pass 29 = .ok (.invokestatic 206, 3) := dk_184 0 206 (dk_at dksX1_pass_1 5 rfl rfl)
theorem dX1_pass_32 : decode cX1_pass 32 = .ok (.aload_n 0, 1) := dk_42 (dk_at dksX1_pass_1 8 rfl rfl)
theorem dX1_pass_33 : decode cX1_pass 33 = .ok (.dup, 1) := dk_89 (dk_at dksX1_pass_1 9 rfl rfl)
theorem dX1_pass_34 : decode cX1_pass 34 = .ok (.getfield 209, 3) := dk_180 0 209 (dk_at dksX1_pass_1 10 rfl rfl)
theorem dX1_pass_37 : decode cX1_pass 37 = .ok (.iload_n 1, 1) := dk_27 (dk_at dksX1_pass_1 13 rfl rfl)
theorem dX1_pass_38 : decode cX1_pass 38 = .ok (.iadd, 1) := dk_96 (dk_at dksX1_pass_1 14 rfl rfl)
theorem dX1_pass_39 : decode cX1_pass 39 = .ok (.putfield 209, 3) := dk_181 0 209 (dk_at dksX1_pass_1 15 rfl rfl)
theorem dX1_pass_42 : decode cX1_pass 42 = .ok (.aload_n 0, 1) := dk_42 (dk_at dksX1_pass_1 18 rfl rfl)
theorem dX1_pass_43 : decode cX1_pass 43 = .ok (.getfield 209, 3) := dk_180 0 209 (dk_at dksX1_pass_1 19 rfl rfl)
theorem dX1_pass_46 : decode cX1_pass 46 = .ok (.ireturn, 1) := dk_172 (dk_at dksX1_pass_1 22 rfl rfl)
abbrev cX1_about : ByteArray := prog_1_method_48_code
def yX1_about : MethodName := ⟨RX1, "about", "(II)I"⟩
def dkwX1_about_5 : List UInt8 := [153, 0, 10, 45, 182, 1, 123, 167, 0, 4, 3, 172, 45, 180, 1, 36, 28, 16, 8, 100, 46, 172]
abbrev dktX1_about_5 : List UInt8 := dkwX1_about_5 ++ []
def dkwX1_about_4 : List UInt8 := [45, 182, 1, 33, 172, 45, 180, 1, 103, 172, 45, 180, 1, 106, 172, 45, 180, 0, 242, 182, 1, 120]
abbrev dktX1_about_4 : List UInt8 := dkwX1_about_4 ++ dktX1_about_5
def dkwX1_about_3 : List UInt8 := [45, 180, 0, 242, 182, 1, 130, 172, 45, 180, 0, 251, 172, 45, 180, 1, 92, 172, 42, 45, 182, 1, 88, 172]
abbrev dktX1_about_3 : List UInt8 := dkwX1_about_3 ++ dktX1_about_4
def dkwX1_about_2 : List UInt8 := [170, 0, 0, 0, 0, 0, 0, 106, 0, 0, 0, 0, 0, 0, 0, 7, 0, 0, 0, 48, 0, 0, 0, 56, 0, 0, 0, 61, 0, 0, 0, 66, 0, 0, 0, 72, 0, 0, 0, 77, 0, 0, 0, 82, 0, 0, 0, 87]
abbrev dktX1_about_2 : List UInt8 := dkwX1_about_2 ++ dktX1_about_3
def dkwX1_about_1 : List UInt8 := [27, 50, 78, 28]
abbrev dktX1_about_1 : List UInt8 := dkwX1_about_1 ++ dktX1_about_2
def dkwX1_about_0 : List UInt8 := [42, 27, 182, 0, 236, 184, 0, 218, 28, 133, 9, 20, 1, 128, 184, 0, 98, 184, 0, 156, 42, 180, 0, 65]
abbrev dktX1_about_0 : List UInt8 := dkwX1_about_0 ++ dktX1_about_1
theorem dksX1_about_0 : cX1_about.data.toList.drop 0 = dktX1_about_0 := by decide +kernel
theorem dksX1_about_1 : cX1_about.data.toList.drop 24 = dktX1_about_1 := dk_seg dksX1_about_0 24 rfl rfl
theorem dksX1_about_2 : cX1_about.data.toList.drop 28 = dktX1_about_2 := dk_seg dksX1_about_1 4 rfl rfl
theorem dksX1_about_3 : cX1_about.data.toList.drop 76 = dktX1_about_3 := dk_seg dksX1_about_2 48 rfl rfl
theorem dksX1_about_4 : cX1_about.data.toList.drop 100 = dktX1_about_4 := dk_seg dksX1_about_3 24 rfl rfl
theorem dksX1_about_5 : cX1_about.data.toList.drop 122 = dktX1_about_5 := dk_seg dksX1_about_4 22 rfl rfl
theorem dX1_about_0 : decode cX1_about 0 = .ok (.aload_n 0, 1) := dk_42 (dk_at dksX1_about_0 0 rfl rfl)
theorem dX1_about_1 : decode cX1_about 1 = .ok (.iload_n 1, 1) := dk_27 (dk_at dksX1_about_0 1 rfl rfl)
theorem dX1_about_2 : decode cX1_about 2 = .ok (.invokevirtual 236, 3) := dk_182 0 236 (dk_at dksX1_about_0 2 rfl rfl)
theorem dX1_about_5 : decode cX1_about 5 = .ok (.invokestatic 218, 3) := dk_184 0 218 (dk_at dksX1_about_0 5 rfl rfl)
theorem dX1_about_8 : decode cX1_about 8 = .ok (.iload_n 2, 1) := dk_28 (dk_at dksX1_about_0 8 rfl rfl)
theorem dX1_about_9 : decode cX1_about 9 = .ok (.i2l, 1) := dk_133 (dk_at dksX1_about_0 9 rfl rfl)
theorem dX1_about_10 : decode cX1_about 10 = .ok (.lconst 0, 1) := dk_9 (dk_at dksX1_about_0 10 rfl rfl)
theorem dX1_about_11 : decode cX1_about 11 = .ok (.ldc2_w 384, 3) := dk_20 1 128 (dk_at dksX1_about_0 11 rfl rfl)
theorem dX1_about_14 : decode cX1_about 14 = .ok (.invokestatic 98, 3) := dk_184 0 98 (dk_at dksX1_about_0 14 rfl rfl)
theorem dX1_about_17 : decode cX1_about 17 = .ok (.invokestatic 156, 3) := dk_184 0 156 (dk_at dksX1_about_0 17 rfl rfl)
theorem dX1_about_20 : decode cX1_about 20 = .ok (.aload_n 0, 1) := dk_42 (dk_at dksX1_about_0 20 rfl rfl)
theorem dX1_about_21 : decode cX1_about 21 = .ok (.getfield 65, 3) := dk_180 0 65 (dk_at dksX1_about_0 21 rfl rfl)
theorem dX1_about_24 : decode cX1_about 24 = .ok (.iload_n 1, 1) := dk_27 (dk_at dksX1_about_1 0 rfl rfl)
theorem dX1_about_25 : decode cX1_about 25 = .ok (.aaload, 1) := dk_50 (dk_at dksX1_about_1 1 rfl rfl)
theorem dX1_about_26 : decode cX1_about 26 = .ok (.astore_n 3, 1) := dk_78 (dk_at dksX1_about_1 2 rfl rfl)
theorem dX1_about_27 : decode cX1_about 27 = .ok (.iload_n 2, 1) := dk_28 (dk_at dksX1_about_1 3 rfl rfl)
theorem dX1_about_28 : decode cX1_about 28 = .ok (.tableswitch 106 0 7 #[48, 56, 61, 66, 72, 77, 82, 87], 48) := by decide +kernel
theorem dX1_about_76 : decode cX1_about 76 = .ok (.aload_n 3, 1) := dk_45 (dk_at dksX1_about_3 0 rfl rfl)
theorem dX1_about_77 : decode cX1_about 77 = .ok (.getfield 242, 3) := dk_180 0 242 (dk_at dksX1_about_3 1 rfl rfl)
theorem dX1_about_80 : decode cX1_about 80 = .ok (.invokevirtual 386, 3) := dk_182 1 130 (dk_at dksX1_about_3 4 rfl rfl)
theorem dX1_about_83 : decode cX1_about 83 = .ok (.ireturn, 1) := dk_172 (dk_at dksX1_about_3 7 rfl rfl)
theorem dX1_about_84 : decode cX1_about 84 = .ok (.aload_n 3, 1) := dk_45 (dk_at dksX1_about_3 8 rfl rfl)
theorem dX1_about_85 : decode cX1_about 85 = .ok (.getfield 251, 3) := dk_180 0 251 (dk_at dksX1_about_3 9 rfl rfl)
theorem dX1_about_88 : decode cX1_about 88 = .ok (.ireturn, 1) := dk_172 (dk_at dksX1_about_3 12 rfl rfl)
theorem dX1_about_89 : decode cX1_about 89 = .ok (.aload_n 3, 1) := dk_45 (dk_at dksX1_about_3 13 rfl rfl)
theorem dX1_about_90 : decode cX1_about 90 = .ok (.getfield 348, 3) := dk_180 1 92 (dk_at dksX1_about_3 14 rfl rfl)
theorem dX1_about_93 : decode cX1_about 93 = .ok (.ireturn, 1) := dk_172 (dk_at dksX1_about_3 17 rfl rfl)
theorem dX1_about_94 : decode cX1_about 94 = .ok (.aload_n 0, 1) := dk_42 (dk_at dksX1_about_3 18 rfl rfl)
theorem dX1_about_95 : decode cX1_about 95 = .ok (.aload_n 3, 1) := dk_45 (dk_at dksX1_about_3 19 rfl rfl)
theorem dX1_about_96 : decode cX1_about 96 = .ok (.invokevirtual 344, 3) := dk_182 1 88 (dk_at dksX1_about_3 20 rfl rfl)
theorem dX1_about_99 : decode cX1_about 99 = .ok (.ireturn, 1) := dk_172 (dk_at dksX1_about_3 23 rfl rfl)
theorem dX1_about_100 : decode cX1_about 100 = .ok (.aload_n 3, 1) := dk_45 (dk_at dksX1_about_4 0 rfl rfl)
theorem dX1_about_101 : decode cX1_about 101 = .ok (.invokevirtual 289, 3) := dk_182 1 33 (dk_at dksX1_about_4 1 rfl rfl)
theorem dX1_about_104 : decode cX1_about 104 = .ok (.ireturn, 1) := dk_172 (dk_at dksX1_about_4 4 rfl rfl)
theorem dX1_about_105 : decode cX1_about 105 = .ok (.aload_n 3, 1) := dk_45 (dk_at dksX1_about_4 5 rfl rfl)
theorem dX1_about_106 : decode cX1_about 106 = .ok (.getfield 359, 3) := dk_180 1 103 (dk_at dksX1_about_4 6 rfl rfl)
theorem dX1_about_109 : decode cX1_about 109 = .ok (.ireturn, 1) := dk_172 (dk_at dksX1_about_4 9 rfl rfl)
theorem dX1_about_110 : decode cX1_about 110 = .ok (.aload_n 3, 1) := dk_45 (dk_at dksX1_about_4 10 rfl rfl)
theorem dX1_about_111 : decode cX1_about 111 = .ok (.getfield 362, 3) := dk_180 1 106 (dk_at dksX1_about_4 11 rfl rfl)
theorem dX1_about_114 : decode cX1_about 114 = .ok (.ireturn, 1) := dk_172 (dk_at dksX1_about_4 14 rfl rfl)
theorem dX1_about_115 : decode cX1_about 115 = .ok (.aload_n 3, 1) := dk_45 (dk_at dksX1_about_4 15 rfl rfl)
theorem dX1_about_116 : decode cX1_about 116 = .ok (.getfield 242, 3) := dk_180 0 242 (dk_at dksX1_about_4 16 rfl rfl)
theorem dX1_about_119 : decode cX1_about 119 = .ok (.invokevirtual 376, 3) := dk_182 1 120 (dk_at dksX1_about_4 19 rfl rfl)
theorem dX1_about_122 : decode cX1_about 122 = .ok (.ifCond .eq 10, 3) := dk_153 0 10 (dk_at dksX1_about_5 0 rfl rfl)
theorem dX1_about_125 : decode cX1_about 125 = .ok (.aload_n 3, 1) := dk_45 (dk_at dksX1_about_5 3 rfl rfl)
theorem dX1_about_126 : decode cX1_about 126 = .ok (.invokevirtual 379, 3) := dk_182 1 123 (dk_at dksX1_about_5 4 rfl rfl)
theorem dX1_about_129 : decode cX1_about 129 = .ok (.goto 4, 3) := dk_167 0 4 (dk_at dksX1_about_5 7 rfl rfl)
theorem dX1_about_132 : decode cX1_about 132 = .ok (.iconst 0, 1) := dk_3 (dk_at dksX1_about_5 10 rfl rfl)
theorem dX1_about_133 : decode cX1_about 133 = .ok (.ireturn, 1) := dk_172 (dk_at dksX1_about_5 11 rfl rfl)
theorem dX1_about_134 : decode cX1_about 134 = .ok (.aload_n 3, 1) := dk_45 (dk_at dksX1_about_5 12 rfl rfl)
theorem dX1_about_135 : decode cX1_about 135 = .ok (.getfield 292, 3) := dk_180 1 36 (dk_at dksX1_about_5 13 rfl rfl)
theorem dX1_about_138 : decode cX1_about 138 = .ok (.iload_n 2, 1) := dk_28 (dk_at dksX1_about_5 16 rfl rfl)
theorem dX1_about_139 : decode cX1_about 139 = .ok (.bipush 8, 2) := dk_16 8 (dk_at dksX1_about_5 17 rfl rfl)
theorem dX1_about_141 : decode cX1_about 141 = .ok (.isub, 1) := dk_100 (dk_at dksX1_about_5 19 rfl rfl)
theorem dX1_about_142 : decode cX1_about 142 = .ok (.iaload, 1) := dk_46 (dk_at dksX1_about_5 20 rfl rfl)
theorem dX1_about_143 : decode cX1_about 143 = .ok (.ireturn, 1) := dk_172 (dk_at dksX1_about_5 21 rfl rfl)
abbrev cX1_account : ByteArray := prog_1_method_18_code
def yX1_account : MethodName := ⟨RX1, "account", "(III)I"⟩
def dkwX1_account_4 : List UInt8 := [182, 0, 189, 167, 0, 8, 25, 4, 180, 0, 193, 172]
abbrev dktX1_account_4 : List UInt8 := dkwX1_account_4 ++ []
def dkwX1_account_3 : List UInt8 := [167, 0, 34, 29, 5, 160, 0, 11, 25, 4, 180, 0, 145, 167, 0, 21, 29, 6, 160, 0, 11, 25, 4]
abbrev dktX1_account_3 : List UInt8 := dkwX1_account_3 ++ dktX1_account_4
def dkwX1_account_2 : List UInt8 := [2, 172, 29, 154, 0, 11, 25, 4, 180, 0, 186, 167, 0, 47, 29, 4, 160, 0, 11, 25, 4, 180, 0, 133]
abbrev dktX1_account_2 : List UInt8 := dkwX1_account_2 ++ dktX1_account_3
def dkwX1_account_1 : List UInt8 := [3, 184, 0, 156, 42, 180, 0, 22, 42, 27, 28, 182, 0, 182, 182, 0, 129, 58, 4, 25, 4, 199, 0, 5]
abbrev dktX1_account_1 : List UInt8 := dkwX1_account_1 ++ dktX1_account_2
def dkwX1_account_0 : List UInt8 := [27, 28, 184, 0, 176, 153, 0, 19, 29, 133, 9, 20, 0, 180, 184, 0, 98, 153, 0, 7, 4, 167, 0, 4]
abbrev dktX1_account_0 : List UInt8 := dkwX1_account_0 ++ dktX1_account_1
theorem dksX1_account_0 : cX1_account.data.toList.drop 0 = dktX1_account_0 := by decide +kernel
theorem dksX1_account_1 : cX1_account.data.toList.drop 24 = dktX1_account_1 := dk_seg dksX1_account_0 24 rfl rfl
theorem dksX1_account_2 : cX1_account.data.toList.drop 48 = dktX1_account_2 := dk_seg dksX1_account_1 24 rfl rfl
theorem dksX1_account_3 : cX1_account.data.toList.drop 72 = dktX1_account_3 := dk_seg dksX1_account_2 24 rfl rfl
theorem dksX1_account_4 : cX1_account.data.toList.drop 95 = dktX1_account_4 := dk_seg dksX1_account_3 23 rfl rfl
theorem dX1_account_0 : decode cX1_account 0 = .ok (.iload_n 1, 1) := dk_27 (dk_at dksX1_account_0 0 rfl rfl)
theorem dX1_account_1 : decode cX1_account 1 = .ok (.iload_n 2, 1) := dk_28 (dk_at dksX1_account_0 1 rfl rfl)
theorem dX1_account_2 : decode cX1_account 2 = .ok (.invokestatic 176, 3) := dk_184 0 176 (dk_at dksX1_account_0 2 rfl rfl)
theorem dX1_account_5 : decode cX1_account 5 = .ok (.ifCond .eq 19, 3) := dk_153 0 19 (dk_at dksX1_account_0 5 rfl rfl)
theorem dX1_account_8 : decode cX1_account 8 = .ok (.iload_n 3, 1) := dk_29 (dk_at dksX1_account_0 8 rfl rfl)
theorem dX1_account_9 : decode cX1_account 9 = .ok (.i2l, 1) := dk_133 (dk_at dksX1_account_0 9 rfl rfl)
theorem dX1_account_10 : decode cX1_account 10 = .ok (.lconst 0, 1) := dk_9 (dk_at dksX1_account_0 10 rfl rfl)
theorem dX1_account_11 : decode cX1_account 11 = .ok (.ldc2_w 180, 3) := dk_20 0 180 (dk_at dksX1_account_0 11 rfl rfl)
theorem dX1_account_14 : decode cX1_account 14 = .ok (.invokestatic 98, 3) := dk_184 0 98 (dk_at dksX1_account_0 14 rfl rfl)
theorem dX1_account_17 : decode cX1_account 17 = .ok (.ifCond .eq 7, 3) := dk_153 0 7 (dk_at dksX1_account_0 17 rfl rfl)
theorem dX1_account_20 : decode cX1_account 20 = .ok (.iconst 1, 1) := dk_4 (dk_at dksX1_account_0 20 rfl rfl)
theorem dX1_account_21 : decode cX1_account 21 = .ok (.goto 4, 3) := dk_167 0 4 (dk_at dksX1_account_0 21 rfl rfl)
theorem dX1_account_24 : decode cX1_account 24 = .ok (.iconst 0, 1) := dk_3 (dk_at dksX1_account_1 0 rfl rfl)
theorem dX1_account_25 : decode cX1_account 25 = .ok (.invokestatic 156, 3) := dk_184 0 156 (dk_at dksX1_account_1 1 rfl rfl)
theorem dX1_account_28 : decode cX1_account 28 = .ok (.aload_n 0, 1) := dk_42 (dk_at dksX1_account_1 4 rfl rfl)
theorem dX1_account_29 : decode cX1_account 29 = .ok (.getfield 22, 3) := dk_180 0 22 (dk_at dksX1_account_1 5 rfl rfl)
theorem dX1_account_32 : decode cX1_account 32 = .ok (.aload_n 0, 1) := dk_42 (dk_at dksX1_account_1 8 rfl rfl)
theorem dX1_account_33 : decode cX1_account 33 = .ok (.iload_n 1, 1) := dk_27 (dk_at dksX1_account_1 9 rfl rfl)
theorem dX1_account_34 : decode cX1_account 34 = .ok (.iload_n 2, 1) := dk_28 (dk_at dksX1_account_1 10 rfl rfl)
theorem dX1_account_35 : decode cX1_account 35 = .ok (.invokevirtual 182, 3) := dk_182 0 182 (dk_at dksX1_account_1 11 rfl rfl)
theorem dX1_account_38 : decode cX1_account 38 = .ok (.invokevirtual 129, 3) := dk_182 0 129 (dk_at dksX1_account_1 14 rfl rfl)
theorem dX1_account_41 : decode cX1_account 41 = .ok (.astore 4, 2) := dk_58 4 (dk_at dksX1_account_1 17 rfl rfl)
theorem dX1_account_43 : decode cX1_account 43 = .ok (.aload 4, 2) := dk_25 4 (dk_at dksX1_account_1 19 rfl rfl)
theorem dX1_account_45 : decode cX1_account 45 = .ok (.ifnonnull 5, 3) := dk_199 0 5 (dk_at dksX1_account_1 21 rfl rfl)
theorem dX1_account_48 : decode cX1_account 48 = .ok (.iconst (-1), 1) := dk_2 (dk_at dksX1_account_2 0 rfl rfl)
theorem dX1_account_49 : decode cX1_account 49 = .ok (.ireturn, 1) := dk_172 (dk_at dksX1_account_2 1 rfl rfl)
theorem dX1_account_50 : decode cX1_account 50 = .ok (.iload_n 3, 1) := dk_29 (dk_at dksX1_account_2 2 rfl rfl)
theorem dX1_account_51 : decode cX1_account 51 = .ok (.ifCond .ne 11, 3) := dk_154 0 11 (dk_at dksX1_account_2 3 rfl rfl)
theorem dX1_account_54 : decode cX1_account 54 = .ok (.aload 4, 2) := dk_25 4 (dk_at dksX1_account_2 6 rfl rfl)
theorem dX1_account_56 : decode cX1_account 56 = .ok (.getfield 186, 3) := dk_180 0 186 (dk_at dksX1_account_2 8 rfl rfl)
theorem dX1_account_59 : decode cX1_account 59 = .ok (.goto 47, 3) := dk_167 0 47 (dk_at dksX1_account_2 11 rfl rfl)
theorem dX1_account_62 : decode cX1_account 62 = .ok (.iload_n 3, 1) := dk_29 (dk_at dksX1_account_2 14 rfl rfl)
theorem dX1_account_63 : decode cX1_account 63 = .ok (.iconst 1, 1) := dk_4 (dk_at dksX1_account_2 15 rfl rfl)
theorem dX1_account_64 : decode cX1_account 64 = .ok (.if_icmp .ne 11, 3) := dk_160 0 11 (dk_at dksX1_account_2 16 rfl rfl)
theorem dX1_account_67 : decode cX1_account 67 = .ok (.aload 4, 2) := dk_25 4 (dk_at dksX1_account_2 19 rfl rfl)
theorem dX1_account_69 : decode cX1_account 69 = .ok (.getfield 133, 3) := dk_180 0 133 (dk_at dksX1_account_2 21 rfl rfl)
theorem dX1_account_72 : decode cX1_account 72 = .ok (.goto 34, 3) := dk_167 0 34 (dk_at dksX1_account_3 0 rfl rfl)
theorem dX1_account_75 : decode cX1_account 75 = .ok (.iload_n 3, 1) := dk_29 (dk_at dksX1_account_3 3 rfl rfl)
theorem dX1_account_76 : decode cX1_account 76 = .ok (.iconst 2, 1) := dk_5 (dk_at dksX1_account_3 4 rfl rfl)
theorem dX1_account_77 : decode cX1_account 77 = .ok (.if_icmp .ne 11, 3) := dk_160 0 11 (dk_at dksX1_account_3 5 rfl rfl)
theorem dX1_account_80 : decode cX1_account 80 = .ok (.aload 4, 2) := dk_25 4 (dk_at dksX1_account_3 8 rfl rfl)
theorem dX1_account_82 : decode cX1_account 82 = .ok (.getfield 145, 3) := dk_180 0 145 (dk_at dksX1_account_3 10 rfl rfl)
theorem dX1_account_85 : decode cX1_account 85 = .ok (.goto 21, 3) := dk_167 0 21 (dk_at dksX1_account_3 13 rfl rfl)
theorem dX1_account_88 : decode cX1_account 88 = .ok (.iload_n 3, 1) := dk_29 (dk_at dksX1_account_3 16 rfl rfl)
theorem dX1_account_89 : decode cX1_account 89 = .ok (.iconst 3, 1) := dk_6 (dk_at dksX1_account_3 17 rfl rfl)
theorem dX1_account_90 : decode cX1_account 90 = .ok (.if_icmp .ne 11, 3) := dk_160 0 11 (dk_at dksX1_account_3 18 rfl rfl)
theorem dX1_account_93 : decode cX1_account 93 = .ok (.aload 4, 2) := dk_25 4 (dk_at dksX1_account_3 21 rfl rfl)
theorem dX1_account_95 : decode cX1_account 95 = .ok (.invokevirtual 189, 3) := dk_182 0 189 (dk_at dksX1_account_4 0 rfl rfl)
theorem dX1_account_98 : decode cX1_account 98 = .ok (.goto 8, 3) := dk_167 0 8 (dk_at dksX1_account_4 3 rfl rfl)
theorem dX1_account_101 : decode cX1_account 101 = .ok (.aload 4, 2) := dk_25 4 (dk_at dksX1_account_4 6 rfl rfl)
theorem dX1_account_103 : decode cX1_account 103 = .ok (.getfield 193, 3) := dk_180 0 193 (dk_at dksX1_account_4 8 rfl rfl)
theorem dX1_account_106 : decode cX1_account 106 = .ok (.ireturn, 1) := dk_172 (dk_at dksX1_account_4 11 rfl rfl)
abbrev cX1_waiting : ByteArray := prog_1_method_49_code
def yX1_waiting : MethodName := ⟨RX1, "waiting", "(II)I"⟩
def dkwX1_waiting_2 : List UInt8 := [16, 24, 27, 104, 28, 96, 46, 172]
abbrev dktX1_waiting_2 : List UInt8 := dkwX1_waiting_2 ++ []
def dkwX1_waiting_1 : List UInt8 := [184, 0, 98, 184, 0, 152, 28, 2, 160, 0, 12, 42, 180, 0, 53, 27, 46, 167, 0, 14, 42, 180, 0, 56]
abbrev dktX1_waiting_1 : List UInt8 := dkwX1_waiting_1 ++ dktX1_waiting_2
def dkwX1_waiting_0 : List UInt8 := [42, 27, 182, 0, 214, 184, 0, 218, 28, 133, 20, 0, 150, 42, 180, 0, 53, 27, 46, 4, 100, 133]
abbrev dktX1_waiting_0 : List UInt8 := dkwX1_waiting_0 ++ dktX1_waiting_1
theorem dksX1_waiting_0 : cX1_waiting.data.toList.drop 0 = dktX1_waiting_0 := by decide +kernel
theorem dksX1_waiting_1 : cX1_waiting.data.toList.drop 22 = dktX1_waiting_1 := dk_seg dksX1_waiting_0 22 rfl rfl
theorem dksX1_waiting_2 : cX1_waiting.data.toList.drop 46 = dktX1_waiting_2 := dk_seg dksX1_waiting_1 24 rfl rfl
theorem dX1_waiting_0 : decode cX1_waiting 0 = .ok (.aload_n 0, 1) := dk_42 (dk_at dksX1_waiting_0 0 rfl rfl)
theorem dX1_waiting_1 : decode cX1_waiting 1 = .ok (.iload_n 1, 1) := dk_27 (dk_at dksX1_waiting_0 1 rfl rfl)
theorem dX1_waiting_2 : decode cX1_waiting 2 = .ok (.invokevirtual 214, 3) := dk_182 0 214 (dk_at dksX1_waiting_0 2 rfl rfl)
theorem dX1_waiting_5 : decode cX1_waiting 5 = .ok (.invokestatic 218, 3) := dk_184 0 218 (dk_at dksX1_waiting_0 5 rfl rfl)
theorem dX1_waiting_8 : decode cX1_waiting 8 = .ok (.iload_n 2, 1) := dk_28 (dk_at dksX1_waiting_0 8 rfl rfl)
theorem dX1_waiting_9 : decode cX1_waiting 9 = .ok (.i2l, 1) := dk_133 (dk_at dksX1_waiting_0 9 rfl rfl)
theorem dX1_waiting_10 : decode cX1_waiting 10 = .ok (.ldc2_w 150, 3) := dk_20 0 150 (dk_at dksX1_waiting_0 10 rfl rfl)
theorem dX1_waiting_13 : decode cX1_waiting 13 = .ok (.aload_n 0, 1) := dk_42 (dk_at dksX1_waiting_0 13 rfl rfl)
theorem dX1_waiting_14 : decode cX1_waiting 14 = .ok (.getfield 53, 3) := dk_180 0 53 (dk_at dksX1_waiting_0 14 rfl rfl)
theorem dX1_waiting_17 : decode cX1_waiting 17 = .ok (.iload_n 1, 1) := dk_27 (dk_at dksX1_waiting_0 17 rfl rfl)
theorem dX1_waiting_18 : decode cX1_waiting 18 = .ok (.iaload, 1) := dk_46 (dk_at dksX1_waiting_0 18 rfl rfl)
theorem dX1_waiting_19 : decode cX1_waiting 19 = .ok (.iconst 1, 1) := dk_4 (dk_at dksX1_waiting_0 19 rfl rfl)
theorem dX1_waiting_20 : decode cX1_waiting 20 = .ok (.isub, 1) := dk_100 (dk_at dksX1_waiting_0 20 rfl rfl)
theorem dX1_waiting_21 : decode cX1_waiting 21 = .ok (.i2l, 1) := dk_133 (dk_at dksX1_waiting_0 21 rfl rfl)
theorem dX1_waiting_22 : decode cX1_waiting 22 = .ok (.invokestatic 98, 3) := dk_184 0 98 (dk_at dksX1_waiting_1 0 rfl rfl)
theorem dX1_waiting_25 : decode cX1_waiting 25 = .ok (.invokestatic 152, 3) := dk_184 0 152 (dk_at dksX1_waiting_1 3 rfl rfl)
theorem dX1_waiting_28 : decode cX1_waiting 28 = .ok (.iload_n 2, 1) := dk_28 (dk_at dksX1_waiting_1 6 rfl rfl)
theorem dX1_waiting_29 : decode cX1_waiting 29 = .ok (.iconst (-1), 1) := dk_2 (dk_at dksX1_waiting_1 7 rfl rfl)
theorem dX1_waiting_30 : decode cX1_waiting 30 = .ok (.if_icmp .ne 12, 3) := dk_160 0 12 (dk_at dksX1_waiting_1 8 rfl rfl)
theorem dX1_waiting_33 : decode cX1_waiting 33 = .ok (.aload_n 0, 1) := dk_42 (dk_at dksX1_waiting_1 11 rfl rfl)
theorem dX1_waiting_34 : decode cX1_waiting 34 = .ok (.getfield 53, 3) := dk_180 0 53 (dk_at dksX1_waiting_1 12 rfl rfl)
theorem dX1_waiting_37 : decode cX1_waiting 37 = .ok (.iload_n 1, 1) := dk_27 (dk_at dksX1_waiting_1 15 rfl rfl)
theorem dX1_waiting_38 : decode cX1_waiting 38 = .ok (.iaload, 1) := dk_46 (dk_at dksX1_waiting_1 16 rfl rfl)
theorem dX1_waiting_39 : decode cX1_waiting 39 = .ok (.goto 14, 3) := dk_167 0 14 (dk_at dksX1_waiting_1 17 rfl rfl)
theorem dX1_waiting_42 : decode cX1_waiting 42 = .ok (.aload_n 0, 1) := dk_42 (dk_at dksX1_waiting_1 20 rfl rfl)
theorem dX1_waiting_43 : decode cX1_waiting 43 = .ok (.getfield 56, 3) := dk_180 0 56 (dk_at dksX1_waiting_1 21 rfl rfl)
theorem dX1_waiting_46 : decode cX1_waiting 46 = .ok (.bipush 24, 2) := dk_16 24 (dk_at dksX1_waiting_2 0 rfl rfl)
theorem dX1_waiting_48 : decode cX1_waiting 48 = .ok (.iload_n 1, 1) := dk_27 (dk_at dksX1_waiting_2 2 rfl rfl)
theorem dX1_waiting_49 : decode cX1_waiting 49 = .ok (.imul, 1) := dk_104 (dk_at dksX1_waiting_2 3 rfl rfl)
theorem dX1_waiting_50 : decode cX1_waiting 50 = .ok (.iload_n 2, 1) := dk_28 (dk_at dksX1_waiting_2 4 rfl rfl)
theorem dX1_waiting_51 : decode cX1_waiting 51 = .ok (.iadd, 1) := dk_96 (dk_at dksX1_waiting_2 5 rfl rfl)
theorem dX1_waiting_52 : decode cX1_waiting 52 = .ok (.iaload, 1) := dk_46 (dk_at dksX1_waiting_2 6 rfl rfl)
theorem dX1_waiting_53 : decode cX1_waiting 53 = .ok (.ireturn, 1) := dk_172 (dk_at dksX1_waiting_2 7 rfl rfl)
abbrev cX1_checkThere : ByteArray := prog_1_method_5_code
def yX1_checkThere : MethodName := ⟨RX1, "checkThere", "(Z)V"⟩
def dkwX1_checkThere_0 : List UInt8 := [26, 154, 0, 11, 187, 0, 13, 89, 183, 0, 15, 191, 177]
abbrev dktX1_checkThere_0 : List UInt8 := dkwX1_checkThere_0 ++ []
theorem dksX1_checkThere_0 : cX1_checkThere.data.toList.drop 0 = dktX1_checkThere_0 := by decide +kernel
theorem dX1_checkThere_0 : decode cX1_checkThere 0 = .ok (.iload_n 0, 1) := dk_26 (dk_at dksX1_checkThere_0 0 rfl rfl)
theorem dX1_checkThere_1 : decode cX1_checkThere 1 = .ok (.ifCond .ne 11, 3) := dk_154 0 11 (dk_at dksX1_checkThere_0 1 rfl rfl)
theorem dX1_checkThere_4 : decode cX1_checkThere 4 = .ok (.new 13, 3) := dk_187 0 13 (dk_at dksX1_checkThere_0 4 rfl rfl)
theorem dX1_checkThere_7 : decode cX1_checkThere 7 = .ok (.dup, 1) := dk_89 (dk_at dksX1_checkThere_0 7 rfl rfl)
theorem dX1_checkThere_8 : decode cX1_checkThere 8 = .ok (.invokespecial 15, 3) := dk_183 0 15 (dk_at dksX1_checkThere_0 8 rfl rfl)
theorem dX1_checkThere_11 : decode cX1_checkThere 11 = .ok (.athrow, 1) := dk_191 (dk_at dksX1_checkThere_0 11 rfl rfl)
theorem dX1_checkThere_12 : decode cX1_checkThere 12 = .ok (.return_, 1) := dk_177 (dk_at dksX1_checkThere_0 12 rfl rfl)
abbrev cX1_ledger : ByteArray := prog_1_method_17_code
def yX1_ledger : MethodName := ⟨RX1, "ledger", "(II)I"⟩
def dkwX1_ledger_4 : List UInt8 := [180, 0, 170, 167, 0, 7, 45, 184, 0, 173, 172]
abbrev dktX1_ledger_4 : List UInt8 := dkwX1_ledger_4 ++ []
def dkwX1_ledger_3 : List UInt8 := [4, 160, 0, 13, 45, 184, 0, 163, 180, 0, 167, 167, 0, 22, 28, 5, 160, 0, 13, 45, 184, 0, 163]
abbrev dktX1_ledger_3 : List UInt8 := dkwX1_ledger_3 ++ dktX1_ledger_4
def dkwX1_ledger_2 : List UInt8 := [42, 180, 0, 126, 172, 42, 180, 0, 36, 27, 50, 78, 28, 154, 0, 10, 45, 184, 0, 159, 167, 0, 37, 28]
abbrev dktX1_ledger_2 : List UInt8 := dkwX1_ledger_2 ++ dktX1_ledger_3
def dkwX1_ledger_1 : List UInt8 := [133, 9, 20, 0, 96, 184, 0, 98, 153, 0, 7, 4, 167, 0, 4, 3, 184, 0, 156, 27, 2, 160, 0, 8]
abbrev dktX1_ledger_1 : List UInt8 := dkwX1_ledger_1 ++ dktX1_ledger_2
def dkwX1_ledger_0 : List UInt8 := [27, 133, 20, 0, 150, 42, 180, 0, 126, 4, 100, 133, 184, 0, 98, 184, 0, 152, 27, 2, 159, 0, 15, 28]
abbrev dktX1_ledger_0 : List UInt8 := dkwX1_ledger_0 ++ dktX1_ledger_1
theorem dksX1_ledger_0 : cX1_ledger.data.toList.drop 0 = dktX1_ledger_0 := by decide +kernel
theorem dksX1_ledger_1 : cX1_ledger.data.toList.drop 24 = dktX1_ledger_1 := dk_seg dksX1_ledger_0 24 rfl rfl
theorem dksX1_ledger_2 : cX1_ledger.data.toList.drop 48 = dktX1_ledger_2 := dk_seg dksX1_ledger_1 24 rfl rfl
theorem dksX1_ledger_3 : cX1_ledger.data.toList.drop 72 = dktX1_ledger_3 := dk_seg dksX1_ledger_2 24 rfl rfl
theorem dksX1_ledger_4 : cX1_ledger.data.toList.drop 95 = dktX1_ledger_4 := dk_seg dksX1_ledger_3 23 rfl rfl
theorem dX1_ledger_0 : decode cX1_ledger 0 = .ok (.iload_n 1, 1) := dk_27 (dk_at dksX1_ledger_0 0 rfl rfl)
theorem dX1_ledger_1 : decode cX1_ledger 1 = .ok (.i2l, 1) := dk_133 (dk_at dksX1_ledger_0 1 rfl rfl)
theorem dX1_ledger_2 : decode cX1_ledger 2 = .ok (.ldc2_w 150, 3) := dk_20 0 150 (dk_at dksX1_ledger_0 2 rfl rfl)
theorem dX1_ledger_5 : decode cX1_ledger 5 = .ok (.aload_n 0, 1) := dk_42 (dk_at dksX1_ledger_0 5 rfl rfl)
theorem dX1_ledger_6 : decode cX1_ledger 6 = .ok (.getfield 126, 3) := dk_180 0 126 (dk_at dksX1_ledger_0 6 rfl rfl)
theorem dX1_ledger_9 : decode cX1_ledger 9 = .ok (.iconst 1, 1) := dk_4 (dk_at dksX1_ledger_0 9 rfl rfl)
theorem dX1_ledger_10 : decode cX1_ledger 10 = .ok (.isub, 1) := dk_100 (dk_at dksX1_ledger_0 10 rfl rfl)
theorem dX1_ledger_11 : decode cX1_ledger 11 = .ok (.i2l, 1) := dk_133 (dk_at dksX1_ledger_0 11 rfl rfl)
theorem dX1_ledger_12 : decode cX1_ledger 12 = .ok (.invokestatic 98, 3) := dk_184 0 98 (dk_at dksX1_ledger_0 12 rfl rfl)
theorem dX1_ledger_15 : decode cX1_ledger 15 = .ok (.invokestatic 152, 3) := dk_184 0 152 (dk_at dksX1_ledger_0 15 rfl rfl)
theorem dX1_ledger_18 : decode cX1_ledger 18 = .ok (.iload_n 1, 1) := dk_27 (dk_at dksX1_ledger_0 18 rfl rfl)
theorem dX1_ledger_19 : decode cX1_ledger 19 = .ok (.iconst (-1), 1) := dk_2 (dk_at dksX1_ledger_0 19 rfl rfl)
theorem dX1_ledger_20 : decode cX1_ledger 20 = .ok (.if_icmp .eq 15, 3) := dk_159 0 15 (dk_at dksX1_ledger_0 20 rfl rfl)
theorem dX1_ledger_23 : decode cX1_ledger 23 = .ok (.iload_n 2, 1) := dk_28 (dk_at dksX1_ledger_0 23 rfl rfl)
theorem dX1_ledger_24 : decode cX1_ledger 24 = .ok (.i2l, 1) := dk_133 (dk_at dksX1_ledger_1 0 rfl rfl)
theorem dX1_ledger_25 : decode cX1_ledger 25 = .ok (.lconst 0, 1) := dk_9 (dk_at dksX1_ledger_1 1 rfl rfl)
theorem dX1_ledger_26 : decode cX1_ledger 26 = .ok (.ldc2_w 96, 3) := dk_20 0 96 (dk_at dksX1_ledger_1 2 rfl rfl)
theorem dX1_ledger_29 : decode cX1_ledger 29 = .ok (.invokestatic 98, 3) := dk_184 0 98 (dk_at dksX1_ledger_1 5 rfl rfl)
theorem dX1_ledger_32 : decode cX1_ledger 32 = .ok (.ifCond .eq 7, 3) := dk_153 0 7 (dk_at dksX1_ledger_1 8 rfl rfl)
theorem dX1_ledger_35 : decode cX1_ledger 35 = .ok (.iconst 1, 1) := dk_4 (dk_at dksX1_ledger_1 11 rfl rfl)
theorem dX1_ledger_36 : decode cX1_ledger 36 = .ok (.goto 4, 3) := dk_167 0 4 (dk_at dksX1_ledger_1 12 rfl rfl)
theorem dX1_ledger_39 : decode cX1_ledger 39 = .ok (.iconst 0, 1) := dk_3 (dk_at dksX1_ledger_1 15 rfl rfl)
theorem dX1_ledger_40 : decode cX1_ledger 40 = .ok (.invokestatic 156, 3) := dk_184 0 156 (dk_at dksX1_ledger_1 16 rfl rfl)
theorem dX1_ledger_43 : decode cX1_ledger 43 = .ok (.iload_n 1, 1) := dk_27 (dk_at dksX1_ledger_1 19 rfl rfl)
theorem dX1_ledger_44 : decode cX1_ledger 44 = .ok (.iconst (-1), 1) := dk_2 (dk_at dksX1_ledger_1 20 rfl rfl)
theorem dX1_ledger_45 : decode cX1_ledger 45 = .ok (.if_icmp .ne 8, 3) := dk_160 0 8 (dk_at dksX1_ledger_1 21 rfl rfl)
theorem dX1_ledger_48 : decode cX1_ledger 48 = .ok (.aload_n 0, 1) := dk_42 (dk_at dksX1_ledger_2 0 rfl rfl)
theorem dX1_ledger_49 : decode cX1_ledger 49 = .ok (.getfield 126, 3) := dk_180 0 126 (dk_at dksX1_ledger_2 1 rfl rfl)
theorem dX1_ledger_52 : decode cX1_ledger 52 = .ok (.ireturn, 1) := dk_172 (dk_at dksX1_ledger_2 4 rfl rfl)
theorem dX1_ledger_53 : decode cX1_ledger 53 = .ok (.aload_n 0, 1) := dk_42 (dk_at dksX1_ledger_2 5 rfl rfl)
theorem dX1_ledger_54 : decode cX1_ledger 54 = .ok (.getfield 36, 3) := dk_180 0 36 (dk_at dksX1_ledger_2 6 rfl rfl)
theorem dX1_ledger_57 : decode cX1_ledger 57 = .ok (.iload_n 1, 1) := dk_27 (dk_at dksX1_ledger_2 9 rfl rfl)
theorem dX1_ledger_58 : decode cX1_ledger 58 = .ok (.aaload, 1) := dk_50 (dk_at dksX1_ledger_2 10 rfl rfl)
theorem dX1_ledger_59 : decode cX1_ledger 59 = .ok (.astore_n 3, 1) := dk_78 (dk_at dksX1_ledger_2 11 rfl rfl)
theorem dX1_ledger_60 : decode cX1_ledger 60 = .ok (.iload_n 2, 1) := dk_28 (dk_at dksX1_ledger_2 12 rfl rfl)
theorem dX1_ledger_61 : decode cX1_ledger 61 = .ok (.ifCond .ne 10, 3) := dk_154 0 10 (dk_at dksX1_ledger_2 13 rfl rfl)
theorem dX1_ledger_64 : decode cX1_ledger 64 = .ok (.aload_n 3, 1) := dk_45 (dk_at dksX1_ledger_2 16 rfl rfl)
theorem dX1_ledger_65 : decode cX1_ledger 65 = .ok (.invokestatic 159, 3) := dk_184 0 159 (dk_at dksX1_ledger_2 17 rfl rfl)
theorem dX1_ledger_68 : decode cX1_ledger 68 = .ok (.goto 37, 3) := dk_167 0 37 (dk_at dksX1_ledger_2 20 rfl rfl)
theorem dX1_ledger_71 : decode cX1_ledger 71 = .ok (.iload_n 2, 1) := dk_28 (dk_at dksX1_ledger_2 23 rfl rfl)
theorem dX1_ledger_72 : decode cX1_ledger 72 = .ok (.iconst 1, 1) := dk_4 (dk_at dksX1_ledger_3 0 rfl rfl)
theorem dX1_ledger_73 : decode cX1_ledger 73 = .ok (.if_icmp .ne 13, 3) := dk_160 0 13 (dk_at dksX1_ledger_3 1 rfl rfl)
theorem dX1_ledger_76 : decode cX1_ledger 76 = .ok (.aload_n 3, 1) := dk_45 (dk_at dksX1_ledger_3 4 rfl rfl)
theorem dX1_ledger_77 : decode cX1_ledger 77 = .ok (.invokestatic 163, 3) := dk_184 0 163 (dk_at dksX1_ledger_3 5 rfl rfl)
theorem dX1_ledger_80 : decode cX1_ledger 80 = .ok (.getfield 167, 3) := dk_180 0 167 (dk_at dksX1_ledger_3 8 rfl rfl)
theorem dX1_ledger_83 : decode cX1_ledger 83 = .ok (.goto 22, 3) := dk_167 0 22 (dk_at dksX1_ledger_3 11 rfl rfl)
theorem dX1_ledger_86 : decode cX1_ledger 86 = .ok (.iload_n 2, 1) := dk_28 (dk_at dksX1_ledger_3 14 rfl rfl)
theorem dX1_ledger_87 : decode cX1_ledger 87 = .ok (.iconst 2, 1) := dk_5 (dk_at dksX1_ledger_3 15 rfl rfl)
theorem dX1_ledger_88 : decode cX1_ledger 88 = .ok (.if_icmp .ne 13, 3) := dk_160 0 13 (dk_at dksX1_ledger_3 16 rfl rfl)
theorem dX1_ledger_91 : decode cX1_ledger 91 = .ok (.aload_n 3, 1) := dk_45 (dk_at dksX1_ledger_3 19 rfl rfl)
theorem dX1_ledger_92 : decode cX1_ledger 92 = .ok (.invokestatic 163, 3) := dk_184 0 163 (dk_at dksX1_ledger_3 20 rfl rfl)
theorem dX1_ledger_95 : decode cX1_ledger 95 = .ok (.getfield 170, 3) := dk_180 0 170 (dk_at dksX1_ledger_4 0 rfl rfl)
theorem dX1_ledger_98 : decode cX1_ledger 98 = .ok (.goto 7, 3) := dk_167 0 7 (dk_at dksX1_ledger_4 3 rfl rfl)
theorem dX1_ledger_101 : decode cX1_ledger 101 = .ok (.aload_n 3, 1) := dk_45 (dk_at dksX1_ledger_4 6 rfl rfl)
theorem dX1_ledger_102 : decode cX1_ledger 102 = .ok (.invokestatic 173, 3) := dk_184 0 173 (dk_at dksX1_ledger_4 7 rfl rfl)
theorem dX1_ledger_105 : decode cX1_ledger 105 = .ok (.ireturn, 1) := dk_172 (dk_at dksX1_ledger_4 10 rfl rfl)
abbrev cX1_kindOf : ByteArray := prog_1_method_9_code
def yX1_kindOf : MethodName := ⟨RX1, "kindOf", "(LGrantworks$Entry;)I"⟩
def dkwX1_kindOf_1 : List UInt8 := [193, 0, 108, 153, 0, 7, 5, 167, 0, 4, 6, 172]
abbrev dktX1_kindOf_1 : List UInt8 := dkwX1_kindOf_1 ++ []
def dkwX1_kindOf_0 : List UInt8 := [42, 193, 0, 104, 153, 0, 7, 3, 167, 0, 26, 42, 193, 0, 106, 153, 0, 7, 4, 167, 0, 15, 42]
abbrev dktX1_kindOf_0 : List UInt8 := dkwX1_kindOf_0 ++ dktX1_kindOf_1
theorem dksX1_kindOf_0 : cX1_kindOf.data.toList.drop 0 = dktX1_kindOf_0 := by decide +kernel
theorem dksX1_kindOf_1 : cX1_kindOf.data.toList.drop 23 = dktX1_kindOf_1 := dk_seg dksX1_kindOf_0 23 rfl rfl
theorem dX1_kindOf_0 : decode cX1_kindOf 0 = .ok (.aload_n 0, 1) := dk_42 (dk_at dksX1_kindOf_0 0 rfl rfl)
theorem dX1_kindOf_1 : decode cX1_kindOf 1 = .ok (.instanceof 104, 3) := dk_193 0 104 (dk_at dksX1_kindOf_0 1 rfl rfl)
theorem dX1_kindOf_4 : decode cX1_kindOf 4 = .ok (.ifCond .eq 7, 3) := dk_153 0 7 (dk_at dksX1_kindOf_0 4 rfl rfl)
theorem dX1_kindOf_7 : decode cX1_kindOf 7 = .ok (.iconst 0, 1) := dk_3 (dk_at dksX1_kindOf_0 7 rfl rfl)
theorem dX1_kindOf_8 : decode cX1_kindOf 8 = .ok (.goto 26, 3) := dk_167 0 26 (dk_at dksX1_kindOf_0 8 rfl rfl)
theorem dX1_kindOf_11 : decode cX1_kindOf 11 = .ok (.aload_n 0, 1) := dk_42 (dk_at dksX1_kindOf_0 11 rfl rfl)
theorem dX1_kindOf_12 : decode cX1_kindOf 12 = .ok (.instanceof 106, 3) := dk_193 0 106 (dk_at dksX1_kindOf_0 12 rfl rfl)
theorem dX1_kindOf_15 : decode cX1_kindOf 15 = .ok (.ifCond .eq 7, 3) := dk_153 0 7 (dk_at dksX1_kindOf_0 15 rfl rfl)
theorem dX1_kindOf_18 : decode cX1_kindOf 18 = .ok (.iconst 1, 1) := dk_4 (dk_at dksX1_kindOf_0 18 rfl rfl)
theorem dX1_kindOf_19 : decode cX1_kindOf 19 = .ok (.goto 15, 3) := dk_167 0 15 (dk_at dksX1_kindOf_0 19 rfl rfl)
theorem dX1_kindOf_22 : decode cX1_kindOf 22 = .ok (.aload_n 0, 1) := dk_42 (dk_at dksX1_kindOf_0 22 rfl rfl)
theorem dX1_kindOf_23 : decode cX1_kindOf 23 = .ok (.instanceof 108, 3) := dk_193 0 108 (dk_at dksX1_kindOf_1 0 rfl rfl)
theorem dX1_kindOf_26 : decode cX1_kindOf 26 = .ok (.ifCond .eq 7, 3) := dk_153 0 7 (dk_at dksX1_kindOf_1 3 rfl rfl)
theorem dX1_kindOf_29 : decode cX1_kindOf 29 = .ok (.iconst 2, 1) := dk_5 (dk_at dksX1_kindOf_1 6 rfl rfl)
theorem dX1_kindOf_30 : decode cX1_kindOf 30 = .ok (.goto 4, 3) := dk_167 0 4 (dk_at dksX1_kindOf_1 7 rfl rfl)
theorem dX1_kindOf_33 : decode cX1_kindOf 33 = .ok (.iconst 3, 1) := dk_6 (dk_at dksX1_kindOf_1 10 rfl rfl)
theorem dX1_kindOf_34 : decode cX1_kindOf 34 = .ok (.ireturn, 1) := dk_172 (dk_at dksX1_kindOf_1 11 rfl rfl)
abbrev cX1_moneyOf : ByteArray := prog_1_method_11_code
def yX1_moneyOf : MethodName := ⟨RX1, "moneyOf", "(LGrantworks$Entry;)I"⟩
def dkwX1_moneyOf_3 : List UInt8 := [172]
abbrev dktX1_moneyOf_3 : List UInt8 := dkwX1_moneyOf_3 ++ []
def dkwX1_moneyOf_2 : List UInt8 := [180, 0, 124, 172, 42, 193, 0, 116, 153, 0, 15, 42, 192, 0, 116, 76, 43, 180, 0, 125, 167, 0, 4, 3]
abbrev dktX1_moneyOf_2 : List UInt8 := dkwX1_moneyOf_2 ++ dktX1_moneyOf_3
def dkwX1_moneyOf_1 : List UInt8 := [42, 192, 0, 106, 76, 43, 180, 0, 123, 172, 42, 193, 0, 108, 153, 0, 13, 42, 192, 0, 108, 76, 43]
abbrev dktX1_moneyOf_1 : List UInt8 := dkwX1_moneyOf_1 ++ dktX1_moneyOf_2
def dkwX1_moneyOf_0 : List UInt8 := [42, 193, 0, 104, 153, 0, 13, 42, 192, 0, 104, 76, 43, 180, 0, 119, 172, 42, 193, 0, 106, 153, 0, 13]
abbrev dktX1_moneyOf_0 : List UInt8 := dkwX1_moneyOf_0 ++ dktX1_moneyOf_1
theorem dksX1_moneyOf_0 : cX1_moneyOf.data.toList.drop 0 = dktX1_moneyOf_0 := by decide +kernel
theorem dksX1_moneyOf_1 : cX1_moneyOf.data.toList.drop 24 = dktX1_moneyOf_1 := dk_seg dksX1_moneyOf_0 24 rfl rfl
theorem dksX1_moneyOf_2 : cX1_moneyOf.data.toList.drop 47 = dktX1_moneyOf_2 := dk_seg dksX1_moneyOf_1 23 rfl rfl
theorem dksX1_moneyOf_3 : cX1_moneyOf.data.toList.drop 71 = dktX1_moneyOf_3 := dk_seg dksX1_moneyOf_2 24 rfl rfl
theorem dX1_moneyOf_0 : decode cX1_moneyOf 0 = .ok (.aload_n 0, 1) := dk_42 (dk_at dksX1_moneyOf_0 0 rfl rfl)
theorem dX1_moneyOf_1 : decode cX1_moneyOf 1 = .ok (.instanceof 104, 3) := dk_193 0 104 (dk_at dksX1_moneyOf_0 1 rfl rfl)
theorem dX1_moneyOf_4 : decode cX1_moneyOf 4 = .ok (.ifCond .eq 13, 3) := dk_153 0 13 (dk_at dksX1_moneyOf_0 4 rfl rfl)
theorem dX1_moneyOf_7 : decode cX1_moneyOf 7 = .ok (.aload_n 0, 1) := dk_42 (dk_at dksX1_moneyOf_0 7 rfl rfl)
theorem dX1_moneyOf_8 : decode cX1_moneyOf 8 = .ok (.checkcast 104, 3) := dk_192 0 104 (dk_at dksX1_moneyOf_0 8 rfl rfl)
theorem dX1_moneyOf_11 : decode cX1_moneyOf 11 = .ok (.astore_n 1, 1) := dk_76 (dk_at dksX1_moneyOf_0 11 rfl rfl)
theorem dX1_moneyOf_12 : decode cX1_moneyOf 12 = .ok (.aload_n 1, 1) := dk_43 (dk_at dksX1_moneyOf_0 12 rfl rfl)
theorem dX1_moneyOf_13 : decode cX1_moneyOf 13 = .ok (.getfield 119, 3) := dk_180 0 119 (dk_at dksX1_moneyOf_0 13 rfl rfl)
theorem dX1_moneyOf_16 : decode cX1_moneyOf 16 = .ok (.ireturn, 1) := dk_172 (dk_at dksX1_moneyOf_0 16 rfl rfl)
theorem dX1_moneyOf_17 : decode cX1_moneyOf 17 = .ok (.aload_n 0, 1) := dk_42 (dk_at dksX1_moneyOf_0 17 rfl rfl)
theorem dX1_moneyOf_18 : decode cX1_moneyOf 18 = .ok (.instanceof 106, 3) := dk_193 0 106 (dk_at dksX1_moneyOf_0 18 rfl rfl)
theorem dX1_moneyOf_21 : decode cX1_moneyOf 21 = .ok (.ifCond .eq 13, 3) := dk_153 0 13 (dk_at dksX1_moneyOf_0 21 rfl rfl)
theorem dX1_moneyOf_24 : decode cX1_moneyOf 24 = .ok (.aload_n 0, 1) := dk_42 (dk_at dksX1_moneyOf_1 0 rfl rfl)
theorem dX1_moneyOf_25 : decode cX1_moneyOf 25 = .ok (.checkcast 106, 3) := dk_192 0 106 (dk_at dksX1_moneyOf_1 1 rfl rfl)
theorem dX1_moneyOf_28 : decode cX1_moneyOf 28 = .ok (.astore_n 1, 1) := dk_76 (dk_at dksX1_moneyOf_1 4 rfl rfl)
theorem dX1_moneyOf_29 : decode cX1_moneyOf 29 = .ok (.aload_n 1, 1) := dk_43 (dk_at dksX1_moneyOf_1 5 rfl rfl)
theorem dX1_moneyOf_30 : decode cX1_moneyOf 30 = .ok (.getfield 123, 3) := dk_180 0 123 (dk_at dksX1_moneyOf_1 6 rfl rfl)
theorem dX1_moneyOf_33 : decode cX1_moneyOf 33 = .ok (.ireturn, 1) := dk_172 (dk_at dksX1_moneyOf_1 9 rfl rfl)
theorem dX1_moneyOf_34 : decode cX1_moneyOf 34 = .ok (.aload_n 0, 1) := dk_42 (dk_at dksX1_moneyOf_1 10 rfl rfl)
theorem dX1_moneyOf_35 : decode cX1_moneyOf 35 = .ok (.instanceof 108, 3) := dk_193 0 108 (dk_at dksX1_moneyOf_1 11 rfl rfl)
theorem dX1_moneyOf_38 : decode cX1_moneyOf 38 = .ok (.ifCond .eq 13, 3) := dk_153 0 13 (dk_at dksX1_moneyOf_1 14 rfl rfl)
theorem dX1_moneyOf_41 : decode cX1_moneyOf 41 = .ok (.aload_n 0, 1) := dk_42 (dk_at dksX1_moneyOf_1 17 rfl rfl)
theorem dX1_moneyOf_42 : decode cX1_moneyOf 42 = .ok (.checkcast 108, 3) := dk_192 0 108 (dk_at dksX1_moneyOf_1 18 rfl rfl)
theorem dX1_moneyOf_45 : decode cX1_moneyOf 45 = .ok (.astore_n 1, 1) := dk_76 (dk_at dksX1_moneyOf_1 21 rfl rfl)
theorem dX1_moneyOf_46 : decode cX1_moneyOf 46 = .ok (.aload_n 1, 1) := dk_43 (dk_at dksX1_moneyOf_1 22 rfl rfl)
theorem dX1_moneyOf_47 : decode cX1_moneyOf 47 = .ok (.getfield 124, 3) := dk_180 0 124 (dk_at dksX1_moneyOf_2 0 rfl rfl)
theorem dX1_moneyOf_50 : decode cX1_moneyOf 50 = .ok (.ireturn, 1) := dk_172 (dk_at dksX1_moneyOf_2 3 rfl rfl)
theorem dX1_moneyOf_51 : decode cX1_moneyOf 51 = .ok (.aload_n 0, 1) := dk_42 (dk_at dksX1_moneyOf_2 4 rfl rfl)
theorem dX1_moneyOf_52 : decode cX1_moneyOf 52 = .ok (.instanceof 116, 3) := dk_193 0 116 (dk_at dksX1_moneyOf_2 5 rfl rfl)
theorem dX1_moneyOf_55 : decode cX1_moneyOf 55 = .ok (.ifCond .eq 15, 3) := dk_153 0 15 (dk_at dksX1_moneyOf_2 8 rfl rfl)
theorem dX1_moneyOf_58 : decode cX1_moneyOf 58 = .ok (.aload_n 0, 1) := dk_42 (dk_at dksX1_moneyOf_2 11 rfl rfl)
theorem dX1_moneyOf_59 : decode cX1_moneyOf 59 = .ok (.checkcast 116, 3) := dk_192 0 116 (dk_at dksX1_moneyOf_2 12 rfl rfl)
theorem dX1_moneyOf_62 : decode cX1_moneyOf 62 = .ok (.astore_n 1, 1) := dk_76 (dk_at dksX1_moneyOf_2 15 rfl rfl)
theorem dX1_moneyOf_63 : decode cX1_moneyOf 63 = .ok (.aload_n 1, 1) := dk_43 (dk_at dksX1_moneyOf_2 16 rfl rfl)
theorem dX1_moneyOf_64 : decode cX1_moneyOf 64 = .ok (.getfield 125, 3) := dk_180 0 125 (dk_at dksX1_moneyOf_2 17 rfl rfl)
theorem dX1_moneyOf_67 : decode cX1_moneyOf 67 = .ok (.goto 4, 3) := dk_167 0 4 (dk_at dksX1_moneyOf_2 20 rfl rfl)
theorem dX1_moneyOf_70 : decode cX1_moneyOf 70 = .ok (.iconst 0, 1) := dk_3 (dk_at dksX1_moneyOf_2 23 rfl rfl)
theorem dX1_moneyOf_71 : decode cX1_moneyOf 71 = .ok (.ireturn, 1) := dk_172 (dk_at dksX1_moneyOf_3 0 rfl rfl)
abbrev cX1_count : ByteArray := prog_1_method_50_code
def yX1_count : MethodName := ⟨RX1, "count", "(I)I"⟩
def dkwX1_count_2 : List UInt8 := [167, 255, 226, 28, 172]
abbrev dktX1_count_2 : List UInt8 := dkwX1_count_2 ++ []
def dkwX1_count_1 : List UInt8 := [42, 180, 0, 65, 29, 50, 180, 0, 242, 182, 1, 130, 27, 160, 0, 6, 132, 2, 1, 132, 3, 1]
abbrev dktX1_count_1 : List UInt8 := dkwX1_count_1 ++ dktX1_count_2
def dkwX1_count_0 : List UInt8 := [27, 133, 9, 20, 1, 133, 184, 0, 98, 184, 0, 156, 3, 61, 3, 62, 29, 42, 180, 0, 199, 162, 0, 28]
abbrev dktX1_count_0 : List UInt8 := dkwX1_count_0 ++ dktX1_count_1
theorem dksX1_count_0 : cX1_count.data.toList.drop 0 = dktX1_count_0 := by decide +kernel
theorem dksX1_count_1 : cX1_count.data.toList.drop 24 = dktX1_count_1 := dk_seg dksX1_count_0 24 rfl rfl
theorem dksX1_count_2 : cX1_count.data.toList.drop 46 = dktX1_count_2 := dk_seg dksX1_count_1 22 rfl rfl
theorem dX1_count_0 : decode cX1_count 0 = .ok (.iload_n 1, 1) := dk_27 (dk_at dksX1_count_0 0 rfl rfl)
theorem dX1_count_1 : decode cX1_count 1 = .ok (.i2l, 1) := dk_133 (dk_at dksX1_count_0 1 rfl rfl)
theorem dX1_count_2 : decode cX1_count 2 = .ok (.lconst 0, 1) := dk_9 (dk_at dksX1_count_0 2 rfl rfl)
theorem dX1_count_3 : decode cX1_count 3 = .ok (.ldc2_w 389, 3) := dk_20 1 133 (dk_at dksX1_count_0 3 rfl rfl)
theorem dX1_count_6 : decode cX1_count 6 = .ok (.invokestatic 98, 3) := dk_184 0 98 (dk_at dksX1_count_0 6 rfl rfl)
theorem dX1_count_9 : decode cX1_count 9 = .ok (.invokestatic 156, 3) := dk_184 0 156 (dk_at dksX1_count_0 9 rfl rfl)
theorem dX1_count_12 : decode cX1_count 12 = .ok (.iconst 0, 1) := dk_3 (dk_at dksX1_count_0 12 rfl rfl)
theorem dX1_count_13 : decode cX1_count 13 = .ok (.istore_n 2, 1) := dk_61 (dk_at dksX1_count_0 13 rfl rfl)
theorem dX1_count_14 : decode cX1_count 14 = .ok (.iconst 0, 1) := dk_3 (dk_at dksX1_count_0 14 rfl rfl)
theorem dX1_count_15 : decode cX1_count 15 = .ok (.istore_n 3, 1) := dk_62 (dk_at dksX1_count_0 15 rfl rfl)
theorem dX1_count_16 : decode cX1_count 16 = .ok (.iload_n 3, 1) := dk_29 (dk_at dksX1_count_0 16 rfl rfl)
theorem dX1_count_17 : decode cX1_count 17 = .ok (.aload_n 0, 1) := dk_42 (dk_at dksX1_count_0 17 rfl rfl)
theorem dX1_count_18 : decode cX1_count 18 = .ok (.getfield 199, 3) := dk_180 0 199 (dk_at dksX1_count_0 18 rfl rfl)
theorem dX1_count_21 : decode cX1_count 21 = .ok (.if_icmp .ge 28, 3) := dk_162 0 28 (dk_at dksX1_count_0 21 rfl rfl)
theorem dX1_count_24 : decode cX1_count 24 = .ok (.aload_n 0, 1) := dk_42 (dk_at dksX1_count_1 0 rfl rfl)
theorem dX1_count_25 : decode cX1_count 25 = .ok (.getfield 65, 3) := dk_180 0 65 (dk_at dksX1_count_1 1 rfl rfl)
theorem dX1_count_28 : decode cX1_count 28 = .ok (.iload_n 3, 1) := dk_29 (dk_at dksX1_count_1 4 rfl rfl)
theorem dX1_count_29 : decode cX1_count 29 = .ok (.aaload, 1) := dk_50 (dk_at dksX1_count_1 5 rfl rfl)
theorem dX1_count_30 : decode cX1_count 30 = .ok (.getfield 242, 3) := dk_180 0 242 (dk_at dksX1_count_1 6 rfl rfl)
theorem dX1_count_33 : decode cX1_count 33 = .ok (.invokevirtual 386, 3) := dk_182 1 130 (dk_at dksX1_count_1 9 rfl rfl)
theorem dX1_count_36 : decode cX1_count 36 = .ok (.iload_n 1, 1) := dk_27 (dk_at dksX1_count_1 12 rfl rfl)
theorem dX1_count_37 : decode cX1_count 37 = .ok (.if_icmp .ne 6, 3) := dk_160 0 6 (dk_at dksX1_count_1 13 rfl rfl)
theorem dX1_count_40 : decode cX1_count 40 = .ok (.iinc 2 1, 3) := dk_132 2 1 (dk_at dksX1_count_1 16 rfl rfl)
theorem dX1_count_43 : decode cX1_count 43 = .ok (.iinc 3 1, 3) := dk_132 3 1 (dk_at dksX1_count_1 19 rfl rfl)
theorem dX1_count_46 : decode cX1_count 46 = .ok (.goto (-30), 3) := dk_167 255 226 (dk_at dksX1_count_2 0 rfl rfl)
theorem dX1_count_49 : decode cX1_count 49 = .ok (.iload_n 2, 1) := dk_28 (dk_at dksX1_count_2 3 rfl rfl)
theorem dX1_count_50 : decode cX1_count 50 = .ok (.ireturn, 1) := dk_172 (dk_at dksX1_count_2 4 rfl rfl)
theorem q42 : (Jvm.Cond.initialized "Grantworks") ∈ lw_all := lw_g (lw_at lw_m1 1 rfl) rfl
theorem q65 : (Jvm.Cond.instantiable "Grantworks" (24 : Nat)) ∈ lw_all := lw_g (lw_at lw_m1 24 rfl) rfl
theorem q67 : (Jvm.Cond.instanceMethod ({ cls := "Grantworks", name := "<init>", desc := "()V" } : Jvm.MethodName)) ∈ lw_all := lw_g (lw_at lw_m1 26 rfl) rfl
theorem q68 : (Jvm.Cond.code ({ cls := "Grantworks", name := "<init>", desc := "()V" } : Jvm.MethodName) prog_1_method_6_code (1 : Nat) (Option.none : Option Jvm.ClassFile.FieldType)) ∈ lw_all := lw_g (lw_at lw_m1 27 rfl) rfl
theorem q69 : (Jvm.Cond.methodLink "Grantworks" (16 : Nat) ({ cls := "java/lang/Object", name := "<init>", desc := "()V" } : Jvm.MethodName)) ∈ lw_all := lw_g (lw_at lw_m1 28 rfl) rfl
theorem q72 : (Jvm.Cond.classLink "Grantworks" (19 : Nat) "Grantworks$Table") ∈ lw_all := lw_g (lw_at lw_m1 31 rfl) rfl
theorem q74 : (Jvm.Cond.methodLinkNest "Grantworks" (21 : Nat) ({ cls := "Grantworks$Table", name := "<init>", desc := "()V" } : Jvm.MethodName) "Grantworks") ∈ lw_tbl := lw_at lw_m1 33 rfl
theorem q82 : (Jvm.Cond.fieldLinkNest "Grantworks" (399 : Nat) "Grantworks$Table" "first" "LGrantworks$Account;" "Grantworks") ∈ lw_tbl := lw_at lw_m1 41 rfl
theorem q94 : (Jvm.Cond.classLink "Grantworks" (28 : Nat) "Grantworks$Key") ∈ lw_all := lw_g (lw_at lw_m1 53 rfl) rfl
theorem q96 : (Jvm.Cond.classLink "Grantworks" (34 : Nat) "Grantworks$Entry") ∈ lw_all := lw_g (lw_at lw_m1 55 rfl) rfl
theorem q98 : (Jvm.Cond.classLink "Grantworks" (63 : Nat) "Grantworks$Application") ∈ lw_all := lw_g (lw_at lw_m1 57 rfl) rfl
theorem q100 : (Jvm.Cond.fieldLink "Grantworks" (22 : Nat) "Grantworks" "accounts" "LGrantworks$Table;") ∈ lw_all := lw_g (lw_at lw_m1 59 rfl) rfl
theorem q101 : (Jvm.Cond.fieldLink "Grantworks" (30 : Nat) "Grantworks" "keys" "[LGrantworks$Key;") ∈ lw_all := lw_g (lw_at lw_m1 60 rfl) rfl
theorem q102 : (Jvm.Cond.fieldLink "Grantworks" (36 : Nat) "Grantworks" "entries" "[LGrantworks$Entry;") ∈ lw_all := lw_g (lw_at lw_m1 61 rfl) rfl
theorem q103 : (Jvm.Cond.fieldLink "Grantworks" (126 : Nat) "Grantworks" "entryCount" "I") ∈ lw_all := lw_g (lw_at lw_m1 62 rfl) rfl
theorem q104 : (Jvm.Cond.fieldLink "Grantworks" (40 : Nat) "Grantworks" "fields" "[I") ∈ lw_all := lw_g (lw_at lw_m1 63 rfl) rfl
theorem q105 : (Jvm.Cond.fieldLink "Grantworks" (44 : Nat) "Grantworks" "opens" "[I") ∈ lw_all := lw_g (lw_at lw_m1 64 rfl) rfl
theorem q106 : (Jvm.Cond.fieldLink "Grantworks" (47 : Nat) "Grantworks" "deadlines" "[I") ∈ lw_all := lw_g (lw_at lw_m1 65 rfl) rfl
theorem q107 : (Jvm.Cond.fieldLink "Grantworks" (50 : Nat) "Grantworks" "firstYears" "[I") ∈ lw_all := lw_g (lw_at lw_m1 66 rfl) rfl
theorem q108 : (Jvm.Cond.fieldLink "Grantworks" (53 : Nat) "Grantworks" "listCounts" "[I") ∈ lw_all := lw_g (lw_at lw_m1 67 rfl) rfl
theorem q109 : (Jvm.Cond.fieldLink "Grantworks" (56 : Nat) "Grantworks" "lists" "[I") ∈ lw_all := lw_g (lw_at lw_m1 68 rfl) rfl
theorem q110 : (Jvm.Cond.fieldLink "Grantworks" (59 : Nat) "Grantworks" "isAwarded" "[Z") ∈ lw_all := lw_g (lw_at lw_m1 69 rfl) rfl
theorem q111 : (Jvm.Cond.fieldLink "Grantworks" (65 : Nat) "Grantworks" "applications" "[LGrantworks$Application;") ∈ lw_all := lw_g (lw_at lw_m1 70 rfl) rfl
theorem q112 : (Jvm.Cond.fieldLink "Grantworks" (196 : Nat) "Grantworks" "calls" "I") ∈ lw_all := lw_g (lw_at lw_m1 71 rfl) rfl
theorem q113 : (Jvm.Cond.fieldLink "Grantworks" (199 : Nat) "Grantworks" "count" "I") ∈ lw_all := lw_g (lw_at lw_m1 72 rfl) rfl
theorem q114 : (Jvm.Cond.fieldLink "Grantworks" (209 : Nat) "Grantworks" "day" "I") ∈ lw_all := lw_g (lw_at lw_m1 73 rfl) rfl
theorem q115 : (Jvm.Cond.fieldLink "Grantworks" (69 : Nat) "Grantworks" "reviewerPeople" "[I") ∈ lw_all := lw_g (lw_at lw_m1 74 rfl) rfl
theorem q116 : (Jvm.Cond.fieldLink "Grantworks" (72 : Nat) "Grantworks" "reviewerHouses" "[I") ∈ lw_all := lw_g (lw_at lw_m1 75 rfl) rfl
theorem q117 : (Jvm.Cond.fieldLink "Grantworks" (75 : Nat) "Grantworks" "conflicts" "[I") ∈ lw_all := lw_g (lw_at lw_m1 76 rfl) rfl
theorem q118 : (Jvm.Cond.fieldLink "Grantworks" (78 : Nat) "Grantworks" "panels" "[I") ∈ lw_all := lw_g (lw_at lw_m1 77 rfl) rfl
theorem q119 : (Jvm.Cond.fieldLink "Grantworks" (254 : Nat) "Grantworks" "reviewers" "I") ∈ lw_all := lw_g (lw_at lw_m1 78 rfl) rfl
theorem q120 : (Jvm.Cond.fieldLink "Grantworks" (81 : Nat) "Grantworks" "budgets" "[I") ∈ lw_all := lw_g (lw_at lw_m1 79 rfl) rfl
theorem q121 : (Jvm.Cond.fieldLink "Grantworks" (84 : Nat) "Grantworks" "reserves" "[I") ∈ lw_all := lw_g (lw_at lw_m1 80 rfl) rfl
theorem q122 : (Jvm.Cond.fieldLink "Grantworks" (87 : Nat) "Grantworks" "payments" "[I") ∈ lw_all := lw_g (lw_at lw_m1 81 rfl) rfl
theorem q123 : (Jvm.Cond.fieldLink "Grantworks" (90 : Nat) "Grantworks" "held" "[I") ∈ lw_all := lw_g (lw_at lw_m1 82 rfl) rfl
theorem q124 : (Jvm.Cond.laysFinal "Grantworks" "Grantworks" "accounts" "LGrantworks$Table;") ∈ lw_all := lw_g (lw_at lw_m1 83 rfl) rfl
theorem q125 : (Jvm.Cond.soleField "Grantworks" "accounts") ∈ lw_all := lw_g (lw_at lw_m1 84 rfl) rfl
theorem q126 : (Jvm.Cond.laysFinal "Grantworks" "Grantworks" "keys" "[LGrantworks$Key;") ∈ lw_all := lw_g (lw_at lw_m1 85 rfl) rfl
theorem q127 : (Jvm.Cond.soleField "Grantworks" "keys") ∈ lw_all := lw_g (lw_at lw_m1 86 rfl) rfl
theorem q128 : (Jvm.Cond.laysFinal "Grantworks" "Grantworks" "entries" "[LGrantworks$Entry;") ∈ lw_all := lw_g (lw_at lw_m1 87 rfl) rfl
theorem q129 : (Jvm.Cond.soleField "Grantworks" "entries") ∈ lw_all := lw_g (lw_at lw_m1 88 rfl) rfl
theorem q130 : (Jvm.Cond.lays "Grantworks" "Grantworks" "entryCount" "I") ∈ lw_all := lw_g (lw_at lw_m1 89 rfl) rfl
theorem q131 : (Jvm.Cond.soleField "Grantworks" "entryCount") ∈ lw_all := lw_g (lw_at lw_m1 90 rfl) rfl
theorem q132 : (Jvm.Cond.laysFinal "Grantworks" "Grantworks" "fields" "[I") ∈ lw_all := lw_g (lw_at lw_m1 91 rfl) rfl
theorem q133 : (Jvm.Cond.soleField "Grantworks" "fields") ∈ lw_all := lw_g (lw_at lw_m1 92 rfl) rfl
theorem q134 : (Jvm.Cond.laysFinal "Grantworks" "Grantworks" "opens" "[I") ∈ lw_all := lw_g (lw_at lw_m1 93 rfl) rfl
theorem q135 : (Jvm.Cond.soleField "Grantworks" "opens") ∈ lw_all := lw_g (lw_at lw_m1 94 rfl) rfl
theorem q136 : (Jvm.Cond.laysFinal "Grantworks" "Grantworks" "deadlines" "[I") ∈ lw_all := lw_g (lw_at lw_m1 95 rfl) rfl
theorem q137 : (Jvm.Cond.soleField "Grantworks" "deadlines") ∈ lw_all := lw_g (lw_at lw_m1 96 rfl) rfl
theorem q138 : (Jvm.Cond.laysFinal "Grantworks" "Grantworks" "firstYears" "[I") ∈ lw_all := lw_g (lw_at lw_m1 97 rfl) rfl
theorem q139 : (Jvm.Cond.soleField "Grantworks" "firstYears") ∈ lw_all := lw_g (lw_at lw_m1 98 rfl) rfl
theorem q140 : (Jvm.Cond.laysFinal "Grantworks" "Grantworks" "listCounts" "[I") ∈ lw_all := lw_g (lw_at lw_m1 99 rfl) rfl
theorem q141 : (Jvm.Cond.soleField "Grantworks" "listCounts") ∈ lw_all := lw_g (lw_at lw_m1 100 rfl) rfl
theorem q142 : (Jvm.Cond.laysFinal "Grantworks" "Grantworks" "lists" "[I") ∈ lw_all := lw_g (lw_at lw_m1 101 rfl) rfl
theorem q143 : (Jvm.Cond.soleField "Grantworks" "lists") ∈ lw_all := lw_g (lw_at lw_m1 102 rfl) rfl
theorem q144 : (Jvm.Cond.laysFinal "Grantworks" "Grantworks" "isAwarded" "[Z") ∈ lw_all := lw_g (lw_at lw_m1 103 rfl) rfl
theorem q145 : (Jvm.Cond.soleField "Grantworks" "isAwarded") ∈ lw_all := lw_g (lw_at lw_m1 104 rfl) rfl
theorem q146 : (Jvm.Cond.laysFinal "Grantworks" "Grantworks" "applications" "[LGrantworks$Application;") ∈ lw_all := lw_g (lw_at lw_m1 105 rfl) rfl
theorem q147 : (Jvm.Cond.soleField "Grantworks" "applications") ∈ lw_all := lw_g (lw_at lw_m1 106 rfl) rfl
theorem q148 : (Jvm.Cond.lays "Grantworks" "Grantworks" "calls" "I") ∈ lw_all := lw_g (lw_at lw_m1 107 rfl) rfl
theorem q149 : (Jvm.Cond.soleField "Grantworks" "calls") ∈ lw_all := lw_g (lw_at lw_m1 108 rfl) rfl
theorem q150 : (Jvm.Cond.lays "Grantworks" "Grantworks" "count" "I") ∈ lw_all := lw_g (lw_at lw_m1 109 rfl) rfl
theorem q151 : (Jvm.Cond.soleField "Grantworks" "count") ∈ lw_all := lw_g (lw_at lw_m1 110 rfl) rfl
theorem q152 : (Jvm.Cond.lays "Grantworks" "Grantworks" "day" "I") ∈ lw_all := lw_g (lw_at lw_m1 111 rfl) rfl
theorem q153 : (Jvm.Cond.soleField "Grantworks" "day") ∈ lw_all := lw_g (lw_at lw_m1 112 rfl) rfl
theorem q154 : (Jvm.Cond.laysFinal "Grantworks" "Grantworks" "reviewerPeople" "[I") ∈ lw_all := lw_g (lw_at lw_m1 113 rfl) rfl
theorem q155 : (Jvm.Cond.soleField "Grantworks" "reviewerPeople") ∈ lw_all := lw_g (lw_at lw_m1 114 rfl) rfl
theorem q156 : (Jvm.Cond.laysFinal "Grantworks" "Grantworks" "reviewerHouses" "[I") ∈ lw_all := lw_g (lw_at lw_m1 115 rfl) rfl
theorem q157 : (Jvm.Cond.soleField "Grantworks" "reviewerHouses") ∈ lw_all := lw_g (lw_at lw_m1 116 rfl) rfl
theorem q158 : (Jvm.Cond.laysFinal "Grantworks" "Grantworks" "conflicts" "[I") ∈ lw_all := lw_g (lw_at lw_m1 117 rfl) rfl
theorem q159 : (Jvm.Cond.soleField "Grantworks" "conflicts") ∈ lw_all := lw_g (lw_at lw_m1 118 rfl) rfl
theorem q160 : (Jvm.Cond.laysFinal "Grantworks" "Grantworks" "panels" "[I") ∈ lw_all := lw_g (lw_at lw_m1 119 rfl) rfl
theorem q161 : (Jvm.Cond.soleField "Grantworks" "panels") ∈ lw_all := lw_g (lw_at lw_m1 120 rfl) rfl
theorem q162 : (Jvm.Cond.lays "Grantworks" "Grantworks" "reviewers" "I") ∈ lw_all := lw_g (lw_at lw_m1 121 rfl) rfl
theorem q163 : (Jvm.Cond.soleField "Grantworks" "reviewers") ∈ lw_all := lw_g (lw_at lw_m1 122 rfl) rfl
theorem q164 : (Jvm.Cond.laysFinal "Grantworks" "Grantworks" "budgets" "[I") ∈ lw_all := lw_g (lw_at lw_m1 123 rfl) rfl
theorem q165 : (Jvm.Cond.soleField "Grantworks" "budgets") ∈ lw_all := lw_g (lw_at lw_m1 124 rfl) rfl
theorem q166 : (Jvm.Cond.laysFinal "Grantworks" "Grantworks" "reserves" "[I") ∈ lw_all := lw_g (lw_at lw_m1 125 rfl) rfl
theorem q167 : (Jvm.Cond.soleField "Grantworks" "reserves") ∈ lw_all := lw_g (lw_at lw_m1 126 rfl) rfl
theorem q168 : (Jvm.Cond.laysFinal "Grantworks" "Grantworks" "payments" "[I") ∈ lw_all := lw_g (lw_at lw_m1 127 rfl) rfl
theorem q169 : (Jvm.Cond.soleField "Grantworks" "payments") ∈ lw_all := lw_g (lw_at lw_m1 128 rfl) rfl
theorem q170 : (Jvm.Cond.laysFinal "Grantworks" "Grantworks" "held" "[I") ∈ lw_all := lw_g (lw_at lw_m1 129 rfl) rfl
theorem q171 : (Jvm.Cond.soleField "Grantworks" "held") ∈ lw_all := lw_g (lw_at lw_m1 130 rfl) rfl
theorem q172 : (Jvm.Cond.superclass "Grantworks" "java/lang/Object") ∈ lw_all := lw_g (lw_at lw_m1 131 rfl) rfl
theorem q176 : (Jvm.Cond.instanceMethod ({ cls := "Grantworks", name := "ledgerErrors", desc := "()I" } : Jvm.MethodName)) ∈ lw_all := lw_g (lw_at lw_m1 135 rfl) rfl
theorem q177 : (Jvm.Cond.selects "Grantworks" ({ cls := "Grantworks", name := "ledgerErrors", desc := "()I" } : Jvm.MethodName) ({ cls := "Grantworks", name := "ledgerErrors", desc := "()I" } : Jvm.MethodName)) ∈ lw_all := lw_g (lw_at lw_m1 136 rfl) rfl
theorem q178 : (Jvm.Cond.code ({ cls := "Grantworks", name := "ledgerErrors", desc := "()I" } : Jvm.MethodName) prog_1_method_52_code (5 : Nat) (Option.some Jvm.ClassFile.FieldType.int)) ∈ lw_all := lw_g (lw_at lw_m1 137 rfl) rfl
theorem q179 : (Jvm.Cond.methodLink "Grantworks" (396 : Nat) ({ cls := "Grantworks", name := "addUp", desc := "()V" } : Jvm.MethodName)) ∈ lw_all := lw_g (lw_at lw_m1 138 rfl) rfl
theorem q180 : (Jvm.Cond.privateMethod ({ cls := "Grantworks", name := "addUp", desc := "()V" } : Jvm.MethodName)) ∈ lw_tbl := lw_at lw_m1 139 rfl
theorem q181 : (Jvm.Cond.instanceMethod ({ cls := "Grantworks", name := "addUp", desc := "()V" } : Jvm.MethodName)) ∈ lw_all := lw_g (lw_at lw_m1 140 rfl) rfl
theorem q182 : (Jvm.Cond.code ({ cls := "Grantworks", name := "addUp", desc := "()V" } : Jvm.MethodName) prog_1_method_51_code (8 : Nat) (Option.none : Option Jvm.ClassFile.FieldType)) ∈ lw_all := lw_g (lw_at lw_m1 141 rfl) rfl
theorem q183 : (Jvm.Cond.methodLink "Grantworks" (163 : Nat) ({ cls := "Grantworks", name := "keyIn", desc := "(LGrantworks$Entry;)LGrantworks$Key;" } : Jvm.MethodName)) ∈ lw_all := lw_g (lw_at lw_m1 142 rfl) rfl
theorem q184 : (Jvm.Cond.static ({ cls := "Grantworks", name := "keyIn", desc := "(LGrantworks$Entry;)LGrantworks$Key;" } : Jvm.MethodName)) ∈ lw_all := lw_g (lw_at lw_m1 143 rfl) rfl
theorem q185 : (Jvm.Cond.code ({ cls := "Grantworks", name := "keyIn", desc := "(LGrantworks$Entry;)LGrantworks$Key;" } : Jvm.MethodName) prog_1_method_10_code (2 : Nat) (Option.some (Jvm.ClassFile.FieldType.object "Grantworks$Key"))) ∈ lw_all := lw_g (lw_at lw_m1 144 rfl) rfl
theorem q186 : (Jvm.Cond.classLink "Grantworks" (104 : Nat) "Grantworks$Told") ∈ lw_all := lw_g (lw_at lw_m1 145 rfl) rfl
theorem q187 : (Jvm.Cond.classLink "Grantworks" (106 : Nat) "Grantworks$Reserved") ∈ lw_all := lw_g (lw_at lw_m1 146 rfl) rfl
theorem q188 : (Jvm.Cond.classLink "Grantworks" (108 : Nat) "Grantworks$Paid") ∈ lw_all := lw_g (lw_at lw_m1 147 rfl) rfl
theorem q189 : (Jvm.Cond.classLink "Grantworks" (116 : Nat) "Grantworks$Returned") ∈ lw_all := lw_g (lw_at lw_m1 148 rfl) rfl
theorem q190 : (Jvm.Cond.methodLink "Grantworks" (189 : Nat) ({ cls := "Grantworks$Account", name := "free", desc := "()I" } : Jvm.MethodName)) ∈ lw_all := lw_g (lw_at lw_m1 149 rfl) rfl
theorem q194 : (Jvm.Cond.methodLink "Grantworks" (301 : Nat) ({ cls := "Grantworks", name := "firstOf", desc := "(I)LGrantworks$Application;" } : Jvm.MethodName)) ∈ lw_all := lw_g (lw_at lw_m1 153 rfl) rfl
theorem q195 : (Jvm.Cond.privateMethod ({ cls := "Grantworks", name := "firstOf", desc := "(I)LGrantworks$Application;" } : Jvm.MethodName)) ∈ lw_tbl := lw_at lw_m1 154 rfl
theorem q196 : (Jvm.Cond.instanceMethod ({ cls := "Grantworks", name := "firstOf", desc := "(I)LGrantworks$Application;" } : Jvm.MethodName)) ∈ lw_all := lw_g (lw_at lw_m1 155 rfl) rfl
theorem q197 : (Jvm.Cond.code ({ cls := "Grantworks", name := "firstOf", desc := "(I)LGrantworks$Application;" } : Jvm.MethodName) prog_1_method_38_code (2 : Nat) (Option.some (Jvm.ClassFile.FieldType.object "Grantworks$Application"))) ∈ lw_all := lw_g (lw_at lw_m1 156 rfl) rfl
theorem q198 : (Jvm.Cond.methodLink "Grantworks" (305 : Nat) ({ cls := "Grantworks", name := "canComeIn", desc := "(LGrantworks$Application;)Z" } : Jvm.MethodName)) ∈ lw_all := lw_g (lw_at lw_m1 157 rfl) rfl
theorem q199 : (Jvm.Cond.privateMethod ({ cls := "Grantworks", name := "canComeIn", desc := "(LGrantworks$Application;)Z" } : Jvm.MethodName)) ∈ lw_tbl := lw_at lw_m1 158 rfl
theorem q200 : (Jvm.Cond.instanceMethod ({ cls := "Grantworks", name := "canComeIn", desc := "(LGrantworks$Application;)Z" } : Jvm.MethodName)) ∈ lw_all := lw_g (lw_at lw_m1 159 rfl) rfl
theorem q201 : (Jvm.Cond.code ({ cls := "Grantworks", name := "canComeIn", desc := "(LGrantworks$Application;)Z" } : Jvm.MethodName) prog_1_method_37_code (3 : Nat) (Option.some Jvm.ClassFile.FieldType.boolean)) ∈ lw_all := lw_g (lw_at lw_m1 160 rfl) rfl
theorem q202 : (Jvm.Cond.methodLink "Grantworks" (295 : Nat) ({ cls := "Grantworks", name := "freeAt", desc := "(II)I" } : Jvm.MethodName)) ∈ lw_all := lw_g (lw_at lw_m1 161 rfl) rfl
theorem q203 : (Jvm.Cond.privateMethod ({ cls := "Grantworks", name := "freeAt", desc := "(II)I" } : Jvm.MethodName)) ∈ lw_tbl := lw_at lw_m1 162 rfl
theorem q204 : (Jvm.Cond.instanceMethod ({ cls := "Grantworks", name := "freeAt", desc := "(II)I" } : Jvm.MethodName)) ∈ lw_all := lw_g (lw_at lw_m1 163 rfl) rfl
theorem q205 : (Jvm.Cond.code ({ cls := "Grantworks", name := "freeAt", desc := "(II)I" } : Jvm.MethodName) prog_1_method_35_code (4 : Nat) (Option.some Jvm.ClassFile.FieldType.int)) ∈ lw_all := lw_g (lw_at lw_m1 164 rfl) rfl
theorem q206 : (Jvm.Cond.methodLink "Grantworks" (182 : Nat) ({ cls := "Grantworks", name := "keyOf", desc := "(II)LGrantworks$Key;" } : Jvm.MethodName)) ∈ lw_all := lw_g (lw_at lw_m1 165 rfl) rfl
theorem q207 : (Jvm.Cond.privateMethod ({ cls := "Grantworks", name := "keyOf", desc := "(II)LGrantworks$Key;" } : Jvm.MethodName)) ∈ lw_tbl := lw_at lw_m1 166 rfl
theorem q208 : (Jvm.Cond.instanceMethod ({ cls := "Grantworks", name := "keyOf", desc := "(II)LGrantworks$Key;" } : Jvm.MethodName)) ∈ lw_all := lw_g (lw_at lw_m1 167 rfl) rfl
theorem q209 : (Jvm.Cond.code ({ cls := "Grantworks", name := "keyOf", desc := "(II)LGrantworks$Key;" } : Jvm.MethodName) prog_1_method_7_code (4 : Nat) (Option.some (Jvm.ClassFile.FieldType.object "Grantworks$Key"))) ∈ lw_all := lw_g (lw_at lw_m1 168 rfl) rfl
theorem q211 : (Jvm.Cond.methodLink "Grantworks" (93 : Nat) ({ cls := "Grantworks$Key", name := "<init>", desc := "(II)V" } : Jvm.MethodName)) ∈ lw_all := lw_g (lw_at lw_m1 170 rfl) rfl
theorem q216 : (Jvm.Cond.fieldLinkNest "Grantworks" (167 : Nat) "Grantworks$Key" "field" "I" "Grantworks") ∈ lw_tbl := lw_at lw_m1 175 rfl
theorem q218 : (Jvm.Cond.fieldLinkNest "Grantworks" (170 : Nat) "Grantworks$Key" "year" "I" "Grantworks") ∈ lw_tbl := lw_at lw_m1 177 rfl
theorem q224 : (Jvm.Cond.methodLink "Grantworks" (129 : Nat) ({ cls := "Grantworks$Table", name := "get", desc := "(LGrantworks$Key;)LGrantworks$Account;" } : Jvm.MethodName)) ∈ lw_all := lw_g (lw_at lw_m1 183 rfl) rfl
theorem q237 : (Jvm.Cond.methodLink "Grantworks" (376 : Nat) ({ cls := "Grantworks$State", name := "isReserved", desc := "()Z" } : Jvm.MethodName)) ∈ lw_all := lw_g (lw_at lw_m1 196 rfl) rfl
theorem q258 : (Jvm.Cond.methodLink "Grantworks" (379 : Nat) ({ cls := "Grantworks$Application", name := "toCome", desc := "()I" } : Jvm.MethodName)) ∈ lw_all := lw_g (lw_at lw_m1 217 rfl) rfl
theorem q263 : (Jvm.Cond.instanceMethod ({ cls := "Grantworks", name := "paidShare", desc := "()D" } : Jvm.MethodName)) ∈ lw_all := lw_g (lw_at lw_m1 222 rfl) rfl
theorem q264 : (Jvm.Cond.selects "Grantworks" ({ cls := "Grantworks", name := "paidShare", desc := "()D" } : Jvm.MethodName) ({ cls := "Grantworks", name := "paidShare", desc := "()D" } : Jvm.MethodName)) ∈ lw_all := lw_g (lw_at lw_m1 223 rfl) rfl
theorem q265 : (Jvm.Cond.code ({ cls := "Grantworks", name := "paidShare", desc := "()D" } : Jvm.MethodName) prog_1_method_53_code (6 : Nat) (Option.some Jvm.ClassFile.FieldType.double)) ∈ lw_all := lw_g (lw_at lw_m1 224 rfl) rfl
theorem q272 : (Jvm.Cond.instanceMethod ({ cls := "Grantworks", name := "tell", desc := "(III)I" } : Jvm.MethodName)) ∈ lw_all := lw_g (lw_at lw_m1 231 rfl) rfl
theorem q273 : (Jvm.Cond.selects "Grantworks" ({ cls := "Grantworks", name := "tell", desc := "(III)I" } : Jvm.MethodName) ({ cls := "Grantworks", name := "tell", desc := "(III)I" } : Jvm.MethodName)) ∈ lw_all := lw_g (lw_at lw_m1 232 rfl) rfl
theorem q274 : (Jvm.Cond.code ({ cls := "Grantworks", name := "tell", desc := "(III)I" } : Jvm.MethodName) prog_1_method_42_code (5 : Nat) (Option.some Jvm.ClassFile.FieldType.int)) ∈ lw_all := lw_g (lw_at lw_m1 233 rfl) rfl
theorem q275 : (Jvm.Cond.methodLink "Grantworks" (176 : Nat) ({ cls := "Grantworks", name := "isPlace", desc := "(II)Z" } : Jvm.MethodName)) ∈ lw_all := lw_g (lw_at lw_m1 234 rfl) rfl
theorem q276 : (Jvm.Cond.static ({ cls := "Grantworks", name := "isPlace", desc := "(II)Z" } : Jvm.MethodName)) ∈ lw_all := lw_g (lw_at lw_m1 235 rfl) rfl
theorem q277 : (Jvm.Cond.code ({ cls := "Grantworks", name := "isPlace", desc := "(II)Z" } : Jvm.MethodName) prog_1_method_8_code (2 : Nat) (Option.some Jvm.ClassFile.FieldType.boolean)) ∈ lw_all := lw_g (lw_at lw_m1 236 rfl) rfl
theorem q278 : (Jvm.Cond.constantLong "Grantworks" (96 : Nat) (3 : Int64)) ∈ lw_all := lw_g (lw_at lw_m1 237 rfl) rfl
theorem q279 : (Jvm.Cond.methodLink "Grantworks" (98 : Nat) ({ cls := "Grantworks", name := "inRange", desc := "(JJJ)Z" } : Jvm.MethodName)) ∈ lw_all := lw_g (lw_at lw_m1 238 rfl) rfl
theorem q280 : (Jvm.Cond.static ({ cls := "Grantworks", name := "inRange", desc := "(JJJ)Z" } : Jvm.MethodName)) ∈ lw_all := lw_g (lw_at lw_m1 239 rfl) rfl
theorem q281 : (Jvm.Cond.code ({ cls := "Grantworks", name := "inRange", desc := "(JJJ)Z" } : Jvm.MethodName) prog_1_method_1_code (6 : Nat) (Option.some Jvm.ClassFile.FieldType.boolean)) ∈ lw_all := lw_g (lw_at lw_m2 0 rfl) rfl
theorem q282 : (Jvm.Cond.constantLong "Grantworks" (102 : Nat) (11 : Int64)) ∈ lw_all := lw_g (lw_at lw_m2 1 rfl) rfl
theorem q283 : (Jvm.Cond.constantLong "Grantworks" (327 : Nat) (1000000 : Int64)) ∈ lw_all := lw_g (lw_at lw_m2 2 rfl) rfl
theorem q284 : (Jvm.Cond.methodLink "Grantworks" (156 : Nat) ({ cls := "Grantworks", name := "checkArgument", desc := "(Z)V" } : Jvm.MethodName)) ∈ lw_all := lw_g (lw_at lw_m2 3 rfl) rfl
theorem q285 : (Jvm.Cond.static ({ cls := "Grantworks", name := "checkArgument", desc := "(Z)V" } : Jvm.MethodName)) ∈ lw_all := lw_g (lw_at lw_m2 4 rfl) rfl
theorem q286 : (Jvm.Cond.code ({ cls := "Grantworks", name := "checkArgument", desc := "(Z)V" } : Jvm.MethodName) prog_1_method_3_code (1 : Nat) (Option.none : Option Jvm.ClassFile.FieldType)) ∈ lw_all := lw_g (lw_at lw_m2 5 rfl) rfl
theorem q287 : (Jvm.Cond.classLink "Grantworks" (7 : Nat) "java/lang/IllegalArgumentException") ∈ lw_all := lw_g (lw_at lw_m2 6 rfl) rfl
theorem q330 : (Jvm.Cond.methodLink "Grantworks" (9 : Nat) ({ cls := "java/lang/IllegalArgumentException", name := "<init>", desc := "()V" } : Jvm.MethodName)) ∈ lw_all := lw_g (lw_at lw_m2 49 rfl) rfl
theorem q353 : (Jvm.Cond.methodLink "Grantworks" (329 : Nat) ({ cls := "Grantworks", name := "isFull", desc := "()Z" } : Jvm.MethodName)) ∈ lw_all := lw_g (lw_at lw_m2 72 rfl) rfl
theorem q354 : (Jvm.Cond.privateMethod ({ cls := "Grantworks", name := "isFull", desc := "()Z" } : Jvm.MethodName)) ∈ lw_tbl := lw_at lw_m2 73 rfl
theorem q355 : (Jvm.Cond.instanceMethod ({ cls := "Grantworks", name := "isFull", desc := "()Z" } : Jvm.MethodName)) ∈ lw_all := lw_g (lw_at lw_m2 74 rfl) rfl
theorem q356 : (Jvm.Cond.code ({ cls := "Grantworks", name := "isFull", desc := "()Z" } : Jvm.MethodName) prog_1_method_16_code (1 : Nat) (Option.some Jvm.ClassFile.FieldType.boolean)) ∈ lw_all := lw_g (lw_at lw_m2 75 rfl) rfl
theorem q357 : (Jvm.Cond.constant "Grantworks" (333 : Nat) (100000000 : Int32)) ∈ lw_all := lw_g (lw_at lw_m2 76 rfl) rfl
theorem q358 : (Jvm.Cond.methodLink "Grantworks" (206 : Nat) ({ cls := "Grantworks", name := "checkState", desc := "(Z)V" } : Jvm.MethodName)) ∈ lw_all := lw_g (lw_at lw_m2 77 rfl) rfl
theorem q359 : (Jvm.Cond.static ({ cls := "Grantworks", name := "checkState", desc := "(Z)V" } : Jvm.MethodName)) ∈ lw_all := lw_g (lw_at lw_m2 78 rfl) rfl
theorem q360 : (Jvm.Cond.code ({ cls := "Grantworks", name := "checkState", desc := "(Z)V" } : Jvm.MethodName) prog_1_method_4_code (1 : Nat) (Option.none : Option Jvm.ClassFile.FieldType)) ∈ lw_all := lw_g (lw_at lw_m2 79 rfl) rfl
theorem q361 : (Jvm.Cond.classLink "Grantworks" (10 : Nat) "java/lang/IllegalStateException") ∈ lw_all := lw_g (lw_at lw_m2 80 rfl) rfl
theorem q370 : (Jvm.Cond.methodLink "Grantworks" (12 : Nat) ({ cls := "java/lang/IllegalStateException", name := "<init>", desc := "()V" } : Jvm.MethodName)) ∈ lw_all := lw_g (lw_at lw_m2 89 rfl) rfl
theorem q376 : (Jvm.Cond.methodLink "Grantworks" (334 : Nat) ({ cls := "Grantworks$Table", name := "add", desc := "(LGrantworks$Key;)LGrantworks$Account;" } : Jvm.MethodName)) ∈ lw_all := lw_g (lw_at lw_m2 95 rfl) rfl
theorem q387 : (Jvm.Cond.fieldLinkNest "Grantworks" (336 : Nat) "Grantworks$Account" "key" "LGrantworks$Key;" "Grantworks") ∈ lw_tbl := lw_at lw_m2 106 rfl
theorem q389 : (Jvm.Cond.fieldLinkNest "Grantworks" (193 : Nat) "Grantworks$Account" "place" "I" "Grantworks") ∈ lw_tbl := lw_at lw_m2 108 rfl
theorem q391 : (Jvm.Cond.fieldLinkNest "Grantworks" (403 : Nat) "Grantworks$Account" "next" "LGrantworks$Account;" "Grantworks") ∈ lw_tbl := lw_at lw_m2 110 rfl
theorem q394 : (Jvm.Cond.fieldLinkNest "Grantworks" (186 : Nat) "Grantworks$Account" "budget" "I" "Grantworks") ∈ lw_tbl := lw_at lw_m2 113 rfl
theorem q396 : (Jvm.Cond.fieldLinkNest "Grantworks" (133 : Nat) "Grantworks$Account" "reserved" "I" "Grantworks") ∈ lw_tbl := lw_at lw_m2 115 rfl
theorem q398 : (Jvm.Cond.fieldLinkNest "Grantworks" (145 : Nat) "Grantworks$Account" "paid" "I" "Grantworks") ∈ lw_tbl := lw_at lw_m2 117 rfl
theorem q415 : (Jvm.Cond.methodLink "Grantworks" (337 : Nat) ({ cls := "Grantworks$Told", name := "<init>", desc := "(LGrantworks$Key;I)V" } : Jvm.MethodName)) ∈ lw_all := lw_g (lw_at lw_m2 134 rfl) rfl
theorem q420 : (Jvm.Cond.fieldLinkNest "Grantworks" (110 : Nat) "Grantworks$Told" "key" "LGrantworks$Key;" "Grantworks") ∈ lw_tbl := lw_at lw_m2 139 rfl
theorem q422 : (Jvm.Cond.fieldLinkNest "Grantworks" (119 : Nat) "Grantworks$Told" "money" "I" "Grantworks") ∈ lw_tbl := lw_at lw_m2 141 rfl
theorem q428 : (Jvm.Cond.methodLink "Grantworks" (141 : Nat) ({ cls := "Grantworks", name := "add", desc := "(LGrantworks$Entry;)V" } : Jvm.MethodName)) ∈ lw_all := lw_g (lw_at lw_m2 147 rfl) rfl
theorem q429 : (Jvm.Cond.privateMethod ({ cls := "Grantworks", name := "add", desc := "(LGrantworks$Entry;)V" } : Jvm.MethodName)) ∈ lw_tbl := lw_at lw_m2 148 rfl
theorem q430 : (Jvm.Cond.instanceMethod ({ cls := "Grantworks", name := "add", desc := "(LGrantworks$Entry;)V" } : Jvm.MethodName)) ∈ lw_all := lw_g (lw_at lw_m2 149 rfl) rfl
theorem q431 : (Jvm.Cond.code ({ cls := "Grantworks", name := "add", desc := "(LGrantworks$Entry;)V" } : Jvm.MethodName) prog_1_method_12_code (2 : Nat) (Option.none : Option Jvm.ClassFile.FieldType)) ∈ lw_all := lw_g (lw_at lw_m2 150 rfl) rfl
theorem q432 : (Jvm.Cond.methodLink "Grantworks" (340 : Nat) ({ cls := "Grantworks", name := "comeInAll", desc := "(I)V" } : Jvm.MethodName)) ∈ lw_all := lw_g (lw_at lw_m2 151 rfl) rfl
theorem q433 : (Jvm.Cond.privateMethod ({ cls := "Grantworks", name := "comeInAll", desc := "(I)V" } : Jvm.MethodName)) ∈ lw_tbl := lw_at lw_m2 152 rfl
theorem q434 : (Jvm.Cond.instanceMethod ({ cls := "Grantworks", name := "comeInAll", desc := "(I)V" } : Jvm.MethodName)) ∈ lw_all := lw_g (lw_at lw_m2 153 rfl) rfl
theorem q435 : (Jvm.Cond.code ({ cls := "Grantworks", name := "comeInAll", desc := "(I)V" } : Jvm.MethodName) prog_1_method_41_code (4 : Nat) (Option.none : Option Jvm.ClassFile.FieldType)) ∈ lw_all := lw_g (lw_at lw_m2 154 rfl) rfl
theorem q436 : (Jvm.Cond.methodLink "Grantworks" (323 : Nat) ({ cls := "Grantworks", name := "comeIn", desc := "(I)I" } : Jvm.MethodName)) ∈ lw_all := lw_g (lw_at lw_m2 155 rfl) rfl
theorem q437 : (Jvm.Cond.privateMethod ({ cls := "Grantworks", name := "comeIn", desc := "(I)I" } : Jvm.MethodName)) ∈ lw_tbl := lw_at lw_m2 156 rfl
theorem q438 : (Jvm.Cond.instanceMethod ({ cls := "Grantworks", name := "comeIn", desc := "(I)I" } : Jvm.MethodName)) ∈ lw_all := lw_g (lw_at lw_m2 157 rfl) rfl
theorem q439 : (Jvm.Cond.code ({ cls := "Grantworks", name := "comeIn", desc := "(I)I" } : Jvm.MethodName) prog_1_method_40_code (5 : Nat) (Option.some Jvm.ClassFile.FieldType.int)) ∈ lw_all := lw_g (lw_at lw_m2 158 rfl) rfl
theorem q440 : (Jvm.Cond.methodLink "Grantworks" (309 : Nat) ({ cls := "Grantworks", name := "leaveList", desc := "(LGrantworks$Application;)V" } : Jvm.MethodName)) ∈ lw_all := lw_g (lw_at lw_m2 159 rfl) rfl
theorem q441 : (Jvm.Cond.privateMethod ({ cls := "Grantworks", name := "leaveList", desc := "(LGrantworks$Application;)V" } : Jvm.MethodName)) ∈ lw_tbl := lw_at lw_m2 160 rfl
theorem q442 : (Jvm.Cond.instanceMethod ({ cls := "Grantworks", name := "leaveList", desc := "(LGrantworks$Application;)V" } : Jvm.MethodName)) ∈ lw_all := lw_g (lw_at lw_m2 161 rfl) rfl
theorem q443 : (Jvm.Cond.code ({ cls := "Grantworks", name := "leaveList", desc := "(LGrantworks$Application;)V" } : Jvm.MethodName) prog_1_method_39_code (5 : Nat) (Option.none : Option Jvm.ClassFile.FieldType)) ∈ lw_all := lw_g (lw_at lw_m2 162 rfl) rfl
theorem q444 : (Jvm.Cond.fieldLink "Grantworks" (313 : Nat) "Grantworks$State" "IS_AWARDED" "LGrantworks$State;") ∈ lw_all := lw_g (lw_at lw_m2 163 rfl) rfl
theorem q446 : (Jvm.Cond.methodLink "Grantworks" (316 : Nat) ({ cls := "Grantworks", name := "keyFor", desc := "(LGrantworks$Application;I)LGrantworks$Key;" } : Jvm.MethodName)) ∈ lw_all := lw_g (lw_at lw_m2 165 rfl) rfl
theorem q447 : (Jvm.Cond.privateMethod ({ cls := "Grantworks", name := "keyFor", desc := "(LGrantworks$Application;I)LGrantworks$Key;" } : Jvm.MethodName)) ∈ lw_tbl := lw_at lw_m2 166 rfl
theorem q448 : (Jvm.Cond.instanceMethod ({ cls := "Grantworks", name := "keyFor", desc := "(LGrantworks$Application;I)LGrantworks$Key;" } : Jvm.MethodName)) ∈ lw_all := lw_g (lw_at lw_m2 167 rfl) rfl
theorem q449 : (Jvm.Cond.code ({ cls := "Grantworks", name := "keyFor", desc := "(LGrantworks$Application;I)LGrantworks$Key;" } : Jvm.MethodName) prog_1_method_36_code (3 : Nat) (Option.some (Jvm.ClassFile.FieldType.object "Grantworks$Key"))) ∈ lw_all := lw_g (lw_at lw_m2 168 rfl) rfl
theorem q450 : (Jvm.Cond.methodLink "Grantworks" (320 : Nat) ({ cls := "Grantworks", name := "reserve", desc := "(LGrantworks$Key;II)V" } : Jvm.MethodName)) ∈ lw_all := lw_g (lw_at lw_m2 169 rfl) rfl
theorem q451 : (Jvm.Cond.privateMethod ({ cls := "Grantworks", name := "reserve", desc := "(LGrantworks$Key;II)V" } : Jvm.MethodName)) ∈ lw_tbl := lw_at lw_m2 170 rfl
theorem q452 : (Jvm.Cond.instanceMethod ({ cls := "Grantworks", name := "reserve", desc := "(LGrantworks$Key;II)V" } : Jvm.MethodName)) ∈ lw_all := lw_g (lw_at lw_m2 171 rfl) rfl
theorem q453 : (Jvm.Cond.code ({ cls := "Grantworks", name := "reserve", desc := "(LGrantworks$Key;II)V" } : Jvm.MethodName) prog_1_method_13_code (4 : Nat) (Option.none : Option Jvm.ClassFile.FieldType)) ∈ lw_all := lw_g (lw_at lw_m2 172 rfl) rfl
theorem q455 : (Jvm.Cond.methodLink "Grantworks" (138 : Nat) ({ cls := "Grantworks$Reserved", name := "<init>", desc := "(LGrantworks$Key;II)V" } : Jvm.MethodName)) ∈ lw_all := lw_g (lw_at lw_m2 174 rfl) rfl
theorem q460 : (Jvm.Cond.fieldLinkNest "Grantworks" (114 : Nat) "Grantworks$Reserved" "key" "LGrantworks$Key;" "Grantworks") ∈ lw_tbl := lw_at lw_m2 179 rfl
theorem q462 : (Jvm.Cond.fieldLinkNest "Grantworks" (123 : Nat) "Grantworks$Reserved" "money" "I" "Grantworks") ∈ lw_tbl := lw_at lw_m2 181 rfl
theorem q464 : (Jvm.Cond.fieldLinkNest "Grantworks" (391 : Nat) "Grantworks$Reserved" "application" "I" "Grantworks") ∈ lw_tbl := lw_at lw_m2 183 rfl
theorem q476 : (Jvm.Cond.instanceMethod ({ cls := "Grantworks", name := "call", desc := "(IIII)I" } : Jvm.MethodName)) ∈ lw_all := lw_g (lw_at lw_m2 195 rfl) rfl
theorem q477 : (Jvm.Cond.selects "Grantworks" ({ cls := "Grantworks", name := "call", desc := "(IIII)I" } : Jvm.MethodName) ({ cls := "Grantworks", name := "call", desc := "(IIII)I" } : Jvm.MethodName)) ∈ lw_all := lw_g (lw_at lw_m2 196 rfl) rfl
theorem q478 : (Jvm.Cond.code ({ cls := "Grantworks", name := "call", desc := "(IIII)I" } : Jvm.MethodName) prog_1_method_21_code (5 : Nat) (Option.some Jvm.ClassFile.FieldType.int)) ∈ lw_all := lw_g (lw_at lw_m2 197 rfl) rfl
theorem q479 : (Jvm.Cond.constantLong "Grantworks" (202 : Nat) (10000 : Int64)) ∈ lw_all := lw_g (lw_at lw_m2 198 rfl) rfl
theorem q480 : (Jvm.Cond.constantLong "Grantworks" (204 : Nat) (9 : Int64)) ∈ lw_all := lw_g (lw_at lw_m2 199 rfl) rfl
theorem q518 : (Jvm.Cond.instanceMethod ({ cls := "Grantworks", name := "apply", desc := "(IIIIII)I" } : Jvm.MethodName)) ∈ lw_all := lw_g (lw_at lw_m2 237 rfl) rfl
theorem q519 : (Jvm.Cond.selects "Grantworks" ({ cls := "Grantworks", name := "apply", desc := "(IIIIII)I" } : Jvm.MethodName) ({ cls := "Grantworks", name := "apply", desc := "(IIIIII)I" } : Jvm.MethodName)) ∈ lw_all := lw_g (lw_at lw_m2 238 rfl) rfl
theorem q520 : (Jvm.Cond.code ({ cls := "Grantworks", name := "apply", desc := "(IIIIII)I" } : Jvm.MethodName) prog_1_method_24_code (8 : Nat) (Option.some Jvm.ClassFile.FieldType.int)) ∈ lw_all := lw_g (lw_at lw_m2 239 rfl) rfl
theorem q521 : (Jvm.Cond.methodLink "Grantworks" (214 : Nat) ({ cls := "Grantworks", name := "isCall", desc := "(I)Z" } : Jvm.MethodName)) ∈ lw_all := lw_g (lw_at lw_m3 0 rfl) rfl
theorem q522 : (Jvm.Cond.privateMethod ({ cls := "Grantworks", name := "isCall", desc := "(I)Z" } : Jvm.MethodName)) ∈ lw_tbl := lw_at lw_m3 1 rfl
theorem q523 : (Jvm.Cond.instanceMethod ({ cls := "Grantworks", name := "isCall", desc := "(I)Z" } : Jvm.MethodName)) ∈ lw_all := lw_g (lw_at lw_m3 2 rfl) rfl
theorem q524 : (Jvm.Cond.code ({ cls := "Grantworks", name := "isCall", desc := "(I)Z" } : Jvm.MethodName) prog_1_method_19_code (2 : Nat) (Option.some Jvm.ClassFile.FieldType.boolean)) ∈ lw_all := lw_g (lw_at lw_m3 3 rfl) rfl
theorem q525 : (Jvm.Cond.methodLink "Grantworks" (218 : Nat) ({ cls := "Grantworks", name := "checkIndex", desc := "(Z)V" } : Jvm.MethodName)) ∈ lw_all := lw_g (lw_at lw_m3 4 rfl) rfl
theorem q526 : (Jvm.Cond.static ({ cls := "Grantworks", name := "checkIndex", desc := "(Z)V" } : Jvm.MethodName)) ∈ lw_all := lw_g (lw_at lw_m3 5 rfl) rfl
theorem q527 : (Jvm.Cond.code ({ cls := "Grantworks", name := "checkIndex", desc := "(Z)V" } : Jvm.MethodName) prog_1_method_2_code (1 : Nat) (Option.none : Option Jvm.ClassFile.FieldType)) ∈ lw_all := lw_g (lw_at lw_m3 6 rfl) rfl
theorem q528 : (Jvm.Cond.classLink "Grantworks" (1 : Nat) "java/lang/IndexOutOfBoundsException") ∈ lw_all := lw_g (lw_at lw_m3 7 rfl) rfl
theorem q537 : (Jvm.Cond.methodLink "Grantworks" (3 : Nat) ({ cls := "java/lang/IndexOutOfBoundsException", name := "<init>", desc := "()V" } : Jvm.MethodName)) ∈ lw_all := lw_g (lw_at lw_m3 16 rfl) rfl
theorem q543 : (Jvm.Cond.constantLong "Grantworks" (221 : Nat) (29 : Int64)) ∈ lw_all := lw_g (lw_at lw_m3 22 rfl) rfl
theorem q544 : (Jvm.Cond.methodLink "Grantworks" (223 : Nat) ({ cls := "Grantworks", name := "isMoney", desc := "(III)Z" } : Jvm.MethodName)) ∈ lw_all := lw_g (lw_at lw_m3 23 rfl) rfl
theorem q545 : (Jvm.Cond.static ({ cls := "Grantworks", name := "isMoney", desc := "(III)Z" } : Jvm.MethodName)) ∈ lw_all := lw_g (lw_at lw_m3 24 rfl) rfl
theorem q546 : (Jvm.Cond.code ({ cls := "Grantworks", name := "isMoney", desc := "(III)Z" } : Jvm.MethodName) prog_1_method_23_code (3 : Nat) (Option.some Jvm.ClassFile.FieldType.boolean)) ∈ lw_all := lw_g (lw_at lw_m3 25 rfl) rfl
theorem q547 : (Jvm.Cond.constantLong "Grantworks" (212 : Nat) (100000 : Int64)) ∈ lw_all := lw_g (lw_at lw_m3 26 rfl) rfl
theorem q548 : (Jvm.Cond.methodLink "Grantworks" (227 : Nat) ({ cls := "Grantworks", name := "isOpen", desc := "(I)Z" } : Jvm.MethodName)) ∈ lw_all := lw_g (lw_at lw_m3 27 rfl) rfl
theorem q549 : (Jvm.Cond.privateMethod ({ cls := "Grantworks", name := "isOpen", desc := "(I)Z" } : Jvm.MethodName)) ∈ lw_tbl := lw_at lw_m3 28 rfl
theorem q550 : (Jvm.Cond.instanceMethod ({ cls := "Grantworks", name := "isOpen", desc := "(I)Z" } : Jvm.MethodName)) ∈ lw_all := lw_g (lw_at lw_m3 29 rfl) rfl
theorem q551 : (Jvm.Cond.code ({ cls := "Grantworks", name := "isOpen", desc := "(I)Z" } : Jvm.MethodName) prog_1_method_22_code (2 : Nat) (Option.some Jvm.ClassFile.FieldType.boolean)) ∈ lw_all := lw_g (lw_at lw_m3 30 rfl) rfl
theorem q553 : (Jvm.Cond.methodLink "Grantworks" (230 : Nat) ({ cls := "Grantworks$Application", name := "<init>", desc := "(IIII)V" } : Jvm.MethodName)) ∈ lw_all := lw_g (lw_at lw_m3 32 rfl) rfl
theorem q560 : (Jvm.Cond.fieldLinkNest "Grantworks" (298 : Nat) "Grantworks$Application" "number" "I" "Grantworks") ∈ lw_tbl := lw_at lw_m3 39 rfl
theorem q562 : (Jvm.Cond.fieldLinkNest "Grantworks" (239 : Nat) "Grantworks$Application" "call" "I" "Grantworks") ∈ lw_tbl := lw_at lw_m3 41 rfl
theorem q564 : (Jvm.Cond.fieldLinkNest "Grantworks" (260 : Nat) "Grantworks$Application" "person" "I" "Grantworks") ∈ lw_tbl := lw_at lw_m3 43 rfl
theorem q566 : (Jvm.Cond.fieldLinkNest "Grantworks" (263 : Nat) "Grantworks$Application" "house" "I" "Grantworks") ∈ lw_tbl := lw_at lw_m3 45 rfl
theorem q568 : (Jvm.Cond.fieldLinkNest "Grantworks" (292 : Nat) "Grantworks$Application" "asked" "[I" "Grantworks") ∈ lw_tbl := lw_at lw_m3 47 rfl
theorem q570 : (Jvm.Cond.fieldLinkNest "Grantworks" (272 : Nat) "Grantworks$Application" "reviews" "[I" "Grantworks") ∈ lw_tbl := lw_at lw_m3 49 rfl
theorem q572 : (Jvm.Cond.fieldLinkNest "Grantworks" (242 : Nat) "Grantworks$Application" "state" "LGrantworks$State;" "Grantworks") ∈ lw_tbl := lw_at lw_m3 51 rfl
theorem q574 : (Jvm.Cond.fieldLinkNest "Grantworks" (251 : Nat) "Grantworks$Application" "version" "I" "Grantworks") ∈ lw_tbl := lw_at lw_m3 53 rfl
theorem q576 : (Jvm.Cond.fieldLinkNest "Grantworks" (348 : Nat) "Grantworks$Application" "day" "I" "Grantworks") ∈ lw_tbl := lw_at lw_m3 55 rfl
theorem q578 : (Jvm.Cond.fieldLinkNest "Grantworks" (359 : Nat) "Grantworks$Application" "reported" "I" "Grantworks") ∈ lw_tbl := lw_at lw_m3 57 rfl
theorem q579 : (Jvm.Cond.fieldLinkNest "Grantworks" (362 : Nat) "Grantworks$Application" "paid" "I" "Grantworks") ∈ lw_tbl := lw_at lw_m3 58 rfl
theorem q603 : (Jvm.Cond.methodLink "Grantworks" (233 : Nat) ({ cls := "Grantworks$Application", name := "ask", desc := "(IIII)V" } : Jvm.MethodName)) ∈ lw_all := lw_g (lw_at lw_m3 82 rfl) rfl
theorem q611 : (Jvm.Cond.instanceMethod ({ cls := "Grantworks", name := "revise", desc := "(IIII)I" } : Jvm.MethodName)) ∈ lw_all := lw_g (lw_at lw_m3 90 rfl) rfl
theorem q612 : (Jvm.Cond.selects "Grantworks" ({ cls := "Grantworks", name := "revise", desc := "(IIII)I" } : Jvm.MethodName) ({ cls := "Grantworks", name := "revise", desc := "(IIII)I" } : Jvm.MethodName)) ∈ lw_all := lw_g (lw_at lw_m3 91 rfl) rfl
theorem q613 : (Jvm.Cond.code ({ cls := "Grantworks", name := "revise", desc := "(IIII)I" } : Jvm.MethodName) prog_1_method_25_code (6 : Nat) (Option.some Jvm.ClassFile.FieldType.int)) ∈ lw_all := lw_g (lw_at lw_m3 92 rfl) rfl
theorem q614 : (Jvm.Cond.methodLink "Grantworks" (236 : Nat) ({ cls := "Grantworks", name := "isApplication", desc := "(I)Z" } : Jvm.MethodName)) ∈ lw_all := lw_g (lw_at lw_m3 93 rfl) rfl
theorem q615 : (Jvm.Cond.privateMethod ({ cls := "Grantworks", name := "isApplication", desc := "(I)Z" } : Jvm.MethodName)) ∈ lw_tbl := lw_at lw_m3 94 rfl
theorem q616 : (Jvm.Cond.instanceMethod ({ cls := "Grantworks", name := "isApplication", desc := "(I)Z" } : Jvm.MethodName)) ∈ lw_all := lw_g (lw_at lw_m3 95 rfl) rfl
theorem q617 : (Jvm.Cond.code ({ cls := "Grantworks", name := "isApplication", desc := "(I)Z" } : Jvm.MethodName) prog_1_method_20_code (2 : Nat) (Option.some Jvm.ClassFile.FieldType.boolean)) ∈ lw_all := lw_g (lw_at lw_m3 96 rfl) rfl
theorem q618 : (Jvm.Cond.fieldLink "Grantworks" (246 : Nat) "Grantworks$State" "IS_OVER" "LGrantworks$State;") ∈ lw_all := lw_g (lw_at lw_m3 97 rfl) rfl
theorem q624 : (Jvm.Cond.instanceMethod ({ cls := "Grantworks", name := "reviewer", desc := "(II)I" } : Jvm.MethodName)) ∈ lw_all := lw_g (lw_at lw_m3 103 rfl) rfl
theorem q625 : (Jvm.Cond.selects "Grantworks" ({ cls := "Grantworks", name := "reviewer", desc := "(II)I" } : Jvm.MethodName) ({ cls := "Grantworks", name := "reviewer", desc := "(II)I" } : Jvm.MethodName)) ∈ lw_all := lw_g (lw_at lw_m3 104 rfl) rfl
theorem q626 : (Jvm.Cond.code ({ cls := "Grantworks", name := "reviewer", desc := "(II)I" } : Jvm.MethodName) prog_1_method_27_code (3 : Nat) (Option.some Jvm.ClassFile.FieldType.int)) ∈ lw_all := lw_g (lw_at lw_m3 105 rfl) rfl
theorem q631 : (Jvm.Cond.instanceMethod ({ cls := "Grantworks", name := "conflict", desc := "(IIZ)Z" } : Jvm.MethodName)) ∈ lw_all := lw_g (lw_at lw_m3 110 rfl) rfl
theorem q632 : (Jvm.Cond.selects "Grantworks" ({ cls := "Grantworks", name := "conflict", desc := "(IIZ)Z" } : Jvm.MethodName) ({ cls := "Grantworks", name := "conflict", desc := "(IIZ)Z" } : Jvm.MethodName)) ∈ lw_all := lw_g (lw_at lw_m3 111 rfl) rfl
theorem q633 : (Jvm.Cond.code ({ cls := "Grantworks", name := "conflict", desc := "(IIZ)Z" } : Jvm.MethodName) prog_1_method_28_code (5 : Nat) (Option.some Jvm.ClassFile.FieldType.boolean)) ∈ lw_all := lw_g (lw_at lw_m3 112 rfl) rfl
theorem q634 : (Jvm.Cond.methodLink "Grantworks" (257 : Nat) ({ cls := "Grantworks", name := "isReviewer", desc := "(I)Z" } : Jvm.MethodName)) ∈ lw_all := lw_g (lw_at lw_m3 113 rfl) rfl
theorem q635 : (Jvm.Cond.privateMethod ({ cls := "Grantworks", name := "isReviewer", desc := "(I)Z" } : Jvm.MethodName)) ∈ lw_tbl := lw_at lw_m3 114 rfl
theorem q636 : (Jvm.Cond.instanceMethod ({ cls := "Grantworks", name := "isReviewer", desc := "(I)Z" } : Jvm.MethodName)) ∈ lw_all := lw_g (lw_at lw_m3 115 rfl) rfl
theorem q637 : (Jvm.Cond.code ({ cls := "Grantworks", name := "isReviewer", desc := "(I)Z" } : Jvm.MethodName) prog_1_method_26_code (2 : Nat) (Option.some Jvm.ClassFile.FieldType.boolean)) ∈ lw_all := lw_g (lw_at lw_m3 116 rfl) rfl
theorem q642 : (Jvm.Cond.instanceMethod ({ cls := "Grantworks", name := "seat", desc := "(IIZ)Z" } : Jvm.MethodName)) ∈ lw_all := lw_g (lw_at lw_m3 121 rfl) rfl
theorem q643 : (Jvm.Cond.selects "Grantworks" ({ cls := "Grantworks", name := "seat", desc := "(IIZ)Z" } : Jvm.MethodName) ({ cls := "Grantworks", name := "seat", desc := "(IIZ)Z" } : Jvm.MethodName)) ∈ lw_all := lw_g (lw_at lw_m3 122 rfl) rfl
theorem q644 : (Jvm.Cond.code ({ cls := "Grantworks", name := "seat", desc := "(IIZ)Z" } : Jvm.MethodName) prog_1_method_29_code (5 : Nat) (Option.some Jvm.ClassFile.FieldType.boolean)) ∈ lw_all := lw_g (lw_at lw_m3 123 rfl) rfl
theorem q649 : (Jvm.Cond.instanceMethod ({ cls := "Grantworks", name := "review", desc := "(III)I" } : Jvm.MethodName)) ∈ lw_all := lw_g (lw_at lw_m3 128 rfl) rfl
theorem q650 : (Jvm.Cond.selects "Grantworks" ({ cls := "Grantworks", name := "review", desc := "(III)I" } : Jvm.MethodName) ({ cls := "Grantworks", name := "review", desc := "(III)I" } : Jvm.MethodName)) ∈ lw_all := lw_g (lw_at lw_m3 129 rfl) rfl
theorem q651 : (Jvm.Cond.code ({ cls := "Grantworks", name := "review", desc := "(III)I" } : Jvm.MethodName) prog_1_method_31_code (5 : Nat) (Option.some Jvm.ClassFile.FieldType.int)) ∈ lw_all := lw_g (lw_at lw_m3 130 rfl) rfl
theorem q652 : (Jvm.Cond.constantLong "Grantworks" (266 : Nat) (100 : Int64)) ∈ lw_all := lw_g (lw_at lw_m3 131 rfl) rfl
theorem q653 : (Jvm.Cond.methodLink "Grantworks" (268 : Nat) ({ cls := "Grantworks", name := "hasConflict", desc := "(ILGrantworks$Application;)Z" } : Jvm.MethodName)) ∈ lw_all := lw_g (lw_at lw_m3 132 rfl) rfl
theorem q654 : (Jvm.Cond.privateMethod ({ cls := "Grantworks", name := "hasConflict", desc := "(ILGrantworks$Application;)Z" } : Jvm.MethodName)) ∈ lw_tbl := lw_at lw_m3 133 rfl
theorem q655 : (Jvm.Cond.instanceMethod ({ cls := "Grantworks", name := "hasConflict", desc := "(ILGrantworks$Application;)Z" } : Jvm.MethodName)) ∈ lw_all := lw_g (lw_at lw_m3 134 rfl) rfl
theorem q656 : (Jvm.Cond.code ({ cls := "Grantworks", name := "hasConflict", desc := "(ILGrantworks$Application;)Z" } : Jvm.MethodName) prog_1_method_30_code (3 : Nat) (Option.some Jvm.ClassFile.FieldType.boolean)) ∈ lw_all := lw_g (lw_at lw_m3 135 rfl) rfl
theorem q661 : (Jvm.Cond.instanceMethod ({ cls := "Grantworks", name := "alike", desc := "(II)I" } : Jvm.MethodName)) ∈ lw_all := lw_g (lw_at lw_m3 140 rfl) rfl
theorem q662 : (Jvm.Cond.selects "Grantworks" ({ cls := "Grantworks", name := "alike", desc := "(II)I" } : Jvm.MethodName) ({ cls := "Grantworks", name := "alike", desc := "(II)I" } : Jvm.MethodName)) ∈ lw_all := lw_g (lw_at lw_m3 141 rfl) rfl
theorem q663 : (Jvm.Cond.code ({ cls := "Grantworks", name := "alike", desc := "(II)I" } : Jvm.MethodName) prog_1_method_33_code (4 : Nat) (Option.some Jvm.ClassFile.FieldType.int)) ∈ lw_all := lw_g (lw_at lw_m3 142 rfl) rfl
theorem q664 : (Jvm.Cond.constant "Grantworks" (284 : Nat) (-1000000 : Int32)) ∈ lw_all := lw_g (lw_at lw_m3 143 rfl) rfl
theorem q665 : (Jvm.Cond.methodLink "Grantworks" (285 : Nat) ({ cls := "Grantworks", name := "alikeOf", desc := "(ILGrantworks$Application;)I" } : Jvm.MethodName)) ∈ lw_all := lw_g (lw_at lw_m3 144 rfl) rfl
theorem q666 : (Jvm.Cond.privateMethod ({ cls := "Grantworks", name := "alikeOf", desc := "(ILGrantworks$Application;)I" } : Jvm.MethodName)) ∈ lw_tbl := lw_at lw_m3 145 rfl
theorem q667 : (Jvm.Cond.instanceMethod ({ cls := "Grantworks", name := "alikeOf", desc := "(ILGrantworks$Application;)I" } : Jvm.MethodName)) ∈ lw_all := lw_g (lw_at lw_m3 146 rfl) rfl
theorem q668 : (Jvm.Cond.code ({ cls := "Grantworks", name := "alikeOf", desc := "(ILGrantworks$Application;)I" } : Jvm.MethodName) prog_1_method_32_code (9 : Nat) (Option.some Jvm.ClassFile.FieldType.int)) ∈ lw_all := lw_g (lw_at lw_m3 147 rfl) rfl
theorem q669 : (Jvm.Cond.methodLink "Grantworks" (275 : Nat) ({ cls := "java/lang/Math", name := "min", desc := "(II)I" } : Jvm.MethodName)) ∈ lw_all := lw_g (lw_at lw_m3 148 rfl) rfl
theorem q672 : (Jvm.Cond.methodLink "Grantworks" (281 : Nat) ({ cls := "java/lang/Math", name := "max", desc := "(II)I" } : Jvm.MethodName)) ∈ lw_all := lw_g (lw_at lw_m3 151 rfl) rfl
theorem q679 : (Jvm.Cond.instanceMethod ({ cls := "Grantworks", name := "award", desc := "(I)I" } : Jvm.MethodName)) ∈ lw_all := lw_g (lw_at lw_m3 158 rfl) rfl
theorem q680 : (Jvm.Cond.selects "Grantworks" ({ cls := "Grantworks", name := "award", desc := "(I)I" } : Jvm.MethodName) ({ cls := "Grantworks", name := "award", desc := "(I)I" } : Jvm.MethodName)) ∈ lw_all := lw_g (lw_at lw_m3 159 rfl) rfl
theorem q681 : (Jvm.Cond.code ({ cls := "Grantworks", name := "award", desc := "(I)I" } : Jvm.MethodName) prog_1_method_44_code (6 : Nat) (Option.some Jvm.ClassFile.FieldType.int)) ∈ lw_all := lw_g (lw_at lw_m3 160 rfl) rfl
theorem q682 : (Jvm.Cond.methodLink "Grantworks" (344 : Nat) ({ cls := "Grantworks", name := "scoreOf", desc := "(LGrantworks$Application;)I" } : Jvm.MethodName)) ∈ lw_all := lw_g (lw_at lw_m3 161 rfl) rfl
theorem q683 : (Jvm.Cond.privateMethod ({ cls := "Grantworks", name := "scoreOf", desc := "(LGrantworks$Application;)I" } : Jvm.MethodName)) ∈ lw_tbl := lw_at lw_m3 162 rfl
theorem q684 : (Jvm.Cond.instanceMethod ({ cls := "Grantworks", name := "scoreOf", desc := "(LGrantworks$Application;)I" } : Jvm.MethodName)) ∈ lw_all := lw_g (lw_at lw_m3 163 rfl) rfl
theorem q685 : (Jvm.Cond.code ({ cls := "Grantworks", name := "scoreOf", desc := "(LGrantworks$Application;)I" } : Jvm.MethodName) prog_1_method_34_code (5 : Nat) (Option.some Jvm.ClassFile.FieldType.int)) ∈ lw_all := lw_g (lw_at lw_m3 164 rfl) rfl
theorem q686 : (Jvm.Cond.methodLink "Grantworks" (289 : Nat) ({ cls := "Grantworks$Application", name := "reviewCount", desc := "()I" } : Jvm.MethodName)) ∈ lw_all := lw_g (lw_at lw_m3 165 rfl) rfl
theorem q690 : (Jvm.Cond.fieldLink "Grantworks" (349 : Nat) "Grantworks$State" "IS_REFUSED" "LGrantworks$State;") ∈ lw_all := lw_g (lw_at lw_m3 169 rfl) rfl
theorem q692 : (Jvm.Cond.fieldLink "Grantworks" (352 : Nat) "Grantworks$State" "IS_WAITING" "LGrantworks$State;") ∈ lw_all := lw_g (lw_at lw_m3 171 rfl) rfl
theorem q694 : (Jvm.Cond.methodLink "Grantworks" (355 : Nat) ({ cls := "Grantworks", name := "standsAhead", desc := "(LGrantworks$Application;LGrantworks$Application;)Z" } : Jvm.MethodName)) ∈ lw_all := lw_g (lw_at lw_m3 173 rfl) rfl
theorem q695 : (Jvm.Cond.privateMethod ({ cls := "Grantworks", name := "standsAhead", desc := "(LGrantworks$Application;LGrantworks$Application;)Z" } : Jvm.MethodName)) ∈ lw_tbl := lw_at lw_m3 174 rfl
theorem q696 : (Jvm.Cond.instanceMethod ({ cls := "Grantworks", name := "standsAhead", desc := "(LGrantworks$Application;LGrantworks$Application;)Z" } : Jvm.MethodName)) ∈ lw_all := lw_g (lw_at lw_m3 175 rfl) rfl
theorem q697 : (Jvm.Cond.code ({ cls := "Grantworks", name := "standsAhead", desc := "(LGrantworks$Application;LGrantworks$Application;)Z" } : Jvm.MethodName) prog_1_method_43_code (4 : Nat) (Option.some Jvm.ClassFile.FieldType.boolean)) ∈ lw_all := lw_g (lw_at lw_m3 176 rfl) rfl
theorem q702 : (Jvm.Cond.instanceMethod ({ cls := "Grantworks", name := "report", desc := "(II)I" } : Jvm.MethodName)) ∈ lw_all := lw_g (lw_at lw_m3 181 rfl) rfl
theorem q703 : (Jvm.Cond.selects "Grantworks" ({ cls := "Grantworks", name := "report", desc := "(II)I" } : Jvm.MethodName) ({ cls := "Grantworks", name := "report", desc := "(II)I" } : Jvm.MethodName)) ∈ lw_all := lw_g (lw_at lw_m3 182 rfl) rfl
theorem q704 : (Jvm.Cond.code ({ cls := "Grantworks", name := "report", desc := "(II)I" } : Jvm.MethodName) prog_1_method_45_code (6 : Nat) (Option.some Jvm.ClassFile.FieldType.int)) ∈ lw_all := lw_g (lw_at lw_m3 183 rfl) rfl
theorem q705 : (Jvm.Cond.fieldLink "Grantworks" (363 : Nat) "Grantworks$State" "IS_DONE" "LGrantworks$State;") ∈ lw_all := lw_g (lw_at lw_m3 184 rfl) rfl
theorem q707 : (Jvm.Cond.methodLink "Grantworks" (366 : Nat) ({ cls := "Grantworks", name := "pay", desc := "(LGrantworks$Key;II)V" } : Jvm.MethodName)) ∈ lw_all := lw_g (lw_at lw_m3 186 rfl) rfl
theorem q708 : (Jvm.Cond.privateMethod ({ cls := "Grantworks", name := "pay", desc := "(LGrantworks$Key;II)V" } : Jvm.MethodName)) ∈ lw_tbl := lw_at lw_m3 187 rfl
theorem q709 : (Jvm.Cond.instanceMethod ({ cls := "Grantworks", name := "pay", desc := "(LGrantworks$Key;II)V" } : Jvm.MethodName)) ∈ lw_all := lw_g (lw_at lw_m3 188 rfl) rfl
theorem q710 : (Jvm.Cond.code ({ cls := "Grantworks", name := "pay", desc := "(LGrantworks$Key;II)V" } : Jvm.MethodName) prog_1_method_14_code (4 : Nat) (Option.none : Option Jvm.ClassFile.FieldType)) ∈ lw_all := lw_g (lw_at lw_m3 189 rfl) rfl
theorem q712 : (Jvm.Cond.methodLink "Grantworks" (148 : Nat) ({ cls := "Grantworks$Paid", name := "<init>", desc := "(LGrantworks$Key;II)V" } : Jvm.MethodName)) ∈ lw_all := lw_g (lw_at lw_m3 191 rfl) rfl
theorem q717 : (Jvm.Cond.fieldLinkNest "Grantworks" (115 : Nat) "Grantworks$Paid" "key" "LGrantworks$Key;" "Grantworks") ∈ lw_tbl := lw_at lw_m3 196 rfl
theorem q719 : (Jvm.Cond.fieldLinkNest "Grantworks" (124 : Nat) "Grantworks$Paid" "money" "I" "Grantworks") ∈ lw_tbl := lw_at lw_m3 198 rfl
theorem q721 : (Jvm.Cond.fieldLinkNest "Grantworks" (394 : Nat) "Grantworks$Paid" "application" "I" "Grantworks") ∈ lw_tbl := lw_at lw_m3 200 rfl
theorem q729 : (Jvm.Cond.methodLink "Grantworks" (369 : Nat) ({ cls := "Grantworks", name := "giveBack", desc := "(LGrantworks$Key;II)V" } : Jvm.MethodName)) ∈ lw_all := lw_g (lw_at lw_m3 208 rfl) rfl
theorem q730 : (Jvm.Cond.privateMethod ({ cls := "Grantworks", name := "giveBack", desc := "(LGrantworks$Key;II)V" } : Jvm.MethodName)) ∈ lw_tbl := lw_at lw_m3 209 rfl
theorem q731 : (Jvm.Cond.instanceMethod ({ cls := "Grantworks", name := "giveBack", desc := "(LGrantworks$Key;II)V" } : Jvm.MethodName)) ∈ lw_all := lw_g (lw_at lw_m3 210 rfl) rfl
theorem q732 : (Jvm.Cond.code ({ cls := "Grantworks", name := "giveBack", desc := "(LGrantworks$Key;II)V" } : Jvm.MethodName) prog_1_method_15_code (4 : Nat) (Option.none : Option Jvm.ClassFile.FieldType)) ∈ lw_all := lw_g (lw_at lw_m3 211 rfl) rfl
theorem q734 : (Jvm.Cond.methodLink "Grantworks" (149 : Nat) ({ cls := "Grantworks$Returned", name := "<init>", desc := "(LGrantworks$Key;II)V" } : Jvm.MethodName)) ∈ lw_all := lw_g (lw_at lw_m3 213 rfl) rfl
theorem q739 : (Jvm.Cond.fieldLinkNest "Grantworks" (118 : Nat) "Grantworks$Returned" "key" "LGrantworks$Key;" "Grantworks") ∈ lw_tbl := lw_at lw_m3 218 rfl
theorem q741 : (Jvm.Cond.fieldLinkNest "Grantworks" (125 : Nat) "Grantworks$Returned" "money" "I" "Grantworks") ∈ lw_tbl := lw_at lw_m3 220 rfl
theorem q743 : (Jvm.Cond.fieldLinkNest "Grantworks" (395 : Nat) "Grantworks$Returned" "application" "I" "Grantworks") ∈ lw_tbl := lw_at lw_m3 222 rfl
theorem q755 : (Jvm.Cond.instanceMethod ({ cls := "Grantworks", name := "end", desc := "(IZ)I" } : Jvm.MethodName)) ∈ lw_all := lw_g (lw_at lw_m3 234 rfl) rfl
theorem q756 : (Jvm.Cond.selects "Grantworks" ({ cls := "Grantworks", name := "end", desc := "(IZ)I" } : Jvm.MethodName) ({ cls := "Grantworks", name := "end", desc := "(IZ)I" } : Jvm.MethodName)) ∈ lw_all := lw_g (lw_at lw_m3 235 rfl) rfl
theorem q757 : (Jvm.Cond.code ({ cls := "Grantworks", name := "end", desc := "(IZ)I" } : Jvm.MethodName) prog_1_method_46_code (7 : Nat) (Option.some Jvm.ClassFile.FieldType.int)) ∈ lw_all := lw_g (lw_at lw_m3 236 rfl) rfl
theorem q758 : (Jvm.Cond.methodLink "Grantworks" (372 : Nat) ({ cls := "Grantworks$State", name := "canEnd", desc := "(Z)Z" } : Jvm.MethodName)) ∈ lw_all := lw_g (lw_at lw_m3 237 rfl) rfl
theorem q783 : (Jvm.Cond.instanceMethod ({ cls := "Grantworks", name := "pass", desc := "(I)I" } : Jvm.MethodName)) ∈ lw_all := lw_g (lw_at lw_m4 22 rfl) rfl
theorem q784 : (Jvm.Cond.selects "Grantworks" ({ cls := "Grantworks", name := "pass", desc := "(I)I" } : Jvm.MethodName) ({ cls := "Grantworks", name := "pass", desc := "(I)I" } : Jvm.MethodName)) ∈ lw_all := lw_g (lw_at lw_m4 23 rfl) rfl
theorem q785 : (Jvm.Cond.code ({ cls := "Grantworks", name := "pass", desc := "(I)I" } : Jvm.MethodName) prog_1_method_47_code (2 : Nat) (Option.some Jvm.ClassFile.FieldType.int)) ∈ lw_all := lw_g (lw_at lw_m4 24 rfl) rfl
theorem q786 : (Jvm.Cond.constantLong "Grantworks" (382 : Nat) (1000 : Int64)) ∈ lw_all := lw_g (lw_at lw_m4 25 rfl) rfl
theorem q791 : (Jvm.Cond.instanceMethod ({ cls := "Grantworks", name := "about", desc := "(II)I" } : Jvm.MethodName)) ∈ lw_all := lw_g (lw_at lw_m4 30 rfl) rfl
theorem q792 : (Jvm.Cond.selects "Grantworks" ({ cls := "Grantworks", name := "about", desc := "(II)I" } : Jvm.MethodName) ({ cls := "Grantworks", name := "about", desc := "(II)I" } : Jvm.MethodName)) ∈ lw_all := lw_g (lw_at lw_m4 31 rfl) rfl
theorem q793 : (Jvm.Cond.code ({ cls := "Grantworks", name := "about", desc := "(II)I" } : Jvm.MethodName) prog_1_method_48_code (4 : Nat) (Option.some Jvm.ClassFile.FieldType.int)) ∈ lw_all := lw_g (lw_at lw_m4 32 rfl) rfl
theorem q794 : (Jvm.Cond.constantLong "Grantworks" (384 : Nat) (10 : Int64)) ∈ lw_all := lw_g (lw_at lw_m4 33 rfl) rfl
theorem q795 : (Jvm.Cond.methodLink "Grantworks" (386 : Nat) ({ cls := "Grantworks$State", name := "ordinal", desc := "()I" } : Jvm.MethodName)) ∈ lw_all := lw_g (lw_at lw_m4 34 rfl) rfl
theorem q810 : (Jvm.Cond.instanceMethod ({ cls := "Grantworks", name := "account", desc := "(III)I" } : Jvm.MethodName)) ∈ lw_all := lw_g (lw_at lw_m4 49 rfl) rfl
theorem q811 : (Jvm.Cond.selects "Grantworks" ({ cls := "Grantworks", name := "account", desc := "(III)I" } : Jvm.MethodName) ({ cls := "Grantworks", name := "account", desc := "(III)I" } : Jvm.MethodName)) ∈ lw_all := lw_g (lw_at lw_m4 50 rfl) rfl
theorem q812 : (Jvm.Cond.code ({ cls := "Grantworks", name := "account", desc := "(III)I" } : Jvm.MethodName) prog_1_method_18_code (5 : Nat) (Option.some Jvm.ClassFile.FieldType.int)) ∈ lw_all := lw_g (lw_at lw_m4 51 rfl) rfl
theorem q813 : (Jvm.Cond.constantLong "Grantworks" (180 : Nat) (4 : Int64)) ∈ lw_all := lw_g (lw_at lw_m4 52 rfl) rfl
theorem q819 : (Jvm.Cond.instanceMethod ({ cls := "Grantworks", name := "waiting", desc := "(II)I" } : Jvm.MethodName)) ∈ lw_all := lw_g (lw_at lw_m4 58 rfl) rfl
theorem q820 : (Jvm.Cond.selects "Grantworks" ({ cls := "Grantworks", name := "waiting", desc := "(II)I" } : Jvm.MethodName) ({ cls := "Grantworks", name := "waiting", desc := "(II)I" } : Jvm.MethodName)) ∈ lw_all := lw_g (lw_at lw_m4 59 rfl) rfl
theorem q821 : (Jvm.Cond.code ({ cls := "Grantworks", name := "waiting", desc := "(II)I" } : Jvm.MethodName) prog_1_method_49_code (3 : Nat) (Option.some Jvm.ClassFile.FieldType.int)) ∈ lw_all := lw_g (lw_at lw_m4 60 rfl) rfl
theorem q822 : (Jvm.Cond.constantLong "Grantworks" (150 : Nat) (-1 : Int64)) ∈ lw_all := lw_g (lw_at lw_m4 61 rfl) rfl
theorem q823 : (Jvm.Cond.methodLink "Grantworks" (152 : Nat) ({ cls := "Grantworks", name := "checkThere", desc := "(Z)V" } : Jvm.MethodName)) ∈ lw_all := lw_g (lw_at lw_m4 62 rfl) rfl
theorem q824 : (Jvm.Cond.static ({ cls := "Grantworks", name := "checkThere", desc := "(Z)V" } : Jvm.MethodName)) ∈ lw_all := lw_g (lw_at lw_m4 63 rfl) rfl
theorem q825 : (Jvm.Cond.code ({ cls := "Grantworks", name := "checkThere", desc := "(Z)V" } : Jvm.MethodName) prog_1_method_5_code (1 : Nat) (Option.none : Option Jvm.ClassFile.FieldType)) ∈ lw_all := lw_g (lw_at lw_m4 64 rfl) rfl
theorem q826 : (Jvm.Cond.classLink "Grantworks" (13 : Nat) "java/util/NoSuchElementException") ∈ lw_all := lw_g (lw_at lw_m4 65 rfl) rfl
theorem q835 : (Jvm.Cond.methodLink "Grantworks" (15 : Nat) ({ cls := "java/util/NoSuchElementException", name := "<init>", desc := "()V" } : Jvm.MethodName)) ∈ lw_all := lw_g (lw_at lw_m4 74 rfl) rfl
theorem q845 : (Jvm.Cond.instanceMethod ({ cls := "Grantworks", name := "ledger", desc := "(II)I" } : Jvm.MethodName)) ∈ lw_all := lw_g (lw_at lw_m4 84 rfl) rfl
theorem q846 : (Jvm.Cond.selects "Grantworks" ({ cls := "Grantworks", name := "ledger", desc := "(II)I" } : Jvm.MethodName) ({ cls := "Grantworks", name := "ledger", desc := "(II)I" } : Jvm.MethodName)) ∈ lw_all := lw_g (lw_at lw_m4 85 rfl) rfl
theorem q847 : (Jvm.Cond.code ({ cls := "Grantworks", name := "ledger", desc := "(II)I" } : Jvm.MethodName) prog_1_method_17_code (4 : Nat) (Option.some Jvm.ClassFile.FieldType.int)) ∈ lw_all := lw_g (lw_at lw_m4 86 rfl) rfl
theorem q848 : (Jvm.Cond.methodLink "Grantworks" (159 : Nat) ({ cls := "Grantworks", name := "kindOf", desc := "(LGrantworks$Entry;)I" } : Jvm.MethodName)) ∈ lw_all := lw_g (lw_at lw_m4 87 rfl) rfl
theorem q849 : (Jvm.Cond.static ({ cls := "Grantworks", name := "kindOf", desc := "(LGrantworks$Entry;)I" } : Jvm.MethodName)) ∈ lw_all := lw_g (lw_at lw_m4 88 rfl) rfl
theorem q850 : (Jvm.Cond.code ({ cls := "Grantworks", name := "kindOf", desc := "(LGrantworks$Entry;)I" } : Jvm.MethodName) prog_1_method_9_code (1 : Nat) (Option.some Jvm.ClassFile.FieldType.int)) ∈ lw_all := lw_g (lw_at lw_m4 89 rfl) rfl
theorem q851 : (Jvm.Cond.methodLink "Grantworks" (173 : Nat) ({ cls := "Grantworks", name := "moneyOf", desc := "(LGrantworks$Entry;)I" } : Jvm.MethodName)) ∈ lw_all := lw_g (lw_at lw_m4 90 rfl) rfl
theorem q852 : (Jvm.Cond.static ({ cls := "Grantworks", name := "moneyOf", desc := "(LGrantworks$Entry;)I" } : Jvm.MethodName)) ∈ lw_all := lw_g (lw_at lw_m4 91 rfl) rfl
theorem q853 : (Jvm.Cond.code ({ cls := "Grantworks", name := "moneyOf", desc := "(LGrantworks$Entry;)I" } : Jvm.MethodName) prog_1_method_11_code (2 : Nat) (Option.some Jvm.ClassFile.FieldType.int)) ∈ lw_all := lw_g (lw_at lw_m4 92 rfl) rfl
theorem q858 : (Jvm.Cond.instanceMethod ({ cls := "Grantworks", name := "count", desc := "(I)I" } : Jvm.MethodName)) ∈ lw_all := lw_g (lw_at lw_m4 97 rfl) rfl
theorem q859 : (Jvm.Cond.selects "Grantworks" ({ cls := "Grantworks", name := "count", desc := "(I)I" } : Jvm.MethodName) ({ cls := "Grantworks", name := "count", desc := "(I)I" } : Jvm.MethodName)) ∈ lw_all := lw_g (lw_at lw_m4 98 rfl) rfl
theorem q860 : (Jvm.Cond.code ({ cls := "Grantworks", name := "count", desc := "(I)I" } : Jvm.MethodName) prog_1_method_50_code (4 : Nat) (Option.some Jvm.ClassFile.FieldType.int)) ∈ lw_all := lw_g (lw_at lw_m4 99 rfl) rfl
theorem q861 : (Jvm.Cond.constantLong "Grantworks" (389 : Nat) (5 : Int64)) ∈ lw_all := lw_g (lw_at lw_m4 100 rfl) rfl
theorem q1143 : (Jvm.Cond.castable "Grantworks" "java/lang/Object") ∈ lw_tbl := lw_at lw_m5 142 rfl
theorem in_X1 : ∀ w ∈ wsX10, w ∈ lw_all := lw_in wsX10 [124, 126, 128, 130, 132, 134, 136, 138, 140, 142, 144, 146, 148, 150, 152, 154, 156, 158, 160, 162, 164, 166, 168, 170] (by decide +kernel) (by decide +kernel)
