/-! SillBridges -/
set_option maxRecDepth 100000
def RX0 : String := "SillBridges"
def TX0 : u_T := fun k => match k with
  | 0 => ("SillBridges", "trays", "[LSillBridges$Tray;", true)
  | 1 => ("SillBridges", "tape", "[B", true)
  | 2 => ("SillBridges", "taped", "I", false)
  | 3 => ("SillBridges", "faultKind", "I", false)
  | 4 => ("SillBridges", "faultAt", "I", false)
  | 5 => ("SillBridges", "bad", "LSillBridges$Bad;", true)
  | 6 => ("SillBridges", "refused", "LSillBridges$Refused;", true)
  | 7 => ("SillBridges", "status", "I", false)
  | 8 => ("SillBridges", "above", "J", false)
  | 9 => ("SillBridges", "under", "J", false)
  | 10 => ("SillBridges", "now", "LSillBridges$House;", true)
  | 11 => ("SillBridges", "marks", "[LSillBridges$House;", true)
  | 12 => ("SillBridges", "markMany", "I", false)
  | 13 => ("SillBridges", "moves", "LSillBridges$Moves;", true)
  | 14 => ("SillBridges", "spot", "LSillBridges$Spot;", true)
  | 15 => ("SillBridges", "far", "[I", true)
  | 16 => ("SillBridges", "queue", "[I", true)
  | 17 => ("SillBridges", "good", "[Z", true)
  | 18 => ("SillBridges", "queued", "I", false)
  | 19 => ("SillBridges", "waits", "[Z", true)
  | 20 => ("SillBridges", "row", "[I", true)
  | 21 => ("SillBridges", "rowMoves", "LSillBridges$Moves;", true)
  | 22 => ("SillBridges", "rowMany", "I", false)
  | 23 => ("SillBridges", "running", "LSillBridges$Running;", true)
  | 24 => ("SillBridges", "hasRun", "Z", false)
  | 25 => ("SillBridges", "last", "[I", true)
  | 26 => ("SillBridges", "lastAt", "[I", true)
  | _ => ("SillBridges", "lastPeople", "I", false)
def tyX0 : Nat → FieldType := fun k => match k with
  | 0 => .array (.object "SillBridges$Tray")
  | 1 => .array .byte
  | 2 => .int
  | 3 => .int
  | 4 => .int
  | 5 => .object "SillBridges$Bad"
  | 6 => .object "SillBridges$Refused"
  | 7 => .int
  | 8 => .long
  | 9 => .long
  | 10 => .object "SillBridges$House"
  | 11 => .array (.object "SillBridges$House")
  | 12 => .int
  | 13 => .object "SillBridges$Moves"
  | 14 => .object "SillBridges$Spot"
  | 15 => .array .int
  | 16 => .array .int
  | 17 => .array .boolean
  | 18 => .int
  | 19 => .array .boolean
  | 20 => .array .int
  | 21 => .object "SillBridges$Moves"
  | 22 => .int
  | 23 => .object "SillBridges$Running"
  | 24 => .boolean
  | 25 => .array .int
  | 26 => .array .int
  | _ => .int
abbrev wsX00 : List Cond := u_ws RX0 TX0 28
set_option maxRecDepth 100000 in
theorem nmX0 : ∀ a, a < 28 → ∀ b, b < 28 → a ≠ b → (TX0 a).2.1 ≠ (TX0 b).2.1 := by decide +kernel
set_option maxRecDepth 100000 in
theorem tyX0_ok : ∀ k, k < 28 → parseFieldDescriptor (TX0 k).2.2.1 = some (tyX0 k) := by decide +kernel
abbrev cX0_init : ByteArray := prog_1_method_6_code
def yX0_init : MethodName := ⟨RX0, "<init>", "()V"⟩
def dkwX0_init_9 : List UInt8 := [181, 0, 107, 177]
abbrev dktX0_init_9 : List UInt8 := dkwX0_init_9 ++ []
def dkwX0_init_8 : List UInt8 := [42, 187, 0, 97, 89, 183, 0, 99, 181, 0, 100, 42, 16, 6, 188, 10, 181, 0, 104, 42, 7, 188, 10]
abbrev dktX0_init_8 : List UInt8 := dkwX0_init_8 ++ dktX0_init_9
def dkwX0_init_7 : List UInt8 := [188, 4, 181, 0, 88, 42, 18, 77, 188, 10, 181, 0, 91, 42, 187, 0, 63, 89, 183, 0, 65, 181, 0, 94]
abbrev dktX0_init_7 : List UInt8 := dkwX0_init_7 ++ dktX0_init_8
def dkwX0_init_6 : List UInt8 := [188, 10, 181, 0, 78, 42, 18, 77, 188, 10, 181, 0, 81, 42, 18, 77, 188, 4, 181, 0, 84, 42, 18, 77]
abbrev dktX0_init_6 : List UInt8 := dkwX0_init_6 ++ dktX0_init_7
def dkwX0_init_5 : List UInt8 := [187, 0, 63, 89, 183, 0, 65, 181, 0, 66, 42, 187, 0, 70, 89, 183, 0, 72, 181, 0, 73, 42, 18, 77]
abbrev dktX0_init_5 : List UInt8 := dkwX0_init_5 ++ dktX0_init_6
def dkwX0_init_4 : List UInt8 := [181, 0, 48, 42, 187, 0, 52, 89, 183, 0, 54, 181, 0, 55, 42, 6, 189, 0, 52, 181, 0, 59, 42]
abbrev dktX0_init_4 : List UInt8 := dkwX0_init_4 ++ dktX0_init_5
def dkwX0_init_3 : List UInt8 := [187, 0, 34, 89, 183, 0, 36, 181, 0, 37, 42, 187, 0, 41, 89, 183, 0, 43, 181, 0, 44, 42, 10]
abbrev dktX0_init_3 : List UInt8 := dkwX0_init_3 ++ dktX0_init_4
def dkwX0_init_2 : List UInt8 := [83, 181, 0, 20, 42, 17, 3, 132, 188, 8, 181, 0, 24, 42, 2, 181, 0, 27, 42, 2, 181, 0, 31, 42]
abbrev dktX0_init_2 : List UInt8 := dkwX0_init_2 ++ dktX0_init_3
def dkwX0_init_1 : List UInt8 := [89, 183, 0, 19, 83, 89, 5, 187, 0, 17, 89, 183, 0, 19, 83, 89, 6, 187, 0, 17, 89, 183, 0, 19]
abbrev dktX0_init_1 : List UInt8 := dkwX0_init_1 ++ dktX0_init_2
def dkwX0_init_0 : List UInt8 := [42, 183, 0, 11, 42, 7, 189, 0, 17, 89, 3, 187, 0, 17, 89, 183, 0, 19, 83, 89, 4, 187, 0, 17]
abbrev dktX0_init_0 : List UInt8 := dkwX0_init_0 ++ dktX0_init_1
theorem dksX0_init_0 : cX0_init.data.toList.drop 0 = dktX0_init_0 := by decide +kernel
theorem dksX0_init_1 : cX0_init.data.toList.drop 24 = dktX0_init_1 := dk_seg dksX0_init_0 24 rfl rfl
theorem dksX0_init_2 : cX0_init.data.toList.drop 48 = dktX0_init_2 := dk_seg dksX0_init_1 24 rfl rfl
theorem dksX0_init_3 : cX0_init.data.toList.drop 72 = dktX0_init_3 := dk_seg dksX0_init_2 24 rfl rfl
theorem dksX0_init_4 : cX0_init.data.toList.drop 95 = dktX0_init_4 := dk_seg dksX0_init_3 23 rfl rfl
theorem dksX0_init_5 : cX0_init.data.toList.drop 118 = dktX0_init_5 := dk_seg dksX0_init_4 23 rfl rfl
theorem dksX0_init_6 : cX0_init.data.toList.drop 142 = dktX0_init_6 := dk_seg dksX0_init_5 24 rfl rfl
theorem dksX0_init_7 : cX0_init.data.toList.drop 166 = dktX0_init_7 := dk_seg dksX0_init_6 24 rfl rfl
theorem dksX0_init_8 : cX0_init.data.toList.drop 190 = dktX0_init_8 := dk_seg dksX0_init_7 24 rfl rfl
theorem dksX0_init_9 : cX0_init.data.toList.drop 213 = dktX0_init_9 := dk_seg dksX0_init_8 23 rfl rfl
theorem dX0_init_0 : decode cX0_init 0 = .ok (.aload_n 0, 1) := dk_42 (dk_at dksX0_init_0 0 rfl rfl)
theorem dX0_init_1 : decode cX0_init 1 = .ok (.invokespecial 11, 3) := dk_183 0 11 (dk_at dksX0_init_0 1 rfl rfl)
theorem dX0_init_4 : decode cX0_init 4 = .ok (.aload_n 0, 1) := dk_42 (dk_at dksX0_init_0 4 rfl rfl)
theorem dX0_init_5 : decode cX0_init 5 = .ok (.iconst 4, 1) := dk_7 (dk_at dksX0_init_0 5 rfl rfl)
theorem dX0_init_6 : decode cX0_init 6 = .ok (.anewarray 17, 3) := dk_189 0 17 (dk_at dksX0_init_0 6 rfl rfl)
theorem dX0_init_9 : decode cX0_init 9 = .ok (.dup, 1) := dk_89 (dk_at dksX0_init_0 9 rfl rfl)
theorem dX0_init_10 : decode cX0_init 10 = .ok (.iconst 0, 1) := dk_3 (dk_at dksX0_init_0 10 rfl rfl)
theorem dX0_init_11 : decode cX0_init 11 = .ok (.new 17, 3) := dk_187 0 17 (dk_at dksX0_init_0 11 rfl rfl)
theorem dX0_init_14 : decode cX0_init 14 = .ok (.dup, 1) := dk_89 (dk_at dksX0_init_0 14 rfl rfl)
theorem dX0_init_15 : decode cX0_init 15 = .ok (.invokespecial 19, 3) := dk_183 0 19 (dk_at dksX0_init_0 15 rfl rfl)
theorem dX0_init_18 : decode cX0_init 18 = .ok (.aastore, 1) := dk_83 (dk_at dksX0_init_0 18 rfl rfl)
theorem dX0_init_19 : decode cX0_init 19 = .ok (.dup, 1) := dk_89 (dk_at dksX0_init_0 19 rfl rfl)
theorem dX0_init_20 : decode cX0_init 20 = .ok (.iconst 1, 1) := dk_4 (dk_at dksX0_init_0 20 rfl rfl)
theorem dX0_init_21 : decode cX0_init 21 = .ok (.new 17, 3) := dk_187 0 17 (dk_at dksX0_init_0 21 rfl rfl)
theorem dX0_init_24 : decode cX0_init 24 = .ok (.dup, 1) := dk_89 (dk_at dksX0_init_1 0 rfl rfl)
theorem dX0_init_25 : decode cX0_init 25 = .ok (.invokespecial 19, 3) := dk_183 0 19 (dk_at dksX0_init_1 1 rfl rfl)
theorem dX0_init_28 : decode cX0_init 28 = .ok (.aastore, 1) := dk_83 (dk_at dksX0_init_1 4 rfl rfl)
theorem dX0_init_29 : decode cX0_init 29 = .ok (.dup, 1) := dk_89 (dk_at dksX0_init_1 5 rfl rfl)
theorem dX0_init_30 : decode cX0_init 30 = .ok (.iconst 2, 1) := dk_5 (dk_at dksX0_init_1 6 rfl rfl)
theorem dX0_init_31 : decode cX0_init 31 = .ok (.new 17, 3) := dk_187 0 17 (dk_at dksX0_init_1 7 rfl rfl)
theorem dX0_init_34 : decode cX0_init 34 = .ok (.dup, 1) := dk_89 (dk_at dksX0_init_1 10 rfl rfl)
theorem dX0_init_35 : decode cX0_init 35 = .ok (.invokespecial 19, 3) := dk_183 0 19 (dk_at dksX0_init_1 11 rfl rfl)
theorem dX0_init_38 : decode cX0_init 38 = .ok (.aastore, 1) := dk_83 (dk_at dksX0_init_1 14 rfl rfl)
theorem dX0_init_39 : decode cX0_init 39 = .ok (.dup, 1) := dk_89 (dk_at dksX0_init_1 15 rfl rfl)
theorem dX0_init_40 : decode cX0_init 40 = .ok (.iconst 3, 1) := dk_6 (dk_at dksX0_init_1 16 rfl rfl)
theorem dX0_init_41 : decode cX0_init 41 = .ok (.new 17, 3) := dk_187 0 17 (dk_at dksX0_init_1 17 rfl rfl)
theorem dX0_init_44 : decode cX0_init 44 = .ok (.dup, 1) := dk_89 (dk_at dksX0_init_1 20 rfl rfl)
theorem dX0_init_45 : decode cX0_init 45 = .ok (.invokespecial 19, 3) := dk_183 0 19 (dk_at dksX0_init_1 21 rfl rfl)
theorem dX0_init_48 : decode cX0_init 48 = .ok (.aastore, 1) := dk_83 (dk_at dksX0_init_2 0 rfl rfl)
theorem dX0_init_49 : decode cX0_init 49 = .ok (.putfield 20, 3) := dk_181 0 20 (dk_at dksX0_init_2 1 rfl rfl)
theorem dX0_init_52 : decode cX0_init 52 = .ok (.aload_n 0, 1) := dk_42 (dk_at dksX0_init_2 4 rfl rfl)
theorem dX0_init_53 : decode cX0_init 53 = .ok (.sipush 900, 3) := dk_17 3 132 (dk_at dksX0_init_2 5 rfl rfl)
theorem dX0_init_56 : decode cX0_init 56 = .ok (.newarray .byte, 2) := dk_188_8 (dk_at dksX0_init_2 8 rfl rfl)
theorem dX0_init_58 : decode cX0_init 58 = .ok (.putfield 24, 3) := dk_181 0 24 (dk_at dksX0_init_2 10 rfl rfl)
theorem dX0_init_61 : decode cX0_init 61 = .ok (.aload_n 0, 1) := dk_42 (dk_at dksX0_init_2 13 rfl rfl)
theorem dX0_init_62 : decode cX0_init 62 = .ok (.iconst (-1), 1) := dk_2 (dk_at dksX0_init_2 14 rfl rfl)
theorem dX0_init_63 : decode cX0_init 63 = .ok (.putfield 27, 3) := dk_181 0 27 (dk_at dksX0_init_2 15 rfl rfl)
theorem dX0_init_66 : decode cX0_init 66 = .ok (.aload_n 0, 1) := dk_42 (dk_at dksX0_init_2 18 rfl rfl)
theorem dX0_init_67 : decode cX0_init 67 = .ok (.iconst (-1), 1) := dk_2 (dk_at dksX0_init_2 19 rfl rfl)
theorem dX0_init_68 : decode cX0_init 68 = .ok (.putfield 31, 3) := dk_181 0 31 (dk_at dksX0_init_2 20 rfl rfl)
theorem dX0_init_71 : decode cX0_init 71 = .ok (.aload_n 0, 1) := dk_42 (dk_at dksX0_init_2 23 rfl rfl)
theorem dX0_init_72 : decode cX0_init 72 = .ok (.new 34, 3) := dk_187 0 34 (dk_at dksX0_init_3 0 rfl rfl)
theorem dX0_init_75 : decode cX0_init 75 = .ok (.dup, 1) := dk_89 (dk_at dksX0_init_3 3 rfl rfl)
theorem dX0_init_76 : decode cX0_init 76 = .ok (.invokespecial 36, 3) := dk_183 0 36 (dk_at dksX0_init_3 4 rfl rfl)
theorem dX0_init_79 : decode cX0_init 79 = .ok (.putfield 37, 3) := dk_181 0 37 (dk_at dksX0_init_3 7 rfl rfl)
theorem dX0_init_82 : decode cX0_init 82 = .ok (.aload_n 0, 1) := dk_42 (dk_at dksX0_init_3 10 rfl rfl)
theorem dX0_init_83 : decode cX0_init 83 = .ok (.new 41, 3) := dk_187 0 41 (dk_at dksX0_init_3 11 rfl rfl)
theorem dX0_init_86 : decode cX0_init 86 = .ok (.dup, 1) := dk_89 (dk_at dksX0_init_3 14 rfl rfl)
theorem dX0_init_87 : decode cX0_init 87 = .ok (.invokespecial 43, 3) := dk_183 0 43 (dk_at dksX0_init_3 15 rfl rfl)
theorem dX0_init_90 : decode cX0_init 90 = .ok (.putfield 44, 3) := dk_181 0 44 (dk_at dksX0_init_3 18 rfl rfl)
theorem dX0_init_93 : decode cX0_init 93 = .ok (.aload_n 0, 1) := dk_42 (dk_at dksX0_init_3 21 rfl rfl)
theorem dX0_init_94 : decode cX0_init 94 = .ok (.lconst 1, 1) := dk_10 (dk_at dksX0_init_3 22 rfl rfl)
theorem dX0_init_95 : decode cX0_init 95 = .ok (.putfield 48, 3) := dk_181 0 48 (dk_at dksX0_init_4 0 rfl rfl)
theorem dX0_init_98 : decode cX0_init 98 = .ok (.aload_n 0, 1) := dk_42 (dk_at dksX0_init_4 3 rfl rfl)
theorem dX0_init_99 : decode cX0_init 99 = .ok (.new 52, 3) := dk_187 0 52 (dk_at dksX0_init_4 4 rfl rfl)
theorem dX0_init_102 : decode cX0_init 102 = .ok (.dup, 1) := dk_89 (dk_at dksX0_init_4 7 rfl rfl)
theorem dX0_init_103 : decode cX0_init 103 = .ok (.invokespecial 54, 3) := dk_183 0 54 (dk_at dksX0_init_4 8 rfl rfl)
theorem dX0_init_106 : decode cX0_init 106 = .ok (.putfield 55, 3) := dk_181 0 55 (dk_at dksX0_init_4 11 rfl rfl)
theorem dX0_init_109 : decode cX0_init 109 = .ok (.aload_n 0, 1) := dk_42 (dk_at dksX0_init_4 14 rfl rfl)
theorem dX0_init_110 : decode cX0_init 110 = .ok (.iconst 3, 1) := dk_6 (dk_at dksX0_init_4 15 rfl rfl)
theorem dX0_init_111 : decode cX0_init 111 = .ok (.anewarray 52, 3) := dk_189 0 52 (dk_at dksX0_init_4 16 rfl rfl)
theorem dX0_init_114 : decode cX0_init 114 = .ok (.putfield 59, 3) := dk_181 0 59 (dk_at dksX0_init_4 19 rfl rfl)
theorem dX0_init_117 : decode cX0_init 117 = .ok (.aload_n 0, 1) := dk_42 (dk_at dksX0_init_4 22 rfl rfl)
theorem dX0_init_118 : decode cX0_init 118 = .ok (.new 63, 3) := dk_187 0 63 (dk_at dksX0_init_5 0 rfl rfl)
theorem dX0_init_121 : decode cX0_init 121 = .ok (.dup, 1) := dk_89 (dk_at dksX0_init_5 3 rfl rfl)
theorem dX0_init_122 : decode cX0_init 122 = .ok (.invokespecial 65, 3) := dk_183 0 65 (dk_at dksX0_init_5 4 rfl rfl)
theorem dX0_init_125 : decode cX0_init 125 = .ok (.putfield 66, 3) := dk_181 0 66 (dk_at dksX0_init_5 7 rfl rfl)
theorem dX0_init_128 : decode cX0_init 128 = .ok (.aload_n 0, 1) := dk_42 (dk_at dksX0_init_5 10 rfl rfl)
theorem dX0_init_129 : decode cX0_init 129 = .ok (.new 70, 3) := dk_187 0 70 (dk_at dksX0_init_5 11 rfl rfl)
theorem dX0_init_132 : decode cX0_init 132 = .ok (.dup, 1) := dk_89 (dk_at dksX0_init_5 14 rfl rfl)
theorem dX0_init_133 : decode cX0_init 133 = .ok (.invokespecial 72, 3) := dk_183 0 72 (dk_at dksX0_init_5 15 rfl rfl)
theorem dX0_init_136 : decode cX0_init 136 = .ok (.putfield 73, 3) := dk_181 0 73 (dk_at dksX0_init_5 18 rfl rfl)
theorem dX0_init_139 : decode cX0_init 139 = .ok (.aload_n 0, 1) := dk_42 (dk_at dksX0_init_5 21 rfl rfl)
theorem dX0_init_140 : decode cX0_init 140 = .ok (.ldc 77, 2) := dk_18 77 (dk_at dksX0_init_5 22 rfl rfl)
theorem dX0_init_142 : decode cX0_init 142 = .ok (.newarray .int, 2) := dk_188_10 (dk_at dksX0_init_6 0 rfl rfl)
theorem dX0_init_144 : decode cX0_init 144 = .ok (.putfield 78, 3) := dk_181 0 78 (dk_at dksX0_init_6 2 rfl rfl)
theorem dX0_init_147 : decode cX0_init 147 = .ok (.aload_n 0, 1) := dk_42 (dk_at dksX0_init_6 5 rfl rfl)
theorem dX0_init_148 : decode cX0_init 148 = .ok (.ldc 77, 2) := dk_18 77 (dk_at dksX0_init_6 6 rfl rfl)
theorem dX0_init_150 : decode cX0_init 150 = .ok (.newarray .int, 2) := dk_188_10 (dk_at dksX0_init_6 8 rfl rfl)
theorem dX0_init_152 : decode cX0_init 152 = .ok (.putfield 81, 3) := dk_181 0 81 (dk_at dksX0_init_6 10 rfl rfl)
theorem dX0_init_155 : decode cX0_init 155 = .ok (.aload_n 0, 1) := dk_42 (dk_at dksX0_init_6 13 rfl rfl)
theorem dX0_init_156 : decode cX0_init 156 = .ok (.ldc 77, 2) := dk_18 77 (dk_at dksX0_init_6 14 rfl rfl)
theorem dX0_init_158 : decode cX0_init 158 = .ok (.newarray .boolean, 2) := dk_188_4 (dk_at dksX0_init_6 16 rfl rfl)
theorem dX0_init_160 : decode cX0_init 160 = .ok (.putfield 84, 3) := dk_181 0 84 (dk_at dksX0_init_6 18 rfl rfl)
theorem dX0_init_163 : decode cX0_init 163 = .ok (.aload_n 0, 1) := dk_42 (dk_at dksX0_init_6 21 rfl rfl)
theorem dX0_init_164 : decode cX0_init 164 = .ok (.ldc 77, 2) := dk_18 77 (dk_at dksX0_init_6 22 rfl rfl)
theorem dX0_init_166 : decode cX0_init 166 = .ok (.newarray .boolean, 2) := dk_188_4 (dk_at dksX0_init_7 0 rfl rfl)
theorem dX0_init_168 : decode cX0_init 168 = .ok (.putfield 88, 3) := dk_181 0 88 (dk_at dksX0_init_7 2 rfl rfl)
theorem dX0_init_171 : decode cX0_init 171 = .ok (.aload_n 0, 1) := dk_42 (dk_at dksX0_init_7 5 rfl rfl)
theorem dX0_init_172 : decode cX0_init 172 = .ok (.ldc 77, 2) := dk_18 77 (dk_at dksX0_init_7 6 rfl rfl)
theorem dX0_init_174 : decode cX0_init 174 = .ok (.newarray .int, 2) := dk_188_10 (dk_at dksX0_init_7 8 rfl rfl)
theorem dX0_init_176 : decode cX0_init 176 = .ok (.putfield 91, 3) := dk_181 0 91 (dk_at dksX0_init_7 10 rfl rfl)
theorem dX0_init_179 : decode cX0_init 179 = .ok (.aload_n 0, 1) := dk_42 (dk_at dksX0_init_7 13 rfl rfl)
theorem dX0_init_180 : decode cX0_init 180 = .ok (.new 63, 3) := dk_187 0 63 (dk_at dksX0_init_7 14 rfl rfl)
theorem dX0_init_183 : decode cX0_init 183 = .ok (.dup, 1) := dk_89 (dk_at dksX0_init_7 17 rfl rfl)
theorem dX0_init_184 : decode cX0_init 184 = .ok (.invokespecial 65, 3) := dk_183 0 65 (dk_at dksX0_init_7 18 rfl rfl)
theorem dX0_init_187 : decode cX0_init 187 = .ok (.putfield 94, 3) := dk_181 0 94 (dk_at dksX0_init_7 21 rfl rfl)
theorem dX0_init_190 : decode cX0_init 190 = .ok (.aload_n 0, 1) := dk_42 (dk_at dksX0_init_8 0 rfl rfl)
theorem dX0_init_191 : decode cX0_init 191 = .ok (.new 97, 3) := dk_187 0 97 (dk_at dksX0_init_8 1 rfl rfl)
theorem dX0_init_194 : decode cX0_init 194 = .ok (.dup, 1) := dk_89 (dk_at dksX0_init_8 4 rfl rfl)
theorem dX0_init_195 : decode cX0_init 195 = .ok (.invokespecial 99, 3) := dk_183 0 99 (dk_at dksX0_init_8 5 rfl rfl)
theorem dX0_init_198 : decode cX0_init 198 = .ok (.putfield 100, 3) := dk_181 0 100 (dk_at dksX0_init_8 8 rfl rfl)
theorem dX0_init_201 : decode cX0_init 201 = .ok (.aload_n 0, 1) := dk_42 (dk_at dksX0_init_8 11 rfl rfl)
theorem dX0_init_202 : decode cX0_init 202 = .ok (.bipush 6, 2) := dk_16 6 (dk_at dksX0_init_8 12 rfl rfl)
theorem dX0_init_204 : decode cX0_init 204 = .ok (.newarray .int, 2) := dk_188_10 (dk_at dksX0_init_8 14 rfl rfl)
theorem dX0_init_206 : decode cX0_init 206 = .ok (.putfield 104, 3) := dk_181 0 104 (dk_at dksX0_init_8 16 rfl rfl)
theorem dX0_init_209 : decode cX0_init 209 = .ok (.aload_n 0, 1) := dk_42 (dk_at dksX0_init_8 19 rfl rfl)
theorem dX0_init_210 : decode cX0_init 210 = .ok (.iconst 4, 1) := dk_7 (dk_at dksX0_init_8 20 rfl rfl)
theorem dX0_init_211 : decode cX0_init 211 = .ok (.newarray .int, 2) := dk_188_10 (dk_at dksX0_init_8 21 rfl rfl)
theorem dX0_init_213 : decode cX0_init 213 = .ok (.putfield 107, 3) := dk_181 0 107 (dk_at dksX0_init_9 0 rfl rfl)
theorem dX0_init_216 : decode cX0_init 216 = .ok (.return_, 1) := dk_177 (dk_at dksX0_init_9 3 rfl rfl)
abbrev cX0_status : ByteArray := prog_1_method_7_code
def yX0_status : MethodName := ⟨RX0, "status", "()I"⟩
theorem dX0_status_0 : decode cX0_status 0 = .ok (.aload_n 0, 1) := by decide +kernel
theorem dX0_status_1 : decode cX0_status 1 = .ok (.getfield 110, 3) := by decide +kernel
theorem dX0_status_4 : decode cX0_status 4 = .ok (.ireturn, 1) := by decide +kernel
abbrev cX0_top : ByteArray := prog_1_method_8_code
def yX0_top : MethodName := ⟨RX0, "top", "()J"⟩
theorem dX0_top_0 : decode cX0_top 0 = .ok (.aload_n 0, 1) := by decide +kernel
theorem dX0_top_1 : decode cX0_top 1 = .ok (.getfield 113, 3) := by decide +kernel
theorem dX0_top_4 : decode cX0_top 4 = .ok (.lreturn, 1) := by decide +kernel
abbrev cX0_bottom : ByteArray := prog_1_method_9_code
def yX0_bottom : MethodName := ⟨RX0, "bottom", "()J"⟩
theorem dX0_bottom_0 : decode cX0_bottom 0 = .ok (.aload_n 0, 1) := by decide +kernel
theorem dX0_bottom_1 : decode cX0_bottom 1 = .ok (.getfield 48, 3) := by decide +kernel
theorem dX0_bottom_4 : decode cX0_bottom 4 = .ok (.lreturn, 1) := by decide +kernel
abbrev cX0_tray : ByteArray := prog_1_method_15_code
def yX0_tray : MethodName := ⟨RX0, "tray", "(III)Z"⟩
def dkwX0_tray_3 : List UInt8 := [182, 0, 147, 172]
abbrev dktX0_tray_3 : List UInt8 := dkwX0_tray_3 ++ []
def dkwX0_tray_2 : List UInt8 := [184, 0, 142, 181, 0, 139, 4, 172, 58, 4, 42, 4, 181, 0, 110, 3, 172, 58, 4, 42, 25, 4]
abbrev dktX0_tray_2 : List UInt8 := dkwX0_tray_2 ++ dktX0_tray_3
def dkwX0_tray_1 : List UInt8 := [29, 16, 60, 163, 0, 7, 4, 167, 0, 4, 3, 4, 182, 0, 135, 42, 180, 0, 20, 27, 50, 28, 29]
abbrev dktX0_tray_1 : List UInt8 := dkwX0_tray_1 ++ dktX0_tray_2
def dkwX0_tray_0 : List UInt8 := [42, 3, 181, 0, 110, 42, 27, 155, 0, 27, 27, 7, 162, 0, 22, 28, 155, 0, 18, 28, 6, 163, 0, 13]
abbrev dktX0_tray_0 : List UInt8 := dkwX0_tray_0 ++ dktX0_tray_1
theorem dksX0_tray_0 : cX0_tray.data.toList.drop 0 = dktX0_tray_0 := by decide +kernel
theorem dksX0_tray_1 : cX0_tray.data.toList.drop 24 = dktX0_tray_1 := dk_seg dksX0_tray_0 24 rfl rfl
theorem dksX0_tray_2 : cX0_tray.data.toList.drop 47 = dktX0_tray_2 := dk_seg dksX0_tray_1 23 rfl rfl
theorem dksX0_tray_3 : cX0_tray.data.toList.drop 69 = dktX0_tray_3 := dk_seg dksX0_tray_2 22 rfl rfl
theorem dX0_tray_0 : decode cX0_tray 0 = .ok (.aload_n 0, 1) := dk_42 (dk_at dksX0_tray_0 0 rfl rfl)
theorem dX0_tray_1 : decode cX0_tray 1 = .ok (.iconst 0, 1) := dk_3 (dk_at dksX0_tray_0 1 rfl rfl)
theorem dX0_tray_2 : decode cX0_tray 2 = .ok (.putfield 110, 3) := dk_181 0 110 (dk_at dksX0_tray_0 2 rfl rfl)
theorem dX0_tray_5 : decode cX0_tray 5 = .ok (.aload_n 0, 1) := dk_42 (dk_at dksX0_tray_0 5 rfl rfl)
theorem dX0_tray_6 : decode cX0_tray 6 = .ok (.iload_n 1, 1) := dk_27 (dk_at dksX0_tray_0 6 rfl rfl)
theorem dX0_tray_7 : decode cX0_tray 7 = .ok (.ifCond .lt 27, 3) := dk_155 0 27 (dk_at dksX0_tray_0 7 rfl rfl)
theorem dX0_tray_10 : decode cX0_tray 10 = .ok (.iload_n 1, 1) := dk_27 (dk_at dksX0_tray_0 10 rfl rfl)
theorem dX0_tray_11 : decode cX0_tray 11 = .ok (.iconst 4, 1) := dk_7 (dk_at dksX0_tray_0 11 rfl rfl)
theorem dX0_tray_12 : decode cX0_tray 12 = .ok (.if_icmp .ge 22, 3) := dk_162 0 22 (dk_at dksX0_tray_0 12 rfl rfl)
theorem dX0_tray_15 : decode cX0_tray 15 = .ok (.iload_n 2, 1) := dk_28 (dk_at dksX0_tray_0 15 rfl rfl)
theorem dX0_tray_16 : decode cX0_tray 16 = .ok (.ifCond .lt 18, 3) := dk_155 0 18 (dk_at dksX0_tray_0 16 rfl rfl)
theorem dX0_tray_19 : decode cX0_tray 19 = .ok (.iload_n 2, 1) := dk_28 (dk_at dksX0_tray_0 19 rfl rfl)
theorem dX0_tray_20 : decode cX0_tray 20 = .ok (.iconst 3, 1) := dk_6 (dk_at dksX0_tray_0 20 rfl rfl)
theorem dX0_tray_21 : decode cX0_tray 21 = .ok (.if_icmp .gt 13, 3) := dk_163 0 13 (dk_at dksX0_tray_0 21 rfl rfl)
theorem dX0_tray_24 : decode cX0_tray 24 = .ok (.iload_n 3, 1) := dk_29 (dk_at dksX0_tray_1 0 rfl rfl)
theorem dX0_tray_25 : decode cX0_tray 25 = .ok (.bipush 60, 2) := dk_16 60 (dk_at dksX0_tray_1 1 rfl rfl)
theorem dX0_tray_27 : decode cX0_tray 27 = .ok (.if_icmp .gt 7, 3) := dk_163 0 7 (dk_at dksX0_tray_1 3 rfl rfl)
theorem dX0_tray_30 : decode cX0_tray 30 = .ok (.iconst 1, 1) := dk_4 (dk_at dksX0_tray_1 6 rfl rfl)
theorem dX0_tray_31 : decode cX0_tray 31 = .ok (.goto 4, 3) := dk_167 0 4 (dk_at dksX0_tray_1 7 rfl rfl)
theorem dX0_tray_34 : decode cX0_tray 34 = .ok (.iconst 0, 1) := dk_3 (dk_at dksX0_tray_1 10 rfl rfl)
theorem dX0_tray_35 : decode cX0_tray 35 = .ok (.iconst 1, 1) := dk_4 (dk_at dksX0_tray_1 11 rfl rfl)
theorem dX0_tray_36 : decode cX0_tray 36 = .ok (.invokevirtual 135, 3) := dk_182 0 135 (dk_at dksX0_tray_1 12 rfl rfl)
theorem dX0_tray_39 : decode cX0_tray 39 = .ok (.aload_n 0, 1) := dk_42 (dk_at dksX0_tray_1 15 rfl rfl)
theorem dX0_tray_40 : decode cX0_tray 40 = .ok (.getfield 20, 3) := dk_180 0 20 (dk_at dksX0_tray_1 16 rfl rfl)
theorem dX0_tray_43 : decode cX0_tray 43 = .ok (.iload_n 1, 1) := dk_27 (dk_at dksX0_tray_1 19 rfl rfl)
theorem dX0_tray_44 : decode cX0_tray 44 = .ok (.aaload, 1) := dk_50 (dk_at dksX0_tray_1 20 rfl rfl)
theorem dX0_tray_45 : decode cX0_tray 45 = .ok (.iload_n 2, 1) := dk_28 (dk_at dksX0_tray_1 21 rfl rfl)
theorem dX0_tray_46 : decode cX0_tray 46 = .ok (.iload_n 3, 1) := dk_29 (dk_at dksX0_tray_1 22 rfl rfl)
theorem dX0_tray_47 : decode cX0_tray 47 = .ok (.invokestatic 142, 3) := dk_184 0 142 (dk_at dksX0_tray_2 0 rfl rfl)
theorem dX0_tray_50 : decode cX0_tray 50 = .ok (.putfield 139, 3) := dk_181 0 139 (dk_at dksX0_tray_2 3 rfl rfl)
theorem dX0_tray_53 : decode cX0_tray 53 = .ok (.iconst 1, 1) := dk_4 (dk_at dksX0_tray_2 6 rfl rfl)
theorem dX0_tray_54 : decode cX0_tray 54 = .ok (.ireturn, 1) := dk_172 (dk_at dksX0_tray_2 7 rfl rfl)
theorem dX0_tray_55 : decode cX0_tray 55 = .ok (.astore 4, 2) := dk_58 4 (dk_at dksX0_tray_2 8 rfl rfl)
theorem dX0_tray_57 : decode cX0_tray 57 = .ok (.aload_n 0, 1) := dk_42 (dk_at dksX0_tray_2 10 rfl rfl)
theorem dX0_tray_58 : decode cX0_tray 58 = .ok (.iconst 1, 1) := dk_4 (dk_at dksX0_tray_2 11 rfl rfl)
theorem dX0_tray_59 : decode cX0_tray 59 = .ok (.putfield 110, 3) := dk_181 0 110 (dk_at dksX0_tray_2 12 rfl rfl)
theorem dX0_tray_62 : decode cX0_tray 62 = .ok (.iconst 0, 1) := dk_3 (dk_at dksX0_tray_2 15 rfl rfl)
theorem dX0_tray_63 : decode cX0_tray 63 = .ok (.ireturn, 1) := dk_172 (dk_at dksX0_tray_2 16 rfl rfl)
theorem dX0_tray_64 : decode cX0_tray 64 = .ok (.astore 4, 2) := dk_58 4 (dk_at dksX0_tray_2 17 rfl rfl)
theorem dX0_tray_66 : decode cX0_tray 66 = .ok (.aload_n 0, 1) := dk_42 (dk_at dksX0_tray_2 19 rfl rfl)
theorem dX0_tray_67 : decode cX0_tray 67 = .ok (.aload 4, 2) := dk_25 4 (dk_at dksX0_tray_2 20 rfl rfl)
theorem dX0_tray_69 : decode cX0_tray 69 = .ok (.invokevirtual 147, 3) := dk_182 0 147 (dk_at dksX0_tray_3 0 rfl rfl)
theorem dX0_tray_72 : decode cX0_tray 72 = .ok (.ireturn, 1) := dk_172 (dk_at dksX0_tray_3 3 rfl rfl)
abbrev cX0_want : ByteArray := prog_1_method_10_code
def yX0_want : MethodName := ⟨RX0, "want", "(ZI)V"⟩
def dkwX0_want_0 : List UInt8 := [27, 154, 0, 12, 42, 180, 0, 44, 28, 182, 0, 116, 191, 177]
abbrev dktX0_want_0 : List UInt8 := dkwX0_want_0 ++ []
theorem dksX0_want_0 : cX0_want.data.toList.drop 0 = dktX0_want_0 := by decide +kernel
theorem dX0_want_0 : decode cX0_want 0 = .ok (.iload_n 1, 1) := dk_27 (dk_at dksX0_want_0 0 rfl rfl)
theorem dX0_want_1 : decode cX0_want 1 = .ok (.ifCond .ne 12, 3) := dk_154 0 12 (dk_at dksX0_want_0 1 rfl rfl)
theorem dX0_want_4 : decode cX0_want 4 = .ok (.aload_n 0, 1) := dk_42 (dk_at dksX0_want_0 4 rfl rfl)
theorem dX0_want_5 : decode cX0_want 5 = .ok (.getfield 44, 3) := dk_180 0 44 (dk_at dksX0_want_0 5 rfl rfl)
theorem dX0_want_8 : decode cX0_want 8 = .ok (.iload_n 2, 1) := dk_28 (dk_at dksX0_want_0 8 rfl rfl)
theorem dX0_want_9 : decode cX0_want 9 = .ok (.invokevirtual 116, 3) := dk_182 0 116 (dk_at dksX0_want_0 9 rfl rfl)
theorem dX0_want_12 : decode cX0_want 12 = .ok (.athrow, 1) := dk_191 (dk_at dksX0_want_0 12 rfl rfl)
theorem dX0_want_13 : decode cX0_want 13 = .ok (.return_, 1) := dk_177 (dk_at dksX0_want_0 13 rfl rfl)
abbrev cX0_row : ByteArray := prog_1_method_1_code
def yX0_row : MethodName := ⟨RX0, "row", "(II)Ljava/lang/Object;"⟩
def dkwX0_row_1 : List UInt8 := [160, 0, 9, 27, 188, 10, 167, 0, 6, 27, 188, 11, 176]
abbrev dktX0_row_1 : List UInt8 := dkwX0_row_1 ++ []
def dkwX0_row_0 : List UInt8 := [26, 154, 0, 9, 27, 188, 8, 167, 0, 28, 26, 4, 160, 0, 9, 27, 188, 9, 167, 0, 17, 26, 5]
abbrev dktX0_row_0 : List UInt8 := dkwX0_row_0 ++ dktX0_row_1
theorem dksX0_row_0 : cX0_row.data.toList.drop 0 = dktX0_row_0 := by decide +kernel
theorem dksX0_row_1 : cX0_row.data.toList.drop 23 = dktX0_row_1 := dk_seg dksX0_row_0 23 rfl rfl
theorem dX0_row_0 : decode cX0_row 0 = .ok (.iload_n 0, 1) := dk_26 (dk_at dksX0_row_0 0 rfl rfl)
theorem dX0_row_1 : decode cX0_row 1 = .ok (.ifCond .ne 9, 3) := dk_154 0 9 (dk_at dksX0_row_0 1 rfl rfl)
theorem dX0_row_4 : decode cX0_row 4 = .ok (.iload_n 1, 1) := dk_27 (dk_at dksX0_row_0 4 rfl rfl)
theorem dX0_row_5 : decode cX0_row 5 = .ok (.newarray .byte, 2) := dk_188_8 (dk_at dksX0_row_0 5 rfl rfl)
theorem dX0_row_7 : decode cX0_row 7 = .ok (.goto 28, 3) := dk_167 0 28 (dk_at dksX0_row_0 7 rfl rfl)
theorem dX0_row_10 : decode cX0_row 10 = .ok (.iload_n 0, 1) := dk_26 (dk_at dksX0_row_0 10 rfl rfl)
theorem dX0_row_11 : decode cX0_row 11 = .ok (.iconst 1, 1) := dk_4 (dk_at dksX0_row_0 11 rfl rfl)
theorem dX0_row_12 : decode cX0_row 12 = .ok (.if_icmp .ne 9, 3) := dk_160 0 9 (dk_at dksX0_row_0 12 rfl rfl)
theorem dX0_row_15 : decode cX0_row 15 = .ok (.iload_n 1, 1) := dk_27 (dk_at dksX0_row_0 15 rfl rfl)
theorem dX0_row_16 : decode cX0_row 16 = .ok (.newarray .short, 2) := dk_188_9 (dk_at dksX0_row_0 16 rfl rfl)
theorem dX0_row_18 : decode cX0_row 18 = .ok (.goto 17, 3) := dk_167 0 17 (dk_at dksX0_row_0 18 rfl rfl)
theorem dX0_row_21 : decode cX0_row 21 = .ok (.iload_n 0, 1) := dk_26 (dk_at dksX0_row_0 21 rfl rfl)
theorem dX0_row_22 : decode cX0_row 22 = .ok (.iconst 2, 1) := dk_5 (dk_at dksX0_row_0 22 rfl rfl)
theorem dX0_row_23 : decode cX0_row 23 = .ok (.if_icmp .ne 9, 3) := dk_160 0 9 (dk_at dksX0_row_1 0 rfl rfl)
theorem dX0_row_26 : decode cX0_row 26 = .ok (.iload_n 1, 1) := dk_27 (dk_at dksX0_row_1 3 rfl rfl)
theorem dX0_row_27 : decode cX0_row 27 = .ok (.newarray .int, 2) := dk_188_10 (dk_at dksX0_row_1 4 rfl rfl)
theorem dX0_row_29 : decode cX0_row 29 = .ok (.goto 6, 3) := dk_167 0 6 (dk_at dksX0_row_1 6 rfl rfl)
theorem dX0_row_32 : decode cX0_row 32 = .ok (.iload_n 1, 1) := dk_27 (dk_at dksX0_row_1 9 rfl rfl)
theorem dX0_row_33 : decode cX0_row 33 = .ok (.newarray .long, 2) := dk_188_11 (dk_at dksX0_row_1 10 rfl rfl)
theorem dX0_row_35 : decode cX0_row 35 = .ok (.areturn, 1) := dk_176 (dk_at dksX0_row_1 12 rfl rfl)
abbrev cX0_no : ByteArray := prog_1_method_12_code
def yX0_no : MethodName := ⟨RX0, "no", "(LSillBridges$Refused;)Z"⟩
def dkwX0_no_0 : List UInt8 := [42, 43, 180, 0, 120, 181, 0, 110, 3, 172]
abbrev dktX0_no_0 : List UInt8 := dkwX0_no_0 ++ []
theorem dksX0_no_0 : cX0_no.data.toList.drop 0 = dktX0_no_0 := by decide +kernel
theorem dX0_no_0 : decode cX0_no 0 = .ok (.aload_n 0, 1) := dk_42 (dk_at dksX0_no_0 0 rfl rfl)
theorem dX0_no_1 : decode cX0_no 1 = .ok (.aload_n 1, 1) := dk_43 (dk_at dksX0_no_0 1 rfl rfl)
theorem dX0_no_2 : decode cX0_no 2 = .ok (.getfield 120, 3) := dk_180 0 120 (dk_at dksX0_no_0 2 rfl rfl)
theorem dX0_no_5 : decode cX0_no 5 = .ok (.putfield 110, 3) := dk_181 0 110 (dk_at dksX0_no_0 5 rfl rfl)
theorem dX0_no_8 : decode cX0_no 8 = .ok (.iconst 0, 1) := dk_3 (dk_at dksX0_no_0 8 rfl rfl)
theorem dX0_no_9 : decode cX0_no 9 = .ok (.ireturn, 1) := dk_172 (dk_at dksX0_no_0 9 rfl rfl)
abbrev cX0_write : ByteArray := prog_1_method_16_code
def yX0_write : MethodName := ⟨RX0, "write", "(IIJ)Z"⟩
def dkwX0_write_1 : List UInt8 := [3, 172, 58, 5, 42, 25, 5, 182, 0, 147, 172]
abbrev dktX0_write_1 : List UInt8 := dkwX0_write_1 ++ []
def dkwX0_write_0 : List UInt8 := [42, 3, 181, 0, 110, 42, 27, 182, 0, 151, 28, 33, 184, 0, 155, 4, 172, 58, 5, 42, 6, 181, 0, 110]
abbrev dktX0_write_0 : List UInt8 := dkwX0_write_0 ++ dktX0_write_1
theorem dksX0_write_0 : cX0_write.data.toList.drop 0 = dktX0_write_0 := by decide +kernel
theorem dksX0_write_1 : cX0_write.data.toList.drop 24 = dktX0_write_1 := dk_seg dksX0_write_0 24 rfl rfl
theorem dX0_write_0 : decode cX0_write 0 = .ok (.aload_n 0, 1) := dk_42 (dk_at dksX0_write_0 0 rfl rfl)
theorem dX0_write_1 : decode cX0_write 1 = .ok (.iconst 0, 1) := dk_3 (dk_at dksX0_write_0 1 rfl rfl)
theorem dX0_write_2 : decode cX0_write 2 = .ok (.putfield 110, 3) := dk_181 0 110 (dk_at dksX0_write_0 2 rfl rfl)
theorem dX0_write_5 : decode cX0_write 5 = .ok (.aload_n 0, 1) := dk_42 (dk_at dksX0_write_0 5 rfl rfl)
theorem dX0_write_6 : decode cX0_write 6 = .ok (.iload_n 1, 1) := dk_27 (dk_at dksX0_write_0 6 rfl rfl)
theorem dX0_write_7 : decode cX0_write 7 = .ok (.invokevirtual 151, 3) := dk_182 0 151 (dk_at dksX0_write_0 7 rfl rfl)
theorem dX0_write_10 : decode cX0_write 10 = .ok (.iload_n 2, 1) := dk_28 (dk_at dksX0_write_0 10 rfl rfl)
theorem dX0_write_11 : decode cX0_write 11 = .ok (.lload_n 3, 1) := dk_33 (dk_at dksX0_write_0 11 rfl rfl)
theorem dX0_write_12 : decode cX0_write 12 = .ok (.invokestatic 155, 3) := dk_184 0 155 (dk_at dksX0_write_0 12 rfl rfl)
theorem dX0_write_15 : decode cX0_write 15 = .ok (.iconst 1, 1) := dk_4 (dk_at dksX0_write_0 15 rfl rfl)
theorem dX0_write_16 : decode cX0_write 16 = .ok (.ireturn, 1) := dk_172 (dk_at dksX0_write_0 16 rfl rfl)
theorem dX0_write_17 : decode cX0_write 17 = .ok (.astore 5, 2) := dk_58 5 (dk_at dksX0_write_0 17 rfl rfl)
theorem dX0_write_19 : decode cX0_write 19 = .ok (.aload_n 0, 1) := dk_42 (dk_at dksX0_write_0 19 rfl rfl)
theorem dX0_write_20 : decode cX0_write 20 = .ok (.iconst 3, 1) := dk_6 (dk_at dksX0_write_0 20 rfl rfl)
theorem dX0_write_21 : decode cX0_write 21 = .ok (.putfield 110, 3) := dk_181 0 110 (dk_at dksX0_write_0 21 rfl rfl)
theorem dX0_write_24 : decode cX0_write 24 = .ok (.iconst 0, 1) := dk_3 (dk_at dksX0_write_1 0 rfl rfl)
theorem dX0_write_25 : decode cX0_write 25 = .ok (.ireturn, 1) := dk_172 (dk_at dksX0_write_1 1 rfl rfl)
theorem dX0_write_26 : decode cX0_write 26 = .ok (.astore 5, 2) := dk_58 5 (dk_at dksX0_write_1 2 rfl rfl)
theorem dX0_write_28 : decode cX0_write 28 = .ok (.aload_n 0, 1) := dk_42 (dk_at dksX0_write_1 4 rfl rfl)
theorem dX0_write_29 : decode cX0_write 29 = .ok (.aload 5, 2) := dk_25 5 (dk_at dksX0_write_1 5 rfl rfl)
theorem dX0_write_31 : decode cX0_write 31 = .ok (.invokevirtual 147, 3) := dk_182 0 147 (dk_at dksX0_write_1 7 rfl rfl)
theorem dX0_write_34 : decode cX0_write 34 = .ok (.ireturn, 1) := dk_172 (dk_at dksX0_write_1 10 rfl rfl)
abbrev cX0_on : ByteArray := prog_1_method_14_code
def yX0_on : MethodName := ⟨RX0, "on", "(I)Ljava/lang/Object;"⟩
def dkwX0_on_2 : List UInt8 := [180, 0, 139, 176]
abbrev dktX0_on_2 : List UInt8 := dkwX0_on_2 ++ []
def dkwX0_on_1 : List UInt8 := [27, 50, 180, 0, 139, 198, 0, 7, 4, 167, 0, 4, 3, 5, 182, 0, 135, 42, 180, 0, 20, 27, 50]
abbrev dktX0_on_1 : List UInt8 := dkwX0_on_1 ++ dktX0_on_2
def dkwX0_on_0 : List UInt8 := [42, 27, 155, 0, 12, 27, 7, 162, 0, 7, 4, 167, 0, 4, 3, 4, 182, 0, 135, 42, 42, 180, 0, 20]
abbrev dktX0_on_0 : List UInt8 := dkwX0_on_0 ++ dktX0_on_1
theorem dksX0_on_0 : cX0_on.data.toList.drop 0 = dktX0_on_0 := by decide +kernel
theorem dksX0_on_1 : cX0_on.data.toList.drop 24 = dktX0_on_1 := dk_seg dksX0_on_0 24 rfl rfl
theorem dksX0_on_2 : cX0_on.data.toList.drop 47 = dktX0_on_2 := dk_seg dksX0_on_1 23 rfl rfl
theorem dX0_on_0 : decode cX0_on 0 = .ok (.aload_n 0, 1) := dk_42 (dk_at dksX0_on_0 0 rfl rfl)
theorem dX0_on_1 : decode cX0_on 1 = .ok (.iload_n 1, 1) := dk_27 (dk_at dksX0_on_0 1 rfl rfl)
theorem dX0_on_2 : decode cX0_on 2 = .ok (.ifCond .lt 12, 3) := dk_155 0 12 (dk_at dksX0_on_0 2 rfl rfl)
theorem dX0_on_5 : decode cX0_on 5 = .ok (.iload_n 1, 1) := dk_27 (dk_at dksX0_on_0 5 rfl rfl)
theorem dX0_on_6 : decode cX0_on 6 = .ok (.iconst 4, 1) := dk_7 (dk_at dksX0_on_0 6 rfl rfl)
theorem dX0_on_7 : decode cX0_on 7 = .ok (.if_icmp .ge 7, 3) := dk_162 0 7 (dk_at dksX0_on_0 7 rfl rfl)
theorem dX0_on_10 : decode cX0_on 10 = .ok (.iconst 1, 1) := dk_4 (dk_at dksX0_on_0 10 rfl rfl)
theorem dX0_on_11 : decode cX0_on 11 = .ok (.goto 4, 3) := dk_167 0 4 (dk_at dksX0_on_0 11 rfl rfl)
theorem dX0_on_14 : decode cX0_on 14 = .ok (.iconst 0, 1) := dk_3 (dk_at dksX0_on_0 14 rfl rfl)
theorem dX0_on_15 : decode cX0_on 15 = .ok (.iconst 1, 1) := dk_4 (dk_at dksX0_on_0 15 rfl rfl)
theorem dX0_on_16 : decode cX0_on 16 = .ok (.invokevirtual 135, 3) := dk_182 0 135 (dk_at dksX0_on_0 16 rfl rfl)
theorem dX0_on_19 : decode cX0_on 19 = .ok (.aload_n 0, 1) := dk_42 (dk_at dksX0_on_0 19 rfl rfl)
theorem dX0_on_20 : decode cX0_on 20 = .ok (.aload_n 0, 1) := dk_42 (dk_at dksX0_on_0 20 rfl rfl)
theorem dX0_on_21 : decode cX0_on 21 = .ok (.getfield 20, 3) := dk_180 0 20 (dk_at dksX0_on_0 21 rfl rfl)
theorem dX0_on_24 : decode cX0_on 24 = .ok (.iload_n 1, 1) := dk_27 (dk_at dksX0_on_1 0 rfl rfl)
theorem dX0_on_25 : decode cX0_on 25 = .ok (.aaload, 1) := dk_50 (dk_at dksX0_on_1 1 rfl rfl)
theorem dX0_on_26 : decode cX0_on 26 = .ok (.getfield 139, 3) := dk_180 0 139 (dk_at dksX0_on_1 2 rfl rfl)
theorem dX0_on_29 : decode cX0_on 29 = .ok (.ifnull 7, 3) := dk_198 0 7 (dk_at dksX0_on_1 5 rfl rfl)
theorem dX0_on_32 : decode cX0_on 32 = .ok (.iconst 1, 1) := dk_4 (dk_at dksX0_on_1 8 rfl rfl)
theorem dX0_on_33 : decode cX0_on 33 = .ok (.goto 4, 3) := dk_167 0 4 (dk_at dksX0_on_1 9 rfl rfl)
theorem dX0_on_36 : decode cX0_on 36 = .ok (.iconst 0, 1) := dk_3 (dk_at dksX0_on_1 12 rfl rfl)
theorem dX0_on_37 : decode cX0_on 37 = .ok (.iconst 2, 1) := dk_5 (dk_at dksX0_on_1 13 rfl rfl)
theorem dX0_on_38 : decode cX0_on 38 = .ok (.invokevirtual 135, 3) := dk_182 0 135 (dk_at dksX0_on_1 14 rfl rfl)
theorem dX0_on_41 : decode cX0_on 41 = .ok (.aload_n 0, 1) := dk_42 (dk_at dksX0_on_1 17 rfl rfl)
theorem dX0_on_42 : decode cX0_on 42 = .ok (.getfield 20, 3) := dk_180 0 20 (dk_at dksX0_on_1 18 rfl rfl)
theorem dX0_on_45 : decode cX0_on 45 = .ok (.iload_n 1, 1) := dk_27 (dk_at dksX0_on_1 21 rfl rfl)
theorem dX0_on_46 : decode cX0_on 46 = .ok (.aaload, 1) := dk_50 (dk_at dksX0_on_1 22 rfl rfl)
theorem dX0_on_47 : decode cX0_on 47 = .ok (.getfield 139, 3) := dk_180 0 139 (dk_at dksX0_on_2 0 rfl rfl)
theorem dX0_on_50 : decode cX0_on 50 = .ok (.areturn, 1) := dk_176 (dk_at dksX0_on_2 3 rfl rfl)
abbrev cX0_put : ByteArray := prog_1_method_5_code
def yX0_put : MethodName := ⟨RX0, "put", "(Ljava/lang/Object;IJ)V"⟩
def dkwX0_put_3 : List UInt8 := [192, 0, 9, 27, 32, 80, 177]
abbrev dktX0_put_3 : List UInt8 := dkwX0_put_3 ++ []
def dkwX0_put_2 : List UInt8 := [193, 0, 7, 153, 0, 18, 42, 192, 0, 7, 58, 6, 25, 6, 27, 32, 136, 79, 167, 0, 10, 42]
abbrev dktX0_put_2 : List UInt8 := dkwX0_put_2 ++ dktX0_put_3
def dkwX0_put_1 : List UInt8 := [193, 0, 5, 153, 0, 19, 42, 192, 0, 5, 58, 5, 25, 5, 27, 32, 136, 147, 86, 167, 0, 32, 42]
abbrev dktX0_put_1 : List UInt8 := dkwX0_put_1 ++ dktX0_put_2
def dkwX0_put_0 : List UInt8 := [42, 193, 0, 3, 153, 0, 19, 42, 192, 0, 3, 58, 4, 25, 4, 27, 32, 136, 145, 84, 167, 0, 55, 42]
abbrev dktX0_put_0 : List UInt8 := dkwX0_put_0 ++ dktX0_put_1
theorem dksX0_put_0 : cX0_put.data.toList.drop 0 = dktX0_put_0 := by decide +kernel
theorem dksX0_put_1 : cX0_put.data.toList.drop 24 = dktX0_put_1 := dk_seg dksX0_put_0 24 rfl rfl
theorem dksX0_put_2 : cX0_put.data.toList.drop 47 = dktX0_put_2 := dk_seg dksX0_put_1 23 rfl rfl
theorem dksX0_put_3 : cX0_put.data.toList.drop 69 = dktX0_put_3 := dk_seg dksX0_put_2 22 rfl rfl
theorem dX0_put_0 : decode cX0_put 0 = .ok (.aload_n 0, 1) := dk_42 (dk_at dksX0_put_0 0 rfl rfl)
theorem dX0_put_1 : decode cX0_put 1 = .ok (.instanceof 3, 3) := dk_193 0 3 (dk_at dksX0_put_0 1 rfl rfl)
theorem dX0_put_4 : decode cX0_put 4 = .ok (.ifCond .eq 19, 3) := dk_153 0 19 (dk_at dksX0_put_0 4 rfl rfl)
theorem dX0_put_7 : decode cX0_put 7 = .ok (.aload_n 0, 1) := dk_42 (dk_at dksX0_put_0 7 rfl rfl)
theorem dX0_put_8 : decode cX0_put 8 = .ok (.checkcast 3, 3) := dk_192 0 3 (dk_at dksX0_put_0 8 rfl rfl)
theorem dX0_put_11 : decode cX0_put 11 = .ok (.astore 4, 2) := dk_58 4 (dk_at dksX0_put_0 11 rfl rfl)
theorem dX0_put_13 : decode cX0_put 13 = .ok (.aload 4, 2) := dk_25 4 (dk_at dksX0_put_0 13 rfl rfl)
theorem dX0_put_15 : decode cX0_put 15 = .ok (.iload_n 1, 1) := dk_27 (dk_at dksX0_put_0 15 rfl rfl)
theorem dX0_put_16 : decode cX0_put 16 = .ok (.lload_n 2, 1) := dk_32 (dk_at dksX0_put_0 16 rfl rfl)
theorem dX0_put_17 : decode cX0_put 17 = .ok (.l2i, 1) := dk_136 (dk_at dksX0_put_0 17 rfl rfl)
theorem dX0_put_18 : decode cX0_put 18 = .ok (.i2b, 1) := dk_145 (dk_at dksX0_put_0 18 rfl rfl)
theorem dX0_put_19 : decode cX0_put 19 = .ok (.bastore, 1) := dk_84 (dk_at dksX0_put_0 19 rfl rfl)
theorem dX0_put_20 : decode cX0_put 20 = .ok (.goto 55, 3) := dk_167 0 55 (dk_at dksX0_put_0 20 rfl rfl)
theorem dX0_put_23 : decode cX0_put 23 = .ok (.aload_n 0, 1) := dk_42 (dk_at dksX0_put_0 23 rfl rfl)
theorem dX0_put_24 : decode cX0_put 24 = .ok (.instanceof 5, 3) := dk_193 0 5 (dk_at dksX0_put_1 0 rfl rfl)
theorem dX0_put_27 : decode cX0_put 27 = .ok (.ifCond .eq 19, 3) := dk_153 0 19 (dk_at dksX0_put_1 3 rfl rfl)
theorem dX0_put_30 : decode cX0_put 30 = .ok (.aload_n 0, 1) := dk_42 (dk_at dksX0_put_1 6 rfl rfl)
theorem dX0_put_31 : decode cX0_put 31 = .ok (.checkcast 5, 3) := dk_192 0 5 (dk_at dksX0_put_1 7 rfl rfl)
theorem dX0_put_34 : decode cX0_put 34 = .ok (.astore 5, 2) := dk_58 5 (dk_at dksX0_put_1 10 rfl rfl)
theorem dX0_put_36 : decode cX0_put 36 = .ok (.aload 5, 2) := dk_25 5 (dk_at dksX0_put_1 12 rfl rfl)
theorem dX0_put_38 : decode cX0_put 38 = .ok (.iload_n 1, 1) := dk_27 (dk_at dksX0_put_1 14 rfl rfl)
theorem dX0_put_39 : decode cX0_put 39 = .ok (.lload_n 2, 1) := dk_32 (dk_at dksX0_put_1 15 rfl rfl)
theorem dX0_put_40 : decode cX0_put 40 = .ok (.l2i, 1) := dk_136 (dk_at dksX0_put_1 16 rfl rfl)
theorem dX0_put_41 : decode cX0_put 41 = .ok (.i2s, 1) := dk_147 (dk_at dksX0_put_1 17 rfl rfl)
theorem dX0_put_42 : decode cX0_put 42 = .ok (.sastore, 1) := dk_86 (dk_at dksX0_put_1 18 rfl rfl)
theorem dX0_put_43 : decode cX0_put 43 = .ok (.goto 32, 3) := dk_167 0 32 (dk_at dksX0_put_1 19 rfl rfl)
theorem dX0_put_46 : decode cX0_put 46 = .ok (.aload_n 0, 1) := dk_42 (dk_at dksX0_put_1 22 rfl rfl)
theorem dX0_put_47 : decode cX0_put 47 = .ok (.instanceof 7, 3) := dk_193 0 7 (dk_at dksX0_put_2 0 rfl rfl)
theorem dX0_put_50 : decode cX0_put 50 = .ok (.ifCond .eq 18, 3) := dk_153 0 18 (dk_at dksX0_put_2 3 rfl rfl)
theorem dX0_put_53 : decode cX0_put 53 = .ok (.aload_n 0, 1) := dk_42 (dk_at dksX0_put_2 6 rfl rfl)
theorem dX0_put_54 : decode cX0_put 54 = .ok (.checkcast 7, 3) := dk_192 0 7 (dk_at dksX0_put_2 7 rfl rfl)
theorem dX0_put_57 : decode cX0_put 57 = .ok (.astore 6, 2) := dk_58 6 (dk_at dksX0_put_2 10 rfl rfl)
theorem dX0_put_59 : decode cX0_put 59 = .ok (.aload 6, 2) := dk_25 6 (dk_at dksX0_put_2 12 rfl rfl)
theorem dX0_put_61 : decode cX0_put 61 = .ok (.iload_n 1, 1) := dk_27 (dk_at dksX0_put_2 14 rfl rfl)
theorem dX0_put_62 : decode cX0_put 62 = .ok (.lload_n 2, 1) := dk_32 (dk_at dksX0_put_2 15 rfl rfl)
theorem dX0_put_63 : decode cX0_put 63 = .ok (.l2i, 1) := dk_136 (dk_at dksX0_put_2 16 rfl rfl)
theorem dX0_put_64 : decode cX0_put 64 = .ok (.iastore, 1) := dk_79 (dk_at dksX0_put_2 17 rfl rfl)
theorem dX0_put_65 : decode cX0_put 65 = .ok (.goto 10, 3) := dk_167 0 10 (dk_at dksX0_put_2 18 rfl rfl)
theorem dX0_put_68 : decode cX0_put 68 = .ok (.aload_n 0, 1) := dk_42 (dk_at dksX0_put_2 21 rfl rfl)
theorem dX0_put_69 : decode cX0_put 69 = .ok (.checkcast 9, 3) := dk_192 0 9 (dk_at dksX0_put_3 0 rfl rfl)
theorem dX0_put_72 : decode cX0_put 72 = .ok (.iload_n 1, 1) := dk_27 (dk_at dksX0_put_3 3 rfl rfl)
theorem dX0_put_73 : decode cX0_put 73 = .ok (.lload_n 2, 1) := dk_32 (dk_at dksX0_put_3 4 rfl rfl)
theorem dX0_put_74 : decode cX0_put 74 = .ok (.lastore, 1) := dk_80 (dk_at dksX0_put_3 5 rfl rfl)
theorem dX0_put_75 : decode cX0_put 75 = .ok (.return_, 1) := dk_177 (dk_at dksX0_put_3 6 rfl rfl)
abbrev cX0_read : ByteArray := prog_1_method_17_code
def yX0_read : MethodName := ⟨RX0, "read", "(II)J"⟩
def dkwX0_read_1 : List UInt8 := [173, 78, 42, 45, 182, 0, 167, 133, 173]
abbrev dktX0_read_1 : List UInt8 := dkwX0_read_1 ++ []
def dkwX0_read_0 : List UInt8 := [42, 3, 181, 0, 110, 42, 27, 182, 0, 151, 28, 184, 0, 161, 173, 78, 42, 6, 181, 0, 110, 20, 0, 165]
abbrev dktX0_read_0 : List UInt8 := dkwX0_read_0 ++ dktX0_read_1
theorem dksX0_read_0 : cX0_read.data.toList.drop 0 = dktX0_read_0 := by decide +kernel
theorem dksX0_read_1 : cX0_read.data.toList.drop 24 = dktX0_read_1 := dk_seg dksX0_read_0 24 rfl rfl
theorem dX0_read_0 : decode cX0_read 0 = .ok (.aload_n 0, 1) := dk_42 (dk_at dksX0_read_0 0 rfl rfl)
theorem dX0_read_1 : decode cX0_read 1 = .ok (.iconst 0, 1) := dk_3 (dk_at dksX0_read_0 1 rfl rfl)
theorem dX0_read_2 : decode cX0_read 2 = .ok (.putfield 110, 3) := dk_181 0 110 (dk_at dksX0_read_0 2 rfl rfl)
theorem dX0_read_5 : decode cX0_read 5 = .ok (.aload_n 0, 1) := dk_42 (dk_at dksX0_read_0 5 rfl rfl)
theorem dX0_read_6 : decode cX0_read 6 = .ok (.iload_n 1, 1) := dk_27 (dk_at dksX0_read_0 6 rfl rfl)
theorem dX0_read_7 : decode cX0_read 7 = .ok (.invokevirtual 151, 3) := dk_182 0 151 (dk_at dksX0_read_0 7 rfl rfl)
theorem dX0_read_10 : decode cX0_read 10 = .ok (.iload_n 2, 1) := dk_28 (dk_at dksX0_read_0 10 rfl rfl)
theorem dX0_read_11 : decode cX0_read 11 = .ok (.invokestatic 161, 3) := dk_184 0 161 (dk_at dksX0_read_0 11 rfl rfl)
theorem dX0_read_14 : decode cX0_read 14 = .ok (.lreturn, 1) := dk_173 (dk_at dksX0_read_0 14 rfl rfl)
theorem dX0_read_15 : decode cX0_read 15 = .ok (.astore_n 3, 1) := dk_78 (dk_at dksX0_read_0 15 rfl rfl)
theorem dX0_read_16 : decode cX0_read 16 = .ok (.aload_n 0, 1) := dk_42 (dk_at dksX0_read_0 16 rfl rfl)
theorem dX0_read_17 : decode cX0_read 17 = .ok (.iconst 3, 1) := dk_6 (dk_at dksX0_read_0 17 rfl rfl)
theorem dX0_read_18 : decode cX0_read 18 = .ok (.putfield 110, 3) := dk_181 0 110 (dk_at dksX0_read_0 18 rfl rfl)
theorem dX0_read_21 : decode cX0_read 21 = .ok (.ldc2_w 165, 3) := dk_20 0 165 (dk_at dksX0_read_0 21 rfl rfl)
theorem dX0_read_24 : decode cX0_read 24 = .ok (.lreturn, 1) := dk_173 (dk_at dksX0_read_1 0 rfl rfl)
theorem dX0_read_25 : decode cX0_read 25 = .ok (.astore_n 3, 1) := dk_78 (dk_at dksX0_read_1 1 rfl rfl)
theorem dX0_read_26 : decode cX0_read 26 = .ok (.aload_n 0, 1) := dk_42 (dk_at dksX0_read_1 2 rfl rfl)
theorem dX0_read_27 : decode cX0_read 27 = .ok (.aload_n 3, 1) := dk_45 (dk_at dksX0_read_1 3 rfl rfl)
theorem dX0_read_28 : decode cX0_read 28 = .ok (.invokevirtual 167, 3) := dk_182 0 167 (dk_at dksX0_read_1 4 rfl rfl)
theorem dX0_read_31 : decode cX0_read 31 = .ok (.i2l, 1) := dk_133 (dk_at dksX0_read_1 7 rfl rfl)
theorem dX0_read_32 : decode cX0_read 32 = .ok (.lreturn, 1) := dk_173 (dk_at dksX0_read_1 8 rfl rfl)
abbrev cX0_number : ByteArray := prog_1_method_4_code
def yX0_number : MethodName := ⟨RX0, "number", "(Ljava/lang/Object;I)J"⟩
def dkwX0_number_2 : List UInt8 := [46, 133, 167, 0, 9, 42, 192, 0, 9, 27, 47, 173]
abbrev dktX0_number_2 : List UInt8 := dkwX0_number_2 ++ []
def dkwX0_number_1 : List UInt8 := [42, 192, 0, 5, 77, 44, 27, 53, 133, 173, 42, 193, 0, 7, 153, 0, 15, 42, 192, 0, 7, 77, 44, 27]
abbrev dktX0_number_1 : List UInt8 := dkwX0_number_1 ++ dktX0_number_2
def dkwX0_number_0 : List UInt8 := [42, 193, 0, 3, 153, 0, 13, 42, 192, 0, 3, 77, 44, 27, 51, 133, 173, 42, 193, 0, 5, 153, 0, 13]
abbrev dktX0_number_0 : List UInt8 := dkwX0_number_0 ++ dktX0_number_1
theorem dksX0_number_0 : cX0_number.data.toList.drop 0 = dktX0_number_0 := by decide +kernel
theorem dksX0_number_1 : cX0_number.data.toList.drop 24 = dktX0_number_1 := dk_seg dksX0_number_0 24 rfl rfl
theorem dksX0_number_2 : cX0_number.data.toList.drop 48 = dktX0_number_2 := dk_seg dksX0_number_1 24 rfl rfl
theorem dX0_number_0 : decode cX0_number 0 = .ok (.aload_n 0, 1) := dk_42 (dk_at dksX0_number_0 0 rfl rfl)
theorem dX0_number_1 : decode cX0_number 1 = .ok (.instanceof 3, 3) := dk_193 0 3 (dk_at dksX0_number_0 1 rfl rfl)
theorem dX0_number_4 : decode cX0_number 4 = .ok (.ifCond .eq 13, 3) := dk_153 0 13 (dk_at dksX0_number_0 4 rfl rfl)
theorem dX0_number_7 : decode cX0_number 7 = .ok (.aload_n 0, 1) := dk_42 (dk_at dksX0_number_0 7 rfl rfl)
theorem dX0_number_8 : decode cX0_number 8 = .ok (.checkcast 3, 3) := dk_192 0 3 (dk_at dksX0_number_0 8 rfl rfl)
theorem dX0_number_11 : decode cX0_number 11 = .ok (.astore_n 2, 1) := dk_77 (dk_at dksX0_number_0 11 rfl rfl)
theorem dX0_number_12 : decode cX0_number 12 = .ok (.aload_n 2, 1) := dk_44 (dk_at dksX0_number_0 12 rfl rfl)
theorem dX0_number_13 : decode cX0_number 13 = .ok (.iload_n 1, 1) := dk_27 (dk_at dksX0_number_0 13 rfl rfl)
theorem dX0_number_14 : decode cX0_number 14 = .ok (.baload, 1) := dk_51 (dk_at dksX0_number_0 14 rfl rfl)
theorem dX0_number_15 : decode cX0_number 15 = .ok (.i2l, 1) := dk_133 (dk_at dksX0_number_0 15 rfl rfl)
theorem dX0_number_16 : decode cX0_number 16 = .ok (.lreturn, 1) := dk_173 (dk_at dksX0_number_0 16 rfl rfl)
theorem dX0_number_17 : decode cX0_number 17 = .ok (.aload_n 0, 1) := dk_42 (dk_at dksX0_number_0 17 rfl rfl)
theorem dX0_number_18 : decode cX0_number 18 = .ok (.instanceof 5, 3) := dk_193 0 5 (dk_at dksX0_number_0 18 rfl rfl)
theorem dX0_number_21 : decode cX0_number 21 = .ok (.ifCond .eq 13, 3) := dk_153 0 13 (dk_at dksX0_number_0 21 rfl rfl)
theorem dX0_number_24 : decode cX0_number 24 = .ok (.aload_n 0, 1) := dk_42 (dk_at dksX0_number_1 0 rfl rfl)
theorem dX0_number_25 : decode cX0_number 25 = .ok (.checkcast 5, 3) := dk_192 0 5 (dk_at dksX0_number_1 1 rfl rfl)
theorem dX0_number_28 : decode cX0_number 28 = .ok (.astore_n 2, 1) := dk_77 (dk_at dksX0_number_1 4 rfl rfl)
theorem dX0_number_29 : decode cX0_number 29 = .ok (.aload_n 2, 1) := dk_44 (dk_at dksX0_number_1 5 rfl rfl)
theorem dX0_number_30 : decode cX0_number 30 = .ok (.iload_n 1, 1) := dk_27 (dk_at dksX0_number_1 6 rfl rfl)
theorem dX0_number_31 : decode cX0_number 31 = .ok (.saload, 1) := dk_53 (dk_at dksX0_number_1 7 rfl rfl)
theorem dX0_number_32 : decode cX0_number 32 = .ok (.i2l, 1) := dk_133 (dk_at dksX0_number_1 8 rfl rfl)
theorem dX0_number_33 : decode cX0_number 33 = .ok (.lreturn, 1) := dk_173 (dk_at dksX0_number_1 9 rfl rfl)
theorem dX0_number_34 : decode cX0_number 34 = .ok (.aload_n 0, 1) := dk_42 (dk_at dksX0_number_1 10 rfl rfl)
theorem dX0_number_35 : decode cX0_number 35 = .ok (.instanceof 7, 3) := dk_193 0 7 (dk_at dksX0_number_1 11 rfl rfl)
theorem dX0_number_38 : decode cX0_number 38 = .ok (.ifCond .eq 15, 3) := dk_153 0 15 (dk_at dksX0_number_1 14 rfl rfl)
theorem dX0_number_41 : decode cX0_number 41 = .ok (.aload_n 0, 1) := dk_42 (dk_at dksX0_number_1 17 rfl rfl)
theorem dX0_number_42 : decode cX0_number 42 = .ok (.checkcast 7, 3) := dk_192 0 7 (dk_at dksX0_number_1 18 rfl rfl)
theorem dX0_number_45 : decode cX0_number 45 = .ok (.astore_n 2, 1) := dk_77 (dk_at dksX0_number_1 21 rfl rfl)
theorem dX0_number_46 : decode cX0_number 46 = .ok (.aload_n 2, 1) := dk_44 (dk_at dksX0_number_1 22 rfl rfl)
theorem dX0_number_47 : decode cX0_number 47 = .ok (.iload_n 1, 1) := dk_27 (dk_at dksX0_number_1 23 rfl rfl)
theorem dX0_number_48 : decode cX0_number 48 = .ok (.iaload, 1) := dk_46 (dk_at dksX0_number_2 0 rfl rfl)
theorem dX0_number_49 : decode cX0_number 49 = .ok (.i2l, 1) := dk_133 (dk_at dksX0_number_2 1 rfl rfl)
theorem dX0_number_50 : decode cX0_number 50 = .ok (.goto 9, 3) := dk_167 0 9 (dk_at dksX0_number_2 2 rfl rfl)
theorem dX0_number_53 : decode cX0_number 53 = .ok (.aload_n 0, 1) := dk_42 (dk_at dksX0_number_2 5 rfl rfl)
theorem dX0_number_54 : decode cX0_number 54 = .ok (.checkcast 9, 3) := dk_192 0 9 (dk_at dksX0_number_2 6 rfl rfl)
theorem dX0_number_57 : decode cX0_number 57 = .ok (.iload_n 1, 1) := dk_27 (dk_at dksX0_number_2 9 rfl rfl)
theorem dX0_number_58 : decode cX0_number 58 = .ok (.laload, 1) := dk_47 (dk_at dksX0_number_2 10 rfl rfl)
theorem dX0_number_59 : decode cX0_number 59 = .ok (.lreturn, 1) := dk_173 (dk_at dksX0_number_2 11 rfl rfl)
abbrev cX0_none : ByteArray := prog_1_method_11_code
def yX0_none : MethodName := ⟨RX0, "none", "(LSillBridges$Refused;)I"⟩
def dkwX0_none_0 : List UInt8 := [42, 43, 180, 0, 120, 181, 0, 110, 2, 172]
abbrev dktX0_none_0 : List UInt8 := dkwX0_none_0 ++ []
theorem dksX0_none_0 : cX0_none.data.toList.drop 0 = dktX0_none_0 := by decide +kernel
theorem dX0_none_0 : decode cX0_none 0 = .ok (.aload_n 0, 1) := dk_42 (dk_at dksX0_none_0 0 rfl rfl)
theorem dX0_none_1 : decode cX0_none 1 = .ok (.aload_n 1, 1) := dk_43 (dk_at dksX0_none_0 1 rfl rfl)
theorem dX0_none_2 : decode cX0_none 2 = .ok (.getfield 120, 3) := dk_180 0 120 (dk_at dksX0_none_0 2 rfl rfl)
theorem dX0_none_5 : decode cX0_none 5 = .ok (.putfield 110, 3) := dk_181 0 110 (dk_at dksX0_none_0 5 rfl rfl)
theorem dX0_none_8 : decode cX0_none 8 = .ok (.iconst (-1), 1) := dk_2 (dk_at dksX0_none_0 8 rfl rfl)
theorem dX0_none_9 : decode cX0_none 9 = .ok (.ireturn, 1) := dk_172 (dk_at dksX0_none_0 9 rfl rfl)
abbrev cX0_pour : ByteArray := prog_1_method_18_code
def yX0_pour : MethodName := ⟨RX0, "pour", "(IIIII)Z"⟩
def dkwX0_pour_5 : List UInt8 := [182, 0, 147, 172]
abbrev dktX0_pour_5 : List UInt8 := dkwX0_pour_5 ++ []
def dkwX0_pour_4 : List UInt8 := [184, 0, 175, 167, 0, 14, 58, 8, 42, 180, 0, 44, 6, 182, 0, 116, 191, 4, 172, 58, 6, 42, 25, 6]
abbrev dktX0_pour_4 : List UInt8 := dkwX0_pour_4 ++ dktX0_pour_5
def dkwX0_pour_3 : List UInt8 := [160, 0, 7, 4, 167, 0, 4, 3, 16, 8, 182, 0, 135, 25, 6, 28, 25, 7, 21, 4, 21, 5]
abbrev dktX0_pour_3 : List UInt8 := dkwX0_pour_3 ++ dktX0_pour_4
def dkwX0_pour_2 : List UInt8 := [27, 182, 0, 151, 58, 6, 42, 29, 182, 0, 151, 58, 7, 42, 25, 6, 184, 0, 171, 25, 7, 184, 0, 171]
abbrev dktX0_pour_2 : List UInt8 := dkwX0_pour_2 ++ dktX0_pour_3
def dkwX0_pour_1 : List UInt8 := [28, 155, 0, 17, 21, 4, 155, 0, 12, 21, 5, 155, 0, 7, 4, 167, 0, 4, 3, 4, 182, 0, 135, 42]
abbrev dktX0_pour_1 : List UInt8 := dkwX0_pour_1 ++ dktX0_pour_2
def dkwX0_pour_0 : List UInt8 := [42, 3, 181, 0, 110, 42, 27, 155, 0, 35, 27, 7, 162, 0, 30, 29, 155, 0, 26, 29, 7, 162, 0, 21]
abbrev dktX0_pour_0 : List UInt8 := dkwX0_pour_0 ++ dktX0_pour_1
theorem dksX0_pour_0 : cX0_pour.data.toList.drop 0 = dktX0_pour_0 := by decide +kernel
theorem dksX0_pour_1 : cX0_pour.data.toList.drop 24 = dktX0_pour_1 := dk_seg dksX0_pour_0 24 rfl rfl
theorem dksX0_pour_2 : cX0_pour.data.toList.drop 48 = dktX0_pour_2 := dk_seg dksX0_pour_1 24 rfl rfl
theorem dksX0_pour_3 : cX0_pour.data.toList.drop 72 = dktX0_pour_3 := dk_seg dksX0_pour_2 24 rfl rfl
theorem dksX0_pour_4 : cX0_pour.data.toList.drop 94 = dktX0_pour_4 := dk_seg dksX0_pour_3 22 rfl rfl
theorem dksX0_pour_5 : cX0_pour.data.toList.drop 118 = dktX0_pour_5 := dk_seg dksX0_pour_4 24 rfl rfl
theorem dX0_pour_0 : decode cX0_pour 0 = .ok (.aload_n 0, 1) := dk_42 (dk_at dksX0_pour_0 0 rfl rfl)
theorem dX0_pour_1 : decode cX0_pour 1 = .ok (.iconst 0, 1) := dk_3 (dk_at dksX0_pour_0 1 rfl rfl)
theorem dX0_pour_2 : decode cX0_pour 2 = .ok (.putfield 110, 3) := dk_181 0 110 (dk_at dksX0_pour_0 2 rfl rfl)
theorem dX0_pour_5 : decode cX0_pour 5 = .ok (.aload_n 0, 1) := dk_42 (dk_at dksX0_pour_0 5 rfl rfl)
theorem dX0_pour_6 : decode cX0_pour 6 = .ok (.iload_n 1, 1) := dk_27 (dk_at dksX0_pour_0 6 rfl rfl)
theorem dX0_pour_7 : decode cX0_pour 7 = .ok (.ifCond .lt 35, 3) := dk_155 0 35 (dk_at dksX0_pour_0 7 rfl rfl)
theorem dX0_pour_10 : decode cX0_pour 10 = .ok (.iload_n 1, 1) := dk_27 (dk_at dksX0_pour_0 10 rfl rfl)
theorem dX0_pour_11 : decode cX0_pour 11 = .ok (.iconst 4, 1) := dk_7 (dk_at dksX0_pour_0 11 rfl rfl)
theorem dX0_pour_12 : decode cX0_pour 12 = .ok (.if_icmp .ge 30, 3) := dk_162 0 30 (dk_at dksX0_pour_0 12 rfl rfl)
theorem dX0_pour_15 : decode cX0_pour 15 = .ok (.iload_n 3, 1) := dk_29 (dk_at dksX0_pour_0 15 rfl rfl)
theorem dX0_pour_16 : decode cX0_pour 16 = .ok (.ifCond .lt 26, 3) := dk_155 0 26 (dk_at dksX0_pour_0 16 rfl rfl)
theorem dX0_pour_19 : decode cX0_pour 19 = .ok (.iload_n 3, 1) := dk_29 (dk_at dksX0_pour_0 19 rfl rfl)
theorem dX0_pour_20 : decode cX0_pour 20 = .ok (.iconst 4, 1) := dk_7 (dk_at dksX0_pour_0 20 rfl rfl)
theorem dX0_pour_21 : decode cX0_pour 21 = .ok (.if_icmp .ge 21, 3) := dk_162 0 21 (dk_at dksX0_pour_0 21 rfl rfl)
theorem dX0_pour_24 : decode cX0_pour 24 = .ok (.iload_n 2, 1) := dk_28 (dk_at dksX0_pour_1 0 rfl rfl)
theorem dX0_pour_25 : decode cX0_pour 25 = .ok (.ifCond .lt 17, 3) := dk_155 0 17 (dk_at dksX0_pour_1 1 rfl rfl)
theorem dX0_pour_28 : decode cX0_pour 28 = .ok (.iload 4, 2) := dk_21 4 (dk_at dksX0_pour_1 4 rfl rfl)
theorem dX0_pour_30 : decode cX0_pour 30 = .ok (.ifCond .lt 12, 3) := dk_155 0 12 (dk_at dksX0_pour_1 6 rfl rfl)
theorem dX0_pour_33 : decode cX0_pour 33 = .ok (.iload 5, 2) := dk_21 5 (dk_at dksX0_pour_1 9 rfl rfl)
theorem dX0_pour_35 : decode cX0_pour 35 = .ok (.ifCond .lt 7, 3) := dk_155 0 7 (dk_at dksX0_pour_1 11 rfl rfl)
theorem dX0_pour_38 : decode cX0_pour 38 = .ok (.iconst 1, 1) := dk_4 (dk_at dksX0_pour_1 14 rfl rfl)
theorem dX0_pour_39 : decode cX0_pour 39 = .ok (.goto 4, 3) := dk_167 0 4 (dk_at dksX0_pour_1 15 rfl rfl)
theorem dX0_pour_42 : decode cX0_pour 42 = .ok (.iconst 0, 1) := dk_3 (dk_at dksX0_pour_1 18 rfl rfl)
theorem dX0_pour_43 : decode cX0_pour 43 = .ok (.iconst 1, 1) := dk_4 (dk_at dksX0_pour_1 19 rfl rfl)
theorem dX0_pour_44 : decode cX0_pour 44 = .ok (.invokevirtual 135, 3) := dk_182 0 135 (dk_at dksX0_pour_1 20 rfl rfl)
theorem dX0_pour_47 : decode cX0_pour 47 = .ok (.aload_n 0, 1) := dk_42 (dk_at dksX0_pour_1 23 rfl rfl)
theorem dX0_pour_48 : decode cX0_pour 48 = .ok (.iload_n 1, 1) := dk_27 (dk_at dksX0_pour_2 0 rfl rfl)
theorem dX0_pour_49 : decode cX0_pour 49 = .ok (.invokevirtual 151, 3) := dk_182 0 151 (dk_at dksX0_pour_2 1 rfl rfl)
theorem dX0_pour_52 : decode cX0_pour 52 = .ok (.astore 6, 2) := dk_58 6 (dk_at dksX0_pour_2 4 rfl rfl)
theorem dX0_pour_54 : decode cX0_pour 54 = .ok (.aload_n 0, 1) := dk_42 (dk_at dksX0_pour_2 6 rfl rfl)
theorem dX0_pour_55 : decode cX0_pour 55 = .ok (.iload_n 3, 1) := dk_29 (dk_at dksX0_pour_2 7 rfl rfl)
theorem dX0_pour_56 : decode cX0_pour 56 = .ok (.invokevirtual 151, 3) := dk_182 0 151 (dk_at dksX0_pour_2 8 rfl rfl)
theorem dX0_pour_59 : decode cX0_pour 59 = .ok (.astore 7, 2) := dk_58 7 (dk_at dksX0_pour_2 11 rfl rfl)
theorem dX0_pour_61 : decode cX0_pour 61 = .ok (.aload_n 0, 1) := dk_42 (dk_at dksX0_pour_2 13 rfl rfl)
theorem dX0_pour_62 : decode cX0_pour 62 = .ok (.aload 6, 2) := dk_25 6 (dk_at dksX0_pour_2 14 rfl rfl)
theorem dX0_pour_64 : decode cX0_pour 64 = .ok (.invokestatic 171, 3) := dk_184 0 171 (dk_at dksX0_pour_2 16 rfl rfl)
theorem dX0_pour_67 : decode cX0_pour 67 = .ok (.aload 7, 2) := dk_25 7 (dk_at dksX0_pour_2 19 rfl rfl)
theorem dX0_pour_69 : decode cX0_pour 69 = .ok (.invokestatic 171, 3) := dk_184 0 171 (dk_at dksX0_pour_2 21 rfl rfl)
theorem dX0_pour_72 : decode cX0_pour 72 = .ok (.if_icmp .ne 7, 3) := dk_160 0 7 (dk_at dksX0_pour_3 0 rfl rfl)
theorem dX0_pour_75 : decode cX0_pour 75 = .ok (.iconst 1, 1) := dk_4 (dk_at dksX0_pour_3 3 rfl rfl)
theorem dX0_pour_76 : decode cX0_pour 76 = .ok (.goto 4, 3) := dk_167 0 4 (dk_at dksX0_pour_3 4 rfl rfl)
theorem dX0_pour_79 : decode cX0_pour 79 = .ok (.iconst 0, 1) := dk_3 (dk_at dksX0_pour_3 7 rfl rfl)
theorem dX0_pour_80 : decode cX0_pour 80 = .ok (.bipush 8, 2) := dk_16 8 (dk_at dksX0_pour_3 8 rfl rfl)
theorem dX0_pour_82 : decode cX0_pour 82 = .ok (.invokevirtual 135, 3) := dk_182 0 135 (dk_at dksX0_pour_3 10 rfl rfl)
theorem dX0_pour_85 : decode cX0_pour 85 = .ok (.aload 6, 2) := dk_25 6 (dk_at dksX0_pour_3 13 rfl rfl)
theorem dX0_pour_87 : decode cX0_pour 87 = .ok (.iload_n 2, 1) := dk_28 (dk_at dksX0_pour_3 15 rfl rfl)
theorem dX0_pour_88 : decode cX0_pour 88 = .ok (.aload 7, 2) := dk_25 7 (dk_at dksX0_pour_3 16 rfl rfl)
theorem dX0_pour_90 : decode cX0_pour 90 = .ok (.iload 4, 2) := dk_21 4 (dk_at dksX0_pour_3 18 rfl rfl)
theorem dX0_pour_92 : decode cX0_pour 92 = .ok (.iload 5, 2) := dk_21 5 (dk_at dksX0_pour_3 20 rfl rfl)
theorem dX0_pour_94 : decode cX0_pour 94 = .ok (.invokestatic 175, 3) := dk_184 0 175 (dk_at dksX0_pour_4 0 rfl rfl)
theorem dX0_pour_97 : decode cX0_pour 97 = .ok (.goto 14, 3) := dk_167 0 14 (dk_at dksX0_pour_4 3 rfl rfl)
theorem dX0_pour_100 : decode cX0_pour 100 = .ok (.astore 8, 2) := dk_58 8 (dk_at dksX0_pour_4 6 rfl rfl)
theorem dX0_pour_102 : decode cX0_pour 102 = .ok (.aload_n 0, 1) := dk_42 (dk_at dksX0_pour_4 8 rfl rfl)
theorem dX0_pour_103 : decode cX0_pour 103 = .ok (.getfield 44, 3) := dk_180 0 44 (dk_at dksX0_pour_4 9 rfl rfl)
theorem dX0_pour_106 : decode cX0_pour 106 = .ok (.iconst 3, 1) := dk_6 (dk_at dksX0_pour_4 12 rfl rfl)
theorem dX0_pour_107 : decode cX0_pour 107 = .ok (.invokevirtual 116, 3) := dk_182 0 116 (dk_at dksX0_pour_4 13 rfl rfl)
theorem dX0_pour_110 : decode cX0_pour 110 = .ok (.athrow, 1) := dk_191 (dk_at dksX0_pour_4 16 rfl rfl)
theorem dX0_pour_111 : decode cX0_pour 111 = .ok (.iconst 1, 1) := dk_4 (dk_at dksX0_pour_4 17 rfl rfl)
theorem dX0_pour_112 : decode cX0_pour 112 = .ok (.ireturn, 1) := dk_172 (dk_at dksX0_pour_4 18 rfl rfl)
theorem dX0_pour_113 : decode cX0_pour 113 = .ok (.astore 6, 2) := dk_58 6 (dk_at dksX0_pour_4 19 rfl rfl)
theorem dX0_pour_115 : decode cX0_pour 115 = .ok (.aload_n 0, 1) := dk_42 (dk_at dksX0_pour_4 21 rfl rfl)
theorem dX0_pour_116 : decode cX0_pour 116 = .ok (.aload 6, 2) := dk_25 6 (dk_at dksX0_pour_4 22 rfl rfl)
theorem dX0_pour_118 : decode cX0_pour 118 = .ok (.invokevirtual 147, 3) := dk_182 0 147 (dk_at dksX0_pour_5 0 rfl rfl)
theorem dX0_pour_121 : decode cX0_pour 121 = .ok (.ireturn, 1) := dk_172 (dk_at dksX0_pour_5 3 rfl rfl)
abbrev cX0_sortOf : ByteArray := prog_1_method_2_code
def yX0_sortOf : MethodName := ⟨RX0, "sortOf", "(Ljava/lang/Object;)I"⟩
def dkwX0_sortOf_1 : List UInt8 := [193, 0, 7, 153, 0, 7, 5, 167, 0, 4, 6, 172]
abbrev dktX0_sortOf_1 : List UInt8 := dkwX0_sortOf_1 ++ []
def dkwX0_sortOf_0 : List UInt8 := [42, 193, 0, 3, 153, 0, 7, 3, 167, 0, 26, 42, 193, 0, 5, 153, 0, 7, 4, 167, 0, 15, 42]
abbrev dktX0_sortOf_0 : List UInt8 := dkwX0_sortOf_0 ++ dktX0_sortOf_1
theorem dksX0_sortOf_0 : cX0_sortOf.data.toList.drop 0 = dktX0_sortOf_0 := by decide +kernel
theorem dksX0_sortOf_1 : cX0_sortOf.data.toList.drop 23 = dktX0_sortOf_1 := dk_seg dksX0_sortOf_0 23 rfl rfl
theorem dX0_sortOf_0 : decode cX0_sortOf 0 = .ok (.aload_n 0, 1) := dk_42 (dk_at dksX0_sortOf_0 0 rfl rfl)
theorem dX0_sortOf_1 : decode cX0_sortOf 1 = .ok (.instanceof 3, 3) := dk_193 0 3 (dk_at dksX0_sortOf_0 1 rfl rfl)
theorem dX0_sortOf_4 : decode cX0_sortOf 4 = .ok (.ifCond .eq 7, 3) := dk_153 0 7 (dk_at dksX0_sortOf_0 4 rfl rfl)
theorem dX0_sortOf_7 : decode cX0_sortOf 7 = .ok (.iconst 0, 1) := dk_3 (dk_at dksX0_sortOf_0 7 rfl rfl)
theorem dX0_sortOf_8 : decode cX0_sortOf 8 = .ok (.goto 26, 3) := dk_167 0 26 (dk_at dksX0_sortOf_0 8 rfl rfl)
theorem dX0_sortOf_11 : decode cX0_sortOf 11 = .ok (.aload_n 0, 1) := dk_42 (dk_at dksX0_sortOf_0 11 rfl rfl)
theorem dX0_sortOf_12 : decode cX0_sortOf 12 = .ok (.instanceof 5, 3) := dk_193 0 5 (dk_at dksX0_sortOf_0 12 rfl rfl)
theorem dX0_sortOf_15 : decode cX0_sortOf 15 = .ok (.ifCond .eq 7, 3) := dk_153 0 7 (dk_at dksX0_sortOf_0 15 rfl rfl)
theorem dX0_sortOf_18 : decode cX0_sortOf 18 = .ok (.iconst 1, 1) := dk_4 (dk_at dksX0_sortOf_0 18 rfl rfl)
theorem dX0_sortOf_19 : decode cX0_sortOf 19 = .ok (.goto 15, 3) := dk_167 0 15 (dk_at dksX0_sortOf_0 19 rfl rfl)
theorem dX0_sortOf_22 : decode cX0_sortOf 22 = .ok (.aload_n 0, 1) := dk_42 (dk_at dksX0_sortOf_0 22 rfl rfl)
theorem dX0_sortOf_23 : decode cX0_sortOf 23 = .ok (.instanceof 7, 3) := dk_193 0 7 (dk_at dksX0_sortOf_1 0 rfl rfl)
theorem dX0_sortOf_26 : decode cX0_sortOf 26 = .ok (.ifCond .eq 7, 3) := dk_153 0 7 (dk_at dksX0_sortOf_1 3 rfl rfl)
theorem dX0_sortOf_29 : decode cX0_sortOf 29 = .ok (.iconst 2, 1) := dk_5 (dk_at dksX0_sortOf_1 6 rfl rfl)
theorem dX0_sortOf_30 : decode cX0_sortOf 30 = .ok (.goto 4, 3) := dk_167 0 4 (dk_at dksX0_sortOf_1 7 rfl rfl)
theorem dX0_sortOf_33 : decode cX0_sortOf 33 = .ok (.iconst 3, 1) := dk_6 (dk_at dksX0_sortOf_1 10 rfl rfl)
theorem dX0_sortOf_34 : decode cX0_sortOf 34 = .ok (.ireturn, 1) := dk_172 (dk_at dksX0_sortOf_1 11 rfl rfl)
abbrev cX0_feed : ByteArray := prog_1_method_26_code
def yX0_feed : MethodName := ⟨RX0, "feed", "(IIIII)I"⟩
def dkwX0_feed_2 : List UInt8 := [172]
abbrev dktX0_feed_2 : List UInt8 := dkwX0_feed_2 ++ []
def dkwX0_feed_1 : List UInt8 := [182, 0, 212, 42, 29, 182, 0, 212, 42, 21, 4, 182, 0, 212, 42, 21, 5, 182, 0, 212, 42, 180, 0, 209]
abbrev dktX0_feed_1 : List UInt8 := dkwX0_feed_1 ++ dktX0_feed_2
def dkwX0_feed_0 : List UInt8 := [42, 180, 0, 209, 16, 20, 96, 17, 3, 132, 164, 0, 5, 2, 172, 42, 27, 182, 0, 212, 42, 28]
abbrev dktX0_feed_0 : List UInt8 := dkwX0_feed_0 ++ dktX0_feed_1
theorem dksX0_feed_0 : cX0_feed.data.toList.drop 0 = dktX0_feed_0 := by decide +kernel
theorem dksX0_feed_1 : cX0_feed.data.toList.drop 22 = dktX0_feed_1 := dk_seg dksX0_feed_0 22 rfl rfl
theorem dksX0_feed_2 : cX0_feed.data.toList.drop 46 = dktX0_feed_2 := dk_seg dksX0_feed_1 24 rfl rfl
theorem dX0_feed_0 : decode cX0_feed 0 = .ok (.aload_n 0, 1) := dk_42 (dk_at dksX0_feed_0 0 rfl rfl)
theorem dX0_feed_1 : decode cX0_feed 1 = .ok (.getfield 209, 3) := dk_180 0 209 (dk_at dksX0_feed_0 1 rfl rfl)
theorem dX0_feed_4 : decode cX0_feed 4 = .ok (.bipush 20, 2) := dk_16 20 (dk_at dksX0_feed_0 4 rfl rfl)
theorem dX0_feed_6 : decode cX0_feed 6 = .ok (.iadd, 1) := dk_96 (dk_at dksX0_feed_0 6 rfl rfl)
theorem dX0_feed_7 : decode cX0_feed 7 = .ok (.sipush 900, 3) := dk_17 3 132 (dk_at dksX0_feed_0 7 rfl rfl)
theorem dX0_feed_10 : decode cX0_feed 10 = .ok (.if_icmp .le 5, 3) := dk_164 0 5 (dk_at dksX0_feed_0 10 rfl rfl)
theorem dX0_feed_13 : decode cX0_feed 13 = .ok (.iconst (-1), 1) := dk_2 (dk_at dksX0_feed_0 13 rfl rfl)
theorem dX0_feed_14 : decode cX0_feed 14 = .ok (.ireturn, 1) := dk_172 (dk_at dksX0_feed_0 14 rfl rfl)
theorem dX0_feed_15 : decode cX0_feed 15 = .ok (.aload_n 0, 1) := dk_42 (dk_at dksX0_feed_0 15 rfl rfl)
theorem dX0_feed_16 : decode cX0_feed 16 = .ok (.iload_n 1, 1) := dk_27 (dk_at dksX0_feed_0 16 rfl rfl)
theorem dX0_feed_17 : decode cX0_feed 17 = .ok (.invokevirtual 212, 3) := dk_182 0 212 (dk_at dksX0_feed_0 17 rfl rfl)
theorem dX0_feed_20 : decode cX0_feed 20 = .ok (.aload_n 0, 1) := dk_42 (dk_at dksX0_feed_0 20 rfl rfl)
theorem dX0_feed_21 : decode cX0_feed 21 = .ok (.iload_n 2, 1) := dk_28 (dk_at dksX0_feed_0 21 rfl rfl)
theorem dX0_feed_22 : decode cX0_feed 22 = .ok (.invokevirtual 212, 3) := dk_182 0 212 (dk_at dksX0_feed_1 0 rfl rfl)
theorem dX0_feed_25 : decode cX0_feed 25 = .ok (.aload_n 0, 1) := dk_42 (dk_at dksX0_feed_1 3 rfl rfl)
theorem dX0_feed_26 : decode cX0_feed 26 = .ok (.iload_n 3, 1) := dk_29 (dk_at dksX0_feed_1 4 rfl rfl)
theorem dX0_feed_27 : decode cX0_feed 27 = .ok (.invokevirtual 212, 3) := dk_182 0 212 (dk_at dksX0_feed_1 5 rfl rfl)
theorem dX0_feed_30 : decode cX0_feed 30 = .ok (.aload_n 0, 1) := dk_42 (dk_at dksX0_feed_1 8 rfl rfl)
theorem dX0_feed_31 : decode cX0_feed 31 = .ok (.iload 4, 2) := dk_21 4 (dk_at dksX0_feed_1 9 rfl rfl)
theorem dX0_feed_33 : decode cX0_feed 33 = .ok (.invokevirtual 212, 3) := dk_182 0 212 (dk_at dksX0_feed_1 11 rfl rfl)
theorem dX0_feed_36 : decode cX0_feed 36 = .ok (.aload_n 0, 1) := dk_42 (dk_at dksX0_feed_1 14 rfl rfl)
theorem dX0_feed_37 : decode cX0_feed 37 = .ok (.iload 5, 2) := dk_21 5 (dk_at dksX0_feed_1 15 rfl rfl)
theorem dX0_feed_39 : decode cX0_feed 39 = .ok (.invokevirtual 212, 3) := dk_182 0 212 (dk_at dksX0_feed_1 17 rfl rfl)
theorem dX0_feed_42 : decode cX0_feed 42 = .ok (.aload_n 0, 1) := dk_42 (dk_at dksX0_feed_1 20 rfl rfl)
theorem dX0_feed_43 : decode cX0_feed 43 = .ok (.getfield 209, 3) := dk_180 0 209 (dk_at dksX0_feed_1 21 rfl rfl)
theorem dX0_feed_46 : decode cX0_feed 46 = .ok (.ireturn, 1) := dk_172 (dk_at dksX0_feed_2 0 rfl rfl)
abbrev cX0_lay : ByteArray := prog_1_method_27_code
def yX0_lay : MethodName := ⟨RX0, "lay", "(I)V"⟩
def dkwX0_lay_1 : List UInt8 := [180, 0, 209, 4, 96, 181, 0, 209, 132, 2, 248, 167, 255, 226, 177]
abbrev dktX0_lay_1 : List UInt8 := dkwX0_lay_1 ++ []
def dkwX0_lay_0 : List UInt8 := [16, 24, 61, 28, 155, 0, 32, 42, 180, 0, 24, 42, 180, 0, 209, 27, 28, 122, 145, 84, 42, 89]
abbrev dktX0_lay_0 : List UInt8 := dkwX0_lay_0 ++ dktX0_lay_1
theorem dksX0_lay_0 : cX0_lay.data.toList.drop 0 = dktX0_lay_0 := by decide +kernel
theorem dksX0_lay_1 : cX0_lay.data.toList.drop 22 = dktX0_lay_1 := dk_seg dksX0_lay_0 22 rfl rfl
theorem dX0_lay_0 : decode cX0_lay 0 = .ok (.bipush 24, 2) := dk_16 24 (dk_at dksX0_lay_0 0 rfl rfl)
theorem dX0_lay_2 : decode cX0_lay 2 = .ok (.istore_n 2, 1) := dk_61 (dk_at dksX0_lay_0 2 rfl rfl)
theorem dX0_lay_3 : decode cX0_lay 3 = .ok (.iload_n 2, 1) := dk_28 (dk_at dksX0_lay_0 3 rfl rfl)
theorem dX0_lay_4 : decode cX0_lay 4 = .ok (.ifCond .lt 32, 3) := dk_155 0 32 (dk_at dksX0_lay_0 4 rfl rfl)
theorem dX0_lay_7 : decode cX0_lay 7 = .ok (.aload_n 0, 1) := dk_42 (dk_at dksX0_lay_0 7 rfl rfl)
theorem dX0_lay_8 : decode cX0_lay 8 = .ok (.getfield 24, 3) := dk_180 0 24 (dk_at dksX0_lay_0 8 rfl rfl)
theorem dX0_lay_11 : decode cX0_lay 11 = .ok (.aload_n 0, 1) := dk_42 (dk_at dksX0_lay_0 11 rfl rfl)
theorem dX0_lay_12 : decode cX0_lay 12 = .ok (.getfield 209, 3) := dk_180 0 209 (dk_at dksX0_lay_0 12 rfl rfl)
theorem dX0_lay_15 : decode cX0_lay 15 = .ok (.iload_n 1, 1) := dk_27 (dk_at dksX0_lay_0 15 rfl rfl)
theorem dX0_lay_16 : decode cX0_lay 16 = .ok (.iload_n 2, 1) := dk_28 (dk_at dksX0_lay_0 16 rfl rfl)
theorem dX0_lay_17 : decode cX0_lay 17 = .ok (.ishr, 1) := dk_122 (dk_at dksX0_lay_0 17 rfl rfl)
theorem dX0_lay_18 : decode cX0_lay 18 = .ok (.i2b, 1) := dk_145 (dk_at dksX0_lay_0 18 rfl rfl)
theorem dX0_lay_19 : decode cX0_lay 19 = .ok (.bastore, 1) := dk_84 (dk_at dksX0_lay_0 19 rfl rfl)
theorem dX0_lay_20 : decode cX0_lay 20 = .ok (.aload_n 0, 1) := dk_42 (dk_at dksX0_lay_0 20 rfl rfl)
theorem dX0_lay_21 : decode cX0_lay 21 = .ok (.dup, 1) := dk_89 (dk_at dksX0_lay_0 21 rfl rfl)
theorem dX0_lay_22 : decode cX0_lay 22 = .ok (.getfield 209, 3) := dk_180 0 209 (dk_at dksX0_lay_1 0 rfl rfl)
theorem dX0_lay_25 : decode cX0_lay 25 = .ok (.iconst 1, 1) := dk_4 (dk_at dksX0_lay_1 3 rfl rfl)
theorem dX0_lay_26 : decode cX0_lay 26 = .ok (.iadd, 1) := dk_96 (dk_at dksX0_lay_1 4 rfl rfl)
theorem dX0_lay_27 : decode cX0_lay 27 = .ok (.putfield 209, 3) := dk_181 0 209 (dk_at dksX0_lay_1 5 rfl rfl)
theorem dX0_lay_30 : decode cX0_lay 30 = .ok (.iinc 2 (-8), 3) := dk_132 2 248 (dk_at dksX0_lay_1 8 rfl rfl)
theorem dX0_lay_33 : decode cX0_lay 33 = .ok (.goto (-30), 3) := dk_167 255 226 (dk_at dksX0_lay_1 11 rfl rfl)
theorem dX0_lay_36 : decode cX0_lay 36 = .ok (.return_, 1) := dk_177 (dk_at dksX0_lay_1 14 rfl rfl)
abbrev cX0_town : ByteArray := prog_1_method_30_code
def yX0_town : MethodName := ⟨RX0, "town", "(I)I"⟩
def dkwX0_town_2 : List UInt8 := [180, 0, 55, 1, 181, 0, 238, 44, 180, 0, 200, 172, 77, 42, 44, 182, 0, 242, 172]
abbrev dktX0_town_2 : List UInt8 := dkwX0_town_2 ++ []
def dkwX0_town_1 : List UInt8 := [89, 42, 27, 183, 0, 229, 44, 182, 0, 232, 42, 180, 0, 55, 180, 0, 183, 44, 182, 0, 235, 42]
abbrev dktX0_town_1 : List UInt8 := dkwX0_town_1 ++ dktX0_town_2
def dkwX0_town_0 : List UInt8 := [42, 27, 17, 3, 132, 182, 0, 222, 154, 0, 5, 2, 172, 187, 0, 192, 89, 183, 0, 226, 77, 187, 0, 227]
abbrev dktX0_town_0 : List UInt8 := dkwX0_town_0 ++ dktX0_town_1
theorem dksX0_town_0 : cX0_town.data.toList.drop 0 = dktX0_town_0 := by decide +kernel
theorem dksX0_town_1 : cX0_town.data.toList.drop 24 = dktX0_town_1 := dk_seg dksX0_town_0 24 rfl rfl
theorem dksX0_town_2 : cX0_town.data.toList.drop 46 = dktX0_town_2 := dk_seg dksX0_town_1 22 rfl rfl
theorem dX0_town_0 : decode cX0_town 0 = .ok (.aload_n 0, 1) := dk_42 (dk_at dksX0_town_0 0 rfl rfl)
theorem dX0_town_1 : decode cX0_town 1 = .ok (.iload_n 1, 1) := dk_27 (dk_at dksX0_town_0 1 rfl rfl)
theorem dX0_town_2 : decode cX0_town 2 = .ok (.sipush 900, 3) := dk_17 3 132 (dk_at dksX0_town_0 2 rfl rfl)
theorem dX0_town_5 : decode cX0_town 5 = .ok (.invokevirtual 222, 3) := dk_182 0 222 (dk_at dksX0_town_0 5 rfl rfl)
theorem dX0_town_8 : decode cX0_town 8 = .ok (.ifCond .ne 5, 3) := dk_154 0 5 (dk_at dksX0_town_0 8 rfl rfl)
theorem dX0_town_11 : decode cX0_town 11 = .ok (.iconst (-1), 1) := dk_2 (dk_at dksX0_town_0 11 rfl rfl)
theorem dX0_town_12 : decode cX0_town 12 = .ok (.ireturn, 1) := dk_172 (dk_at dksX0_town_0 12 rfl rfl)
theorem dX0_town_13 : decode cX0_town 13 = .ok (.new 192, 3) := dk_187 0 192 (dk_at dksX0_town_0 13 rfl rfl)
theorem dX0_town_16 : decode cX0_town 16 = .ok (.dup, 1) := dk_89 (dk_at dksX0_town_0 16 rfl rfl)
theorem dX0_town_17 : decode cX0_town 17 = .ok (.invokespecial 226, 3) := dk_183 0 226 (dk_at dksX0_town_0 17 rfl rfl)
theorem dX0_town_20 : decode cX0_town 20 = .ok (.astore_n 2, 1) := dk_77 (dk_at dksX0_town_0 20 rfl rfl)
theorem dX0_town_21 : decode cX0_town 21 = .ok (.new 227, 3) := dk_187 0 227 (dk_at dksX0_town_0 21 rfl rfl)
theorem dX0_town_24 : decode cX0_town 24 = .ok (.dup, 1) := dk_89 (dk_at dksX0_town_1 0 rfl rfl)
theorem dX0_town_25 : decode cX0_town 25 = .ok (.aload_n 0, 1) := dk_42 (dk_at dksX0_town_1 1 rfl rfl)
theorem dX0_town_26 : decode cX0_town 26 = .ok (.iload_n 1, 1) := dk_27 (dk_at dksX0_town_1 2 rfl rfl)
theorem dX0_town_27 : decode cX0_town 27 = .ok (.invokespecial 229, 3) := dk_183 0 229 (dk_at dksX0_town_1 3 rfl rfl)
theorem dX0_town_30 : decode cX0_town 30 = .ok (.aload_n 2, 1) := dk_44 (dk_at dksX0_town_1 6 rfl rfl)
theorem dX0_town_31 : decode cX0_town 31 = .ok (.invokevirtual 232, 3) := dk_182 0 232 (dk_at dksX0_town_1 7 rfl rfl)
theorem dX0_town_34 : decode cX0_town 34 = .ok (.aload_n 0, 1) := dk_42 (dk_at dksX0_town_1 10 rfl rfl)
theorem dX0_town_35 : decode cX0_town 35 = .ok (.getfield 55, 3) := dk_180 0 55 (dk_at dksX0_town_1 11 rfl rfl)
theorem dX0_town_38 : decode cX0_town 38 = .ok (.getfield 183, 3) := dk_180 0 183 (dk_at dksX0_town_1 14 rfl rfl)
theorem dX0_town_41 : decode cX0_town 41 = .ok (.aload_n 2, 1) := dk_44 (dk_at dksX0_town_1 17 rfl rfl)
theorem dX0_town_42 : decode cX0_town 42 = .ok (.invokevirtual 235, 3) := dk_182 0 235 (dk_at dksX0_town_1 18 rfl rfl)
theorem dX0_town_45 : decode cX0_town 45 = .ok (.aload_n 0, 1) := dk_42 (dk_at dksX0_town_1 21 rfl rfl)
theorem dX0_town_46 : decode cX0_town 46 = .ok (.getfield 55, 3) := dk_180 0 55 (dk_at dksX0_town_2 0 rfl rfl)
theorem dX0_town_49 : decode cX0_town 49 = .ok (.aconst_null, 1) := dk_1 (dk_at dksX0_town_2 3 rfl rfl)
theorem dX0_town_50 : decode cX0_town 50 = .ok (.putfield 238, 3) := dk_181 0 238 (dk_at dksX0_town_2 4 rfl rfl)
theorem dX0_town_53 : decode cX0_town 53 = .ok (.aload_n 2, 1) := dk_44 (dk_at dksX0_town_2 7 rfl rfl)
theorem dX0_town_54 : decode cX0_town 54 = .ok (.getfield 200, 3) := dk_180 0 200 (dk_at dksX0_town_2 8 rfl rfl)
theorem dX0_town_57 : decode cX0_town 57 = .ok (.ireturn, 1) := dk_172 (dk_at dksX0_town_2 11 rfl rfl)
theorem dX0_town_58 : decode cX0_town 58 = .ok (.astore_n 2, 1) := dk_77 (dk_at dksX0_town_2 12 rfl rfl)
theorem dX0_town_59 : decode cX0_town 59 = .ok (.aload_n 0, 1) := dk_42 (dk_at dksX0_town_2 13 rfl rfl)
theorem dX0_town_60 : decode cX0_town 60 = .ok (.aload_n 2, 1) := dk_44 (dk_at dksX0_town_2 14 rfl rfl)
theorem dX0_town_61 : decode cX0_town 61 = .ok (.invokevirtual 242, 3) := dk_182 0 242 (dk_at dksX0_town_2 15 rfl rfl)
theorem dX0_town_64 : decode cX0_town 64 = .ok (.ireturn, 1) := dk_172 (dk_at dksX0_town_2 18 rfl rfl)
abbrev cX0_opens : ByteArray := prog_1_method_28_code
def yX0_opens : MethodName := ⟨RX0, "opens", "(II)Z"⟩
def dkwX0_opens_2 : List UInt8 := [181, 0, 31, 4, 172]
abbrev dktX0_opens_2 : List UInt8 := dkwX0_opens_2 ++ []
def dkwX0_opens_1 : List UInt8 := [181, 0, 110, 42, 180, 0, 110, 158, 0, 5, 3, 172, 42, 3, 181, 0, 209, 42, 3, 181, 0, 27, 42, 2]
abbrev dktX0_opens_1 : List UInt8 := dkwX0_opens_1 ++ dktX0_opens_2
def dkwX0_opens_0 : List UInt8 := [42, 27, 155, 0, 16, 27, 42, 180, 0, 209, 163, 0, 8, 27, 28, 164, 0, 7, 4, 167, 0, 4, 3]
abbrev dktX0_opens_0 : List UInt8 := dkwX0_opens_0 ++ dktX0_opens_1
theorem dksX0_opens_0 : cX0_opens.data.toList.drop 0 = dktX0_opens_0 := by decide +kernel
theorem dksX0_opens_1 : cX0_opens.data.toList.drop 23 = dktX0_opens_1 := dk_seg dksX0_opens_0 23 rfl rfl
theorem dksX0_opens_2 : cX0_opens.data.toList.drop 47 = dktX0_opens_2 := dk_seg dksX0_opens_1 24 rfl rfl
theorem dX0_opens_0 : decode cX0_opens 0 = .ok (.aload_n 0, 1) := dk_42 (dk_at dksX0_opens_0 0 rfl rfl)
theorem dX0_opens_1 : decode cX0_opens 1 = .ok (.iload_n 1, 1) := dk_27 (dk_at dksX0_opens_0 1 rfl rfl)
theorem dX0_opens_2 : decode cX0_opens 2 = .ok (.ifCond .lt 16, 3) := dk_155 0 16 (dk_at dksX0_opens_0 2 rfl rfl)
theorem dX0_opens_5 : decode cX0_opens 5 = .ok (.iload_n 1, 1) := dk_27 (dk_at dksX0_opens_0 5 rfl rfl)
theorem dX0_opens_6 : decode cX0_opens 6 = .ok (.aload_n 0, 1) := dk_42 (dk_at dksX0_opens_0 6 rfl rfl)
theorem dX0_opens_7 : decode cX0_opens 7 = .ok (.getfield 209, 3) := dk_180 0 209 (dk_at dksX0_opens_0 7 rfl rfl)
theorem dX0_opens_10 : decode cX0_opens 10 = .ok (.if_icmp .gt 8, 3) := dk_163 0 8 (dk_at dksX0_opens_0 10 rfl rfl)
theorem dX0_opens_13 : decode cX0_opens 13 = .ok (.iload_n 1, 1) := dk_27 (dk_at dksX0_opens_0 13 rfl rfl)
theorem dX0_opens_14 : decode cX0_opens 14 = .ok (.iload_n 2, 1) := dk_28 (dk_at dksX0_opens_0 14 rfl rfl)
theorem dX0_opens_15 : decode cX0_opens 15 = .ok (.if_icmp .le 7, 3) := dk_164 0 7 (dk_at dksX0_opens_0 15 rfl rfl)
theorem dX0_opens_18 : decode cX0_opens 18 = .ok (.iconst 1, 1) := dk_4 (dk_at dksX0_opens_0 18 rfl rfl)
theorem dX0_opens_19 : decode cX0_opens 19 = .ok (.goto 4, 3) := dk_167 0 4 (dk_at dksX0_opens_0 19 rfl rfl)
theorem dX0_opens_22 : decode cX0_opens 22 = .ok (.iconst 0, 1) := dk_3 (dk_at dksX0_opens_0 22 rfl rfl)
theorem dX0_opens_23 : decode cX0_opens 23 = .ok (.putfield 110, 3) := dk_181 0 110 (dk_at dksX0_opens_1 0 rfl rfl)
theorem dX0_opens_26 : decode cX0_opens 26 = .ok (.aload_n 0, 1) := dk_42 (dk_at dksX0_opens_1 3 rfl rfl)
theorem dX0_opens_27 : decode cX0_opens 27 = .ok (.getfield 110, 3) := dk_180 0 110 (dk_at dksX0_opens_1 4 rfl rfl)
theorem dX0_opens_30 : decode cX0_opens 30 = .ok (.ifCond .le 5, 3) := dk_158 0 5 (dk_at dksX0_opens_1 7 rfl rfl)
theorem dX0_opens_33 : decode cX0_opens 33 = .ok (.iconst 0, 1) := dk_3 (dk_at dksX0_opens_1 10 rfl rfl)
theorem dX0_opens_34 : decode cX0_opens 34 = .ok (.ireturn, 1) := dk_172 (dk_at dksX0_opens_1 11 rfl rfl)
theorem dX0_opens_35 : decode cX0_opens 35 = .ok (.aload_n 0, 1) := dk_42 (dk_at dksX0_opens_1 12 rfl rfl)
theorem dX0_opens_36 : decode cX0_opens 36 = .ok (.iconst 0, 1) := dk_3 (dk_at dksX0_opens_1 13 rfl rfl)
theorem dX0_opens_37 : decode cX0_opens 37 = .ok (.putfield 209, 3) := dk_181 0 209 (dk_at dksX0_opens_1 14 rfl rfl)
theorem dX0_opens_40 : decode cX0_opens 40 = .ok (.aload_n 0, 1) := dk_42 (dk_at dksX0_opens_1 17 rfl rfl)
theorem dX0_opens_41 : decode cX0_opens 41 = .ok (.iconst 0, 1) := dk_3 (dk_at dksX0_opens_1 18 rfl rfl)
theorem dX0_opens_42 : decode cX0_opens 42 = .ok (.putfield 27, 3) := dk_181 0 27 (dk_at dksX0_opens_1 19 rfl rfl)
theorem dX0_opens_45 : decode cX0_opens 45 = .ok (.aload_n 0, 1) := dk_42 (dk_at dksX0_opens_1 22 rfl rfl)
theorem dX0_opens_46 : decode cX0_opens 46 = .ok (.iconst (-1), 1) := dk_2 (dk_at dksX0_opens_1 23 rfl rfl)
theorem dX0_opens_47 : decode cX0_opens 47 = .ok (.putfield 31, 3) := dk_181 0 31 (dk_at dksX0_opens_2 0 rfl rfl)
theorem dX0_opens_50 : decode cX0_opens 50 = .ok (.iconst 1, 1) := dk_4 (dk_at dksX0_opens_2 3 rfl rfl)
theorem dX0_opens_51 : decode cX0_opens 51 = .ok (.ireturn, 1) := dk_172 (dk_at dksX0_opens_2 4 rfl rfl)
abbrev cX0_faulty : ByteArray := prog_1_method_29_code
def yX0_faulty : MethodName := ⟨RX0, "faulty", "(LSillBridges$Bad;)I"⟩
def dkwX0_faulty_0 : List UInt8 := [42, 43, 180, 0, 216, 181, 0, 27, 42, 43, 180, 0, 219, 181, 0, 31, 42, 16, 9, 181, 0, 110, 2, 172]
abbrev dktX0_faulty_0 : List UInt8 := dkwX0_faulty_0 ++ []
theorem dksX0_faulty_0 : cX0_faulty.data.toList.drop 0 = dktX0_faulty_0 := by decide +kernel
theorem dX0_faulty_0 : decode cX0_faulty 0 = .ok (.aload_n 0, 1) := dk_42 (dk_at dksX0_faulty_0 0 rfl rfl)
theorem dX0_faulty_1 : decode cX0_faulty 1 = .ok (.aload_n 1, 1) := dk_43 (dk_at dksX0_faulty_0 1 rfl rfl)
theorem dX0_faulty_2 : decode cX0_faulty 2 = .ok (.getfield 216, 3) := dk_180 0 216 (dk_at dksX0_faulty_0 2 rfl rfl)
theorem dX0_faulty_5 : decode cX0_faulty 5 = .ok (.putfield 27, 3) := dk_181 0 27 (dk_at dksX0_faulty_0 5 rfl rfl)
theorem dX0_faulty_8 : decode cX0_faulty 8 = .ok (.aload_n 0, 1) := dk_42 (dk_at dksX0_faulty_0 8 rfl rfl)
theorem dX0_faulty_9 : decode cX0_faulty 9 = .ok (.aload_n 1, 1) := dk_43 (dk_at dksX0_faulty_0 9 rfl rfl)
theorem dX0_faulty_10 : decode cX0_faulty 10 = .ok (.getfield 219, 3) := dk_180 0 219 (dk_at dksX0_faulty_0 10 rfl rfl)
theorem dX0_faulty_13 : decode cX0_faulty 13 = .ok (.putfield 31, 3) := dk_181 0 31 (dk_at dksX0_faulty_0 13 rfl rfl)
theorem dX0_faulty_16 : decode cX0_faulty 16 = .ok (.aload_n 0, 1) := dk_42 (dk_at dksX0_faulty_0 16 rfl rfl)
theorem dX0_faulty_17 : decode cX0_faulty 17 = .ok (.bipush 9, 2) := dk_16 9 (dk_at dksX0_faulty_0 17 rfl rfl)
theorem dX0_faulty_19 : decode cX0_faulty 19 = .ok (.putfield 110, 3) := dk_181 0 110 (dk_at dksX0_faulty_0 19 rfl rfl)
theorem dX0_faulty_22 : decode cX0_faulty 22 = .ok (.iconst (-1), 1) := dk_2 (dk_at dksX0_faulty_0 22 rfl rfl)
theorem dX0_faulty_23 : decode cX0_faulty 23 = .ok (.ireturn, 1) := dk_172 (dk_at dksX0_faulty_0 23 rfl rfl)
abbrev cX0_orders : ByteArray := prog_1_method_31_code
def yX0_orders : MethodName := ⟨RX0, "orders", "(I)I"⟩
def dkwX0_orders_2 : List UInt8 := [181, 0, 238, 45, 180, 0, 253, 172, 77, 42, 44, 182, 0, 242, 172]
abbrev dktX0_orders_2 : List UInt8 := dkwX0_orders_2 ++ []
def dkwX0_orders_1 : List UInt8 := [187, 0, 227, 89, 42, 27, 183, 0, 229, 78, 45, 42, 182, 0, 188, 44, 182, 0, 250, 42, 180, 0, 55, 44]
abbrev dktX0_orders_1 : List UInt8 := dkwX0_orders_1 ++ dktX0_orders_2
def dkwX0_orders_0 : List UInt8 := [42, 27, 17, 1, 44, 182, 0, 222, 154, 0, 5, 2, 172, 187, 0, 246, 89, 4, 183, 0, 248, 77]
abbrev dktX0_orders_0 : List UInt8 := dkwX0_orders_0 ++ dktX0_orders_1
theorem dksX0_orders_0 : cX0_orders.data.toList.drop 0 = dktX0_orders_0 := by decide +kernel
theorem dksX0_orders_1 : cX0_orders.data.toList.drop 22 = dktX0_orders_1 := dk_seg dksX0_orders_0 22 rfl rfl
theorem dksX0_orders_2 : cX0_orders.data.toList.drop 46 = dktX0_orders_2 := dk_seg dksX0_orders_1 24 rfl rfl
theorem dX0_orders_0 : decode cX0_orders 0 = .ok (.aload_n 0, 1) := dk_42 (dk_at dksX0_orders_0 0 rfl rfl)
theorem dX0_orders_1 : decode cX0_orders 1 = .ok (.iload_n 1, 1) := dk_27 (dk_at dksX0_orders_0 1 rfl rfl)
theorem dX0_orders_2 : decode cX0_orders 2 = .ok (.sipush 300, 3) := dk_17 1 44 (dk_at dksX0_orders_0 2 rfl rfl)
theorem dX0_orders_5 : decode cX0_orders 5 = .ok (.invokevirtual 222, 3) := dk_182 0 222 (dk_at dksX0_orders_0 5 rfl rfl)
theorem dX0_orders_8 : decode cX0_orders 8 = .ok (.ifCond .ne 5, 3) := dk_154 0 5 (dk_at dksX0_orders_0 8 rfl rfl)
theorem dX0_orders_11 : decode cX0_orders 11 = .ok (.iconst (-1), 1) := dk_2 (dk_at dksX0_orders_0 11 rfl rfl)
theorem dX0_orders_12 : decode cX0_orders 12 = .ok (.ireturn, 1) := dk_172 (dk_at dksX0_orders_0 12 rfl rfl)
theorem dX0_orders_13 : decode cX0_orders 13 = .ok (.new 246, 3) := dk_187 0 246 (dk_at dksX0_orders_0 13 rfl rfl)
theorem dX0_orders_16 : decode cX0_orders 16 = .ok (.dup, 1) := dk_89 (dk_at dksX0_orders_0 16 rfl rfl)
theorem dX0_orders_17 : decode cX0_orders 17 = .ok (.iconst 1, 1) := dk_4 (dk_at dksX0_orders_0 17 rfl rfl)
theorem dX0_orders_18 : decode cX0_orders 18 = .ok (.invokespecial 248, 3) := dk_183 0 248 (dk_at dksX0_orders_0 18 rfl rfl)
theorem dX0_orders_21 : decode cX0_orders 21 = .ok (.astore_n 2, 1) := dk_77 (dk_at dksX0_orders_0 21 rfl rfl)
theorem dX0_orders_22 : decode cX0_orders 22 = .ok (.new 227, 3) := dk_187 0 227 (dk_at dksX0_orders_1 0 rfl rfl)
theorem dX0_orders_25 : decode cX0_orders 25 = .ok (.dup, 1) := dk_89 (dk_at dksX0_orders_1 3 rfl rfl)
theorem dX0_orders_26 : decode cX0_orders 26 = .ok (.aload_n 0, 1) := dk_42 (dk_at dksX0_orders_1 4 rfl rfl)
theorem dX0_orders_27 : decode cX0_orders 27 = .ok (.iload_n 1, 1) := dk_27 (dk_at dksX0_orders_1 5 rfl rfl)
theorem dX0_orders_28 : decode cX0_orders 28 = .ok (.invokespecial 229, 3) := dk_183 0 229 (dk_at dksX0_orders_1 6 rfl rfl)
theorem dX0_orders_31 : decode cX0_orders 31 = .ok (.astore_n 3, 1) := dk_78 (dk_at dksX0_orders_1 9 rfl rfl)
theorem dX0_orders_32 : decode cX0_orders 32 = .ok (.aload_n 3, 1) := dk_45 (dk_at dksX0_orders_1 10 rfl rfl)
theorem dX0_orders_33 : decode cX0_orders 33 = .ok (.aload_n 0, 1) := dk_42 (dk_at dksX0_orders_1 11 rfl rfl)
theorem dX0_orders_34 : decode cX0_orders 34 = .ok (.invokevirtual 188, 3) := dk_182 0 188 (dk_at dksX0_orders_1 12 rfl rfl)
theorem dX0_orders_37 : decode cX0_orders 37 = .ok (.aload_n 2, 1) := dk_44 (dk_at dksX0_orders_1 15 rfl rfl)
theorem dX0_orders_38 : decode cX0_orders 38 = .ok (.invokevirtual 250, 3) := dk_182 0 250 (dk_at dksX0_orders_1 16 rfl rfl)
theorem dX0_orders_41 : decode cX0_orders 41 = .ok (.aload_n 0, 1) := dk_42 (dk_at dksX0_orders_1 19 rfl rfl)
theorem dX0_orders_42 : decode cX0_orders 42 = .ok (.getfield 55, 3) := dk_180 0 55 (dk_at dksX0_orders_1 20 rfl rfl)
theorem dX0_orders_45 : decode cX0_orders 45 = .ok (.aload_n 2, 1) := dk_44 (dk_at dksX0_orders_1 23 rfl rfl)
theorem dX0_orders_46 : decode cX0_orders 46 = .ok (.putfield 238, 3) := dk_181 0 238 (dk_at dksX0_orders_2 0 rfl rfl)
theorem dX0_orders_49 : decode cX0_orders 49 = .ok (.aload_n 3, 1) := dk_45 (dk_at dksX0_orders_2 3 rfl rfl)
theorem dX0_orders_50 : decode cX0_orders 50 = .ok (.getfield 253, 3) := dk_180 0 253 (dk_at dksX0_orders_2 4 rfl rfl)
theorem dX0_orders_53 : decode cX0_orders 53 = .ok (.ireturn, 1) := dk_172 (dk_at dksX0_orders_2 7 rfl rfl)
theorem dX0_orders_54 : decode cX0_orders 54 = .ok (.astore_n 2, 1) := dk_77 (dk_at dksX0_orders_2 8 rfl rfl)
theorem dX0_orders_55 : decode cX0_orders 55 = .ok (.aload_n 0, 1) := dk_42 (dk_at dksX0_orders_2 9 rfl rfl)
theorem dX0_orders_56 : decode cX0_orders 56 = .ok (.aload_n 2, 1) := dk_44 (dk_at dksX0_orders_2 10 rfl rfl)
theorem dX0_orders_57 : decode cX0_orders 57 = .ok (.invokevirtual 242, 3) := dk_182 0 242 (dk_at dksX0_orders_2 11 rfl rfl)
theorem dX0_orders_60 : decode cX0_orders 60 = .ok (.ireturn, 1) := dk_172 (dk_at dksX0_orders_2 14 rfl rfl)
abbrev cX0_town_2 : ByteArray := prog_1_method_20_code
def yX0_town_2 : MethodName := ⟨RX0, "town", "()LSillBridges$Town;"⟩
def dkwX0_town_2_0 : List UInt8 := [42, 180, 0, 55, 180, 0, 183, 180, 0, 184, 176]
abbrev dktX0_town_2_0 : List UInt8 := dkwX0_town_2_0 ++ []
theorem dksX0_town_2_0 : cX0_town_2.data.toList.drop 0 = dktX0_town_2_0 := by decide +kernel
theorem dX0_town_2_0 : decode cX0_town_2 0 = .ok (.aload_n 0, 1) := dk_42 (dk_at dksX0_town_2_0 0 rfl rfl)
theorem dX0_town_2_1 : decode cX0_town_2 1 = .ok (.getfield 55, 3) := dk_180 0 55 (dk_at dksX0_town_2_0 1 rfl rfl)
theorem dX0_town_2_4 : decode cX0_town_2 4 = .ok (.getfield 183, 3) := dk_180 0 183 (dk_at dksX0_town_2_0 4 rfl rfl)
theorem dX0_town_2_7 : decode cX0_town_2 7 = .ok (.getfield 184, 3) := dk_180 0 184 (dk_at dksX0_town_2_0 7 rfl rfl)
theorem dX0_town_2_10 : decode cX0_town_2 10 = .ok (.areturn, 1) := dk_176 (dk_at dksX0_town_2_0 10 rfl rfl)
abbrev cX0_fault : ByteArray := prog_1_method_32_code
def yX0_fault : MethodName := ⟨RX0, "fault", "(I)I"⟩
def dkwX0_fault_1 : List UInt8 := [172]
abbrev dktX0_fault_1 : List UInt8 := dkwX0_fault_1 ++ []
def dkwX0_fault_0 : List UInt8 := [27, 154, 0, 10, 42, 180, 0, 27, 167, 0, 16, 27, 4, 160, 0, 10, 42, 180, 0, 31, 167, 0, 4, 2]
abbrev dktX0_fault_0 : List UInt8 := dkwX0_fault_0 ++ dktX0_fault_1
theorem dksX0_fault_0 : cX0_fault.data.toList.drop 0 = dktX0_fault_0 := by decide +kernel
theorem dksX0_fault_1 : cX0_fault.data.toList.drop 24 = dktX0_fault_1 := dk_seg dksX0_fault_0 24 rfl rfl
theorem dX0_fault_0 : decode cX0_fault 0 = .ok (.iload_n 1, 1) := dk_27 (dk_at dksX0_fault_0 0 rfl rfl)
theorem dX0_fault_1 : decode cX0_fault 1 = .ok (.ifCond .ne 10, 3) := dk_154 0 10 (dk_at dksX0_fault_0 1 rfl rfl)
theorem dX0_fault_4 : decode cX0_fault 4 = .ok (.aload_n 0, 1) := dk_42 (dk_at dksX0_fault_0 4 rfl rfl)
theorem dX0_fault_5 : decode cX0_fault 5 = .ok (.getfield 27, 3) := dk_180 0 27 (dk_at dksX0_fault_0 5 rfl rfl)
theorem dX0_fault_8 : decode cX0_fault 8 = .ok (.goto 16, 3) := dk_167 0 16 (dk_at dksX0_fault_0 8 rfl rfl)
theorem dX0_fault_11 : decode cX0_fault 11 = .ok (.iload_n 1, 1) := dk_27 (dk_at dksX0_fault_0 11 rfl rfl)
theorem dX0_fault_12 : decode cX0_fault 12 = .ok (.iconst 1, 1) := dk_4 (dk_at dksX0_fault_0 12 rfl rfl)
theorem dX0_fault_13 : decode cX0_fault 13 = .ok (.if_icmp .ne 10, 3) := dk_160 0 10 (dk_at dksX0_fault_0 13 rfl rfl)
theorem dX0_fault_16 : decode cX0_fault 16 = .ok (.aload_n 0, 1) := dk_42 (dk_at dksX0_fault_0 16 rfl rfl)
theorem dX0_fault_17 : decode cX0_fault 17 = .ok (.getfield 31, 3) := dk_180 0 31 (dk_at dksX0_fault_0 17 rfl rfl)
theorem dX0_fault_20 : decode cX0_fault 20 = .ok (.goto 4, 3) := dk_167 0 4 (dk_at dksX0_fault_0 20 rfl rfl)
theorem dX0_fault_23 : decode cX0_fault 23 = .ok (.iconst (-1), 1) := dk_2 (dk_at dksX0_fault_0 23 rfl rfl)
theorem dX0_fault_24 : decode cX0_fault 24 = .ok (.ireturn, 1) := dk_172 (dk_at dksX0_fault_1 0 rfl rfl)
abbrev cX0_told : ByteArray := prog_1_method_33_code
def yX0_told : MethodName := ⟨RX0, "told", "(I)I"⟩
def dkwX0_told_4 : List UInt8 := [167, 0, 4, 3, 172, 2, 172]
abbrev dktX0_told_4 : List UInt8 := dkwX0_told_4 ++ []
def dkwX0_told_3 : List UInt8 := [42, 182, 0, 188, 180, 0, 206, 172, 42, 180, 0, 55, 180, 0, 183, 182, 1, 2, 153, 0, 7, 4]
abbrev dktX0_told_3 : List UInt8 := dkwX0_told_3 ++ dktX0_told_4
def dkwX0_told_2 : List UInt8 := [42, 182, 0, 188, 180, 0, 191, 172, 42, 182, 0, 188, 180, 0, 200, 172, 42, 182, 0, 188, 180, 0, 203, 172]
abbrev dktX0_told_2 : List UInt8 := dkwX0_told_2 ++ dktX0_told_3
def dkwX0_told_1 : List UInt8 := [170, 0, 0, 0, 0, 85, 0, 0, 0, 0, 0, 0, 0, 4, 0, 0, 0, 34, 0, 0, 0, 42, 0, 0, 0, 50, 0, 0, 0, 58, 0, 0, 0, 66]
abbrev dktX0_told_1 : List UInt8 := dkwX0_told_1 ++ dktX0_told_2
def dkwX0_told_0 : List UInt8 := [42, 27, 133, 9, 20, 1, 0, 184, 0, 196, 153, 0, 7, 3, 167, 0, 4, 4, 181, 0, 110, 27]
abbrev dktX0_told_0 : List UInt8 := dkwX0_told_0 ++ dktX0_told_1
theorem dksX0_told_0 : cX0_told.data.toList.drop 0 = dktX0_told_0 := by decide +kernel
theorem dksX0_told_1 : cX0_told.data.toList.drop 22 = dktX0_told_1 := dk_seg dksX0_told_0 22 rfl rfl
theorem dksX0_told_2 : cX0_told.data.toList.drop 56 = dktX0_told_2 := dk_seg dksX0_told_1 34 rfl rfl
theorem dksX0_told_3 : cX0_told.data.toList.drop 80 = dktX0_told_3 := dk_seg dksX0_told_2 24 rfl rfl
theorem dksX0_told_4 : cX0_told.data.toList.drop 102 = dktX0_told_4 := dk_seg dksX0_told_3 22 rfl rfl
theorem dX0_told_0 : decode cX0_told 0 = .ok (.aload_n 0, 1) := dk_42 (dk_at dksX0_told_0 0 rfl rfl)
theorem dX0_told_1 : decode cX0_told 1 = .ok (.iload_n 1, 1) := dk_27 (dk_at dksX0_told_0 1 rfl rfl)
theorem dX0_told_2 : decode cX0_told 2 = .ok (.i2l, 1) := dk_133 (dk_at dksX0_told_0 2 rfl rfl)
theorem dX0_told_3 : decode cX0_told 3 = .ok (.lconst 0, 1) := dk_9 (dk_at dksX0_told_0 3 rfl rfl)
theorem dX0_told_4 : decode cX0_told 4 = .ok (.ldc2_w 256, 3) := dk_20 1 0 (dk_at dksX0_told_0 4 rfl rfl)
theorem dX0_told_7 : decode cX0_told 7 = .ok (.invokestatic 196, 3) := dk_184 0 196 (dk_at dksX0_told_0 7 rfl rfl)
theorem dX0_told_10 : decode cX0_told 10 = .ok (.ifCond .eq 7, 3) := dk_153 0 7 (dk_at dksX0_told_0 10 rfl rfl)
theorem dX0_told_13 : decode cX0_told 13 = .ok (.iconst 0, 1) := dk_3 (dk_at dksX0_told_0 13 rfl rfl)
theorem dX0_told_14 : decode cX0_told 14 = .ok (.goto 4, 3) := dk_167 0 4 (dk_at dksX0_told_0 14 rfl rfl)
theorem dX0_told_17 : decode cX0_told 17 = .ok (.iconst 1, 1) := dk_4 (dk_at dksX0_told_0 17 rfl rfl)
theorem dX0_told_18 : decode cX0_told 18 = .ok (.putfield 110, 3) := dk_181 0 110 (dk_at dksX0_told_0 18 rfl rfl)
theorem dX0_told_21 : decode cX0_told 21 = .ok (.iload_n 1, 1) := dk_27 (dk_at dksX0_told_0 21 rfl rfl)
theorem dX0_told_22 : decode cX0_told 22 = .ok (.tableswitch 85 0 4 #[34, 42, 50, 58, 66], 34) := by decide +kernel
theorem dX0_told_56 : decode cX0_told 56 = .ok (.aload_n 0, 1) := dk_42 (dk_at dksX0_told_2 0 rfl rfl)
theorem dX0_told_57 : decode cX0_told 57 = .ok (.invokevirtual 188, 3) := dk_182 0 188 (dk_at dksX0_told_2 1 rfl rfl)
theorem dX0_told_60 : decode cX0_told 60 = .ok (.getfield 191, 3) := dk_180 0 191 (dk_at dksX0_told_2 4 rfl rfl)
theorem dX0_told_63 : decode cX0_told 63 = .ok (.ireturn, 1) := dk_172 (dk_at dksX0_told_2 7 rfl rfl)
theorem dX0_told_64 : decode cX0_told 64 = .ok (.aload_n 0, 1) := dk_42 (dk_at dksX0_told_2 8 rfl rfl)
theorem dX0_told_65 : decode cX0_told 65 = .ok (.invokevirtual 188, 3) := dk_182 0 188 (dk_at dksX0_told_2 9 rfl rfl)
theorem dX0_told_68 : decode cX0_told 68 = .ok (.getfield 200, 3) := dk_180 0 200 (dk_at dksX0_told_2 12 rfl rfl)
theorem dX0_told_71 : decode cX0_told 71 = .ok (.ireturn, 1) := dk_172 (dk_at dksX0_told_2 15 rfl rfl)
theorem dX0_told_72 : decode cX0_told 72 = .ok (.aload_n 0, 1) := dk_42 (dk_at dksX0_told_2 16 rfl rfl)
theorem dX0_told_73 : decode cX0_told 73 = .ok (.invokevirtual 188, 3) := dk_182 0 188 (dk_at dksX0_told_2 17 rfl rfl)
theorem dX0_told_76 : decode cX0_told 76 = .ok (.getfield 203, 3) := dk_180 0 203 (dk_at dksX0_told_2 20 rfl rfl)
theorem dX0_told_79 : decode cX0_told 79 = .ok (.ireturn, 1) := dk_172 (dk_at dksX0_told_2 23 rfl rfl)
theorem dX0_told_80 : decode cX0_told 80 = .ok (.aload_n 0, 1) := dk_42 (dk_at dksX0_told_3 0 rfl rfl)
theorem dX0_told_81 : decode cX0_told 81 = .ok (.invokevirtual 188, 3) := dk_182 0 188 (dk_at dksX0_told_3 1 rfl rfl)
theorem dX0_told_84 : decode cX0_told 84 = .ok (.getfield 206, 3) := dk_180 0 206 (dk_at dksX0_told_3 4 rfl rfl)
theorem dX0_told_87 : decode cX0_told 87 = .ok (.ireturn, 1) := dk_172 (dk_at dksX0_told_3 7 rfl rfl)
theorem dX0_told_88 : decode cX0_told 88 = .ok (.aload_n 0, 1) := dk_42 (dk_at dksX0_told_3 8 rfl rfl)
theorem dX0_told_89 : decode cX0_told 89 = .ok (.getfield 55, 3) := dk_180 0 55 (dk_at dksX0_told_3 9 rfl rfl)
theorem dX0_told_92 : decode cX0_told 92 = .ok (.getfield 183, 3) := dk_180 0 183 (dk_at dksX0_told_3 12 rfl rfl)
theorem dX0_told_95 : decode cX0_told 95 = .ok (.invokevirtual 258, 3) := dk_182 1 2 (dk_at dksX0_told_3 15 rfl rfl)
theorem dX0_told_98 : decode cX0_told 98 = .ok (.ifCond .eq 7, 3) := dk_153 0 7 (dk_at dksX0_told_3 18 rfl rfl)
theorem dX0_told_101 : decode cX0_told 101 = .ok (.iconst 1, 1) := dk_4 (dk_at dksX0_told_3 21 rfl rfl)
theorem dX0_told_102 : decode cX0_told 102 = .ok (.goto 4, 3) := dk_167 0 4 (dk_at dksX0_told_4 0 rfl rfl)
theorem dX0_told_105 : decode cX0_told 105 = .ok (.iconst 0, 1) := dk_3 (dk_at dksX0_told_4 3 rfl rfl)
theorem dX0_told_106 : decode cX0_told 106 = .ok (.ireturn, 1) := dk_172 (dk_at dksX0_told_4 4 rfl rfl)
theorem dX0_told_107 : decode cX0_told 107 = .ok (.iconst (-1), 1) := dk_2 (dk_at dksX0_told_4 5 rfl rfl)
theorem dX0_told_108 : decode cX0_told 108 = .ok (.ireturn, 1) := dk_172 (dk_at dksX0_told_4 6 rfl rfl)
abbrev cX0_isIn : ByteArray := prog_1_method_19_code
def yX0_isIn : MethodName := ⟨RX0, "isIn", "(JJJ)Z"⟩
def dkwX0_isIn_0 : List UInt8 := [30, 32, 148, 155, 0, 14, 30, 22, 4, 148, 157, 0, 7, 4, 167, 0, 4, 3, 172]
abbrev dktX0_isIn_0 : List UInt8 := dkwX0_isIn_0 ++ []
theorem dksX0_isIn_0 : cX0_isIn.data.toList.drop 0 = dktX0_isIn_0 := by decide +kernel
theorem dX0_isIn_0 : decode cX0_isIn 0 = .ok (.lload_n 0, 1) := dk_30 (dk_at dksX0_isIn_0 0 rfl rfl)
theorem dX0_isIn_1 : decode cX0_isIn 1 = .ok (.lload_n 2, 1) := dk_32 (dk_at dksX0_isIn_0 1 rfl rfl)
theorem dX0_isIn_2 : decode cX0_isIn 2 = .ok (.lcmp, 1) := dk_148 (dk_at dksX0_isIn_0 2 rfl rfl)
theorem dX0_isIn_3 : decode cX0_isIn 3 = .ok (.ifCond .lt 14, 3) := dk_155 0 14 (dk_at dksX0_isIn_0 3 rfl rfl)
theorem dX0_isIn_6 : decode cX0_isIn 6 = .ok (.lload_n 0, 1) := dk_30 (dk_at dksX0_isIn_0 6 rfl rfl)
theorem dX0_isIn_7 : decode cX0_isIn 7 = .ok (.lload 4, 2) := dk_22 4 (dk_at dksX0_isIn_0 7 rfl rfl)
theorem dX0_isIn_9 : decode cX0_isIn 9 = .ok (.lcmp, 1) := dk_148 (dk_at dksX0_isIn_0 9 rfl rfl)
theorem dX0_isIn_10 : decode cX0_isIn 10 = .ok (.ifCond .gt 7, 3) := dk_157 0 7 (dk_at dksX0_isIn_0 10 rfl rfl)
theorem dX0_isIn_13 : decode cX0_isIn 13 = .ok (.iconst 1, 1) := dk_4 (dk_at dksX0_isIn_0 13 rfl rfl)
theorem dX0_isIn_14 : decode cX0_isIn 14 = .ok (.goto 4, 3) := dk_167 0 4 (dk_at dksX0_isIn_0 14 rfl rfl)
theorem dX0_isIn_17 : decode cX0_isIn 17 = .ok (.iconst 0, 1) := dk_3 (dk_at dksX0_isIn_0 17 rfl rfl)
theorem dX0_isIn_18 : decode cX0_isIn 18 = .ok (.ireturn, 1) := dk_172 (dk_at dksX0_isIn_0 18 rfl rfl)
abbrev cX0_bridge : ByteArray := prog_1_method_34_code
def yX0_bridge : MethodName := ⟨RX0, "bridge", "(II)I"⟩
def dkwX0_bridge_6 : List UInt8 := [182, 1, 44, 172]
abbrev dktX0_bridge_6 : List UInt8 := dkwX0_bridge_6 ++ []
def dkwX0_bridge_5 : List UInt8 := [172, 45, 180, 1, 32, 172, 45, 180, 1, 35, 172, 45, 180, 1, 38, 172, 45, 180, 1, 41, 172, 45]
abbrev dktX0_bridge_5 : List UInt8 := dkwX0_bridge_5 ++ dktX0_bridge_6
def dkwX0_bridge_4 : List UInt8 := [45, 180, 1, 16, 172, 45, 180, 1, 21, 172, 45, 180, 1, 24, 172, 45, 180, 1, 27, 172, 45, 180, 1, 30]
abbrev dktX0_bridge_4 : List UInt8 := dkwX0_bridge_4 ++ dktX0_bridge_5
def dkwX0_bridge_3 : List UInt8 := [170, 0, 0, 0, 0, 0, 96, 0, 0, 0, 0, 0, 0, 0, 8, 0, 0, 0, 51, 0, 0, 0, 56, 0, 0, 0, 61, 0, 0, 0, 66, 0, 0, 0, 71, 0, 0, 0, 76, 0, 0, 0, 81, 0, 0, 0, 86, 0, 0, 0, 91]
abbrev dktX0_bridge_3 : List UInt8 := dkwX0_bridge_3 ++ dktX0_bridge_4
def dkwX0_bridge_2 : List UInt8 := [50, 78, 28]
abbrev dktX0_bridge_2 : List UInt8 := dkwX0_bridge_2 ++ dktX0_bridge_3
def dkwX0_bridge_1 : List UInt8 := [167, 0, 4, 4, 181, 0, 110, 42, 180, 0, 110, 158, 0, 5, 2, 172, 42, 182, 0, 188, 180, 1, 12, 27]
abbrev dktX0_bridge_1 : List UInt8 := dkwX0_bridge_1 ++ dktX0_bridge_2
def dkwX0_bridge_0 : List UInt8 := [42, 42, 27, 182, 1, 6, 153, 0, 19, 28, 133, 9, 20, 1, 10, 184, 0, 196, 153, 0, 7, 3]
abbrev dktX0_bridge_0 : List UInt8 := dkwX0_bridge_0 ++ dktX0_bridge_1
theorem dksX0_bridge_0 : cX0_bridge.data.toList.drop 0 = dktX0_bridge_0 := by decide +kernel
theorem dksX0_bridge_1 : cX0_bridge.data.toList.drop 22 = dktX0_bridge_1 := dk_seg dksX0_bridge_0 22 rfl rfl
theorem dksX0_bridge_2 : cX0_bridge.data.toList.drop 46 = dktX0_bridge_2 := dk_seg dksX0_bridge_1 24 rfl rfl
theorem dksX0_bridge_3 : cX0_bridge.data.toList.drop 49 = dktX0_bridge_3 := dk_seg dksX0_bridge_2 3 rfl rfl
theorem dksX0_bridge_4 : cX0_bridge.data.toList.drop 100 = dktX0_bridge_4 := dk_seg dksX0_bridge_3 51 rfl rfl
theorem dksX0_bridge_5 : cX0_bridge.data.toList.drop 124 = dktX0_bridge_5 := dk_seg dksX0_bridge_4 24 rfl rfl
theorem dksX0_bridge_6 : cX0_bridge.data.toList.drop 146 = dktX0_bridge_6 := dk_seg dksX0_bridge_5 22 rfl rfl
theorem dX0_bridge_0 : decode cX0_bridge 0 = .ok (.aload_n 0, 1) := dk_42 (dk_at dksX0_bridge_0 0 rfl rfl)
theorem dX0_bridge_1 : decode cX0_bridge 1 = .ok (.aload_n 0, 1) := dk_42 (dk_at dksX0_bridge_0 1 rfl rfl)
theorem dX0_bridge_2 : decode cX0_bridge 2 = .ok (.iload_n 1, 1) := dk_27 (dk_at dksX0_bridge_0 2 rfl rfl)
theorem dX0_bridge_3 : decode cX0_bridge 3 = .ok (.invokevirtual 262, 3) := dk_182 1 6 (dk_at dksX0_bridge_0 3 rfl rfl)
theorem dX0_bridge_6 : decode cX0_bridge 6 = .ok (.ifCond .eq 19, 3) := dk_153 0 19 (dk_at dksX0_bridge_0 6 rfl rfl)
theorem dX0_bridge_9 : decode cX0_bridge 9 = .ok (.iload_n 2, 1) := dk_28 (dk_at dksX0_bridge_0 9 rfl rfl)
theorem dX0_bridge_10 : decode cX0_bridge 10 = .ok (.i2l, 1) := dk_133 (dk_at dksX0_bridge_0 10 rfl rfl)
theorem dX0_bridge_11 : decode cX0_bridge 11 = .ok (.lconst 0, 1) := dk_9 (dk_at dksX0_bridge_0 11 rfl rfl)
theorem dX0_bridge_12 : decode cX0_bridge 12 = .ok (.ldc2_w 266, 3) := dk_20 1 10 (dk_at dksX0_bridge_0 12 rfl rfl)
theorem dX0_bridge_15 : decode cX0_bridge 15 = .ok (.invokestatic 196, 3) := dk_184 0 196 (dk_at dksX0_bridge_0 15 rfl rfl)
theorem dX0_bridge_18 : decode cX0_bridge 18 = .ok (.ifCond .eq 7, 3) := dk_153 0 7 (dk_at dksX0_bridge_0 18 rfl rfl)
theorem dX0_bridge_21 : decode cX0_bridge 21 = .ok (.iconst 0, 1) := dk_3 (dk_at dksX0_bridge_0 21 rfl rfl)
theorem dX0_bridge_22 : decode cX0_bridge 22 = .ok (.goto 4, 3) := dk_167 0 4 (dk_at dksX0_bridge_1 0 rfl rfl)
theorem dX0_bridge_25 : decode cX0_bridge 25 = .ok (.iconst 1, 1) := dk_4 (dk_at dksX0_bridge_1 3 rfl rfl)
theorem dX0_bridge_26 : decode cX0_bridge 26 = .ok (.putfield 110, 3) := dk_181 0 110 (dk_at dksX0_bridge_1 4 rfl rfl)
theorem dX0_bridge_29 : decode cX0_bridge 29 = .ok (.aload_n 0, 1) := dk_42 (dk_at dksX0_bridge_1 7 rfl rfl)
theorem dX0_bridge_30 : decode cX0_bridge 30 = .ok (.getfield 110, 3) := dk_180 0 110 (dk_at dksX0_bridge_1 8 rfl rfl)
theorem dX0_bridge_33 : decode cX0_bridge 33 = .ok (.ifCond .le 5, 3) := dk_158 0 5 (dk_at dksX0_bridge_1 11 rfl rfl)
theorem dX0_bridge_36 : decode cX0_bridge 36 = .ok (.iconst (-1), 1) := dk_2 (dk_at dksX0_bridge_1 14 rfl rfl)
theorem dX0_bridge_37 : decode cX0_bridge 37 = .ok (.ireturn, 1) := dk_172 (dk_at dksX0_bridge_1 15 rfl rfl)
theorem dX0_bridge_38 : decode cX0_bridge 38 = .ok (.aload_n 0, 1) := dk_42 (dk_at dksX0_bridge_1 16 rfl rfl)
theorem dX0_bridge_39 : decode cX0_bridge 39 = .ok (.invokevirtual 188, 3) := dk_182 0 188 (dk_at dksX0_bridge_1 17 rfl rfl)
theorem dX0_bridge_42 : decode cX0_bridge 42 = .ok (.getfield 268, 3) := dk_180 1 12 (dk_at dksX0_bridge_1 20 rfl rfl)
theorem dX0_bridge_45 : decode cX0_bridge 45 = .ok (.iload_n 1, 1) := dk_27 (dk_at dksX0_bridge_1 23 rfl rfl)
theorem dX0_bridge_46 : decode cX0_bridge 46 = .ok (.aaload, 1) := dk_50 (dk_at dksX0_bridge_2 0 rfl rfl)
theorem dX0_bridge_47 : decode cX0_bridge 47 = .ok (.astore_n 3, 1) := dk_78 (dk_at dksX0_bridge_2 1 rfl rfl)
theorem dX0_bridge_48 : decode cX0_bridge 48 = .ok (.iload_n 2, 1) := dk_28 (dk_at dksX0_bridge_2 2 rfl rfl)
theorem dX0_bridge_49 : decode cX0_bridge 49 = .ok (.tableswitch 96 0 8 #[51, 56, 61, 66, 71, 76, 81, 86, 91], 51) := by decide +kernel
theorem dX0_bridge_100 : decode cX0_bridge 100 = .ok (.aload_n 3, 1) := dk_45 (dk_at dksX0_bridge_4 0 rfl rfl)
theorem dX0_bridge_101 : decode cX0_bridge 101 = .ok (.getfield 272, 3) := dk_180 1 16 (dk_at dksX0_bridge_4 1 rfl rfl)
theorem dX0_bridge_104 : decode cX0_bridge 104 = .ok (.ireturn, 1) := dk_172 (dk_at dksX0_bridge_4 4 rfl rfl)
theorem dX0_bridge_105 : decode cX0_bridge 105 = .ok (.aload_n 3, 1) := dk_45 (dk_at dksX0_bridge_4 5 rfl rfl)
theorem dX0_bridge_106 : decode cX0_bridge 106 = .ok (.getfield 277, 3) := dk_180 1 21 (dk_at dksX0_bridge_4 6 rfl rfl)
theorem dX0_bridge_109 : decode cX0_bridge 109 = .ok (.ireturn, 1) := dk_172 (dk_at dksX0_bridge_4 9 rfl rfl)
theorem dX0_bridge_110 : decode cX0_bridge 110 = .ok (.aload_n 3, 1) := dk_45 (dk_at dksX0_bridge_4 10 rfl rfl)
theorem dX0_bridge_111 : decode cX0_bridge 111 = .ok (.getfield 280, 3) := dk_180 1 24 (dk_at dksX0_bridge_4 11 rfl rfl)
theorem dX0_bridge_114 : decode cX0_bridge 114 = .ok (.ireturn, 1) := dk_172 (dk_at dksX0_bridge_4 14 rfl rfl)
theorem dX0_bridge_115 : decode cX0_bridge 115 = .ok (.aload_n 3, 1) := dk_45 (dk_at dksX0_bridge_4 15 rfl rfl)
theorem dX0_bridge_116 : decode cX0_bridge 116 = .ok (.getfield 283, 3) := dk_180 1 27 (dk_at dksX0_bridge_4 16 rfl rfl)
theorem dX0_bridge_119 : decode cX0_bridge 119 = .ok (.ireturn, 1) := dk_172 (dk_at dksX0_bridge_4 19 rfl rfl)
theorem dX0_bridge_120 : decode cX0_bridge 120 = .ok (.aload_n 3, 1) := dk_45 (dk_at dksX0_bridge_4 20 rfl rfl)
theorem dX0_bridge_121 : decode cX0_bridge 121 = .ok (.getfield 286, 3) := dk_180 1 30 (dk_at dksX0_bridge_4 21 rfl rfl)
theorem dX0_bridge_124 : decode cX0_bridge 124 = .ok (.ireturn, 1) := dk_172 (dk_at dksX0_bridge_5 0 rfl rfl)
theorem dX0_bridge_125 : decode cX0_bridge 125 = .ok (.aload_n 3, 1) := dk_45 (dk_at dksX0_bridge_5 1 rfl rfl)
theorem dX0_bridge_126 : decode cX0_bridge 126 = .ok (.getfield 288, 3) := dk_180 1 32 (dk_at dksX0_bridge_5 2 rfl rfl)
theorem dX0_bridge_129 : decode cX0_bridge 129 = .ok (.ireturn, 1) := dk_172 (dk_at dksX0_bridge_5 5 rfl rfl)
theorem dX0_bridge_130 : decode cX0_bridge 130 = .ok (.aload_n 3, 1) := dk_45 (dk_at dksX0_bridge_5 6 rfl rfl)
theorem dX0_bridge_131 : decode cX0_bridge 131 = .ok (.getfield 291, 3) := dk_180 1 35 (dk_at dksX0_bridge_5 7 rfl rfl)
theorem dX0_bridge_134 : decode cX0_bridge 134 = .ok (.ireturn, 1) := dk_172 (dk_at dksX0_bridge_5 10 rfl rfl)
theorem dX0_bridge_135 : decode cX0_bridge 135 = .ok (.aload_n 3, 1) := dk_45 (dk_at dksX0_bridge_5 11 rfl rfl)
theorem dX0_bridge_136 : decode cX0_bridge 136 = .ok (.getfield 294, 3) := dk_180 1 38 (dk_at dksX0_bridge_5 12 rfl rfl)
theorem dX0_bridge_139 : decode cX0_bridge 139 = .ok (.ireturn, 1) := dk_172 (dk_at dksX0_bridge_5 15 rfl rfl)
theorem dX0_bridge_140 : decode cX0_bridge 140 = .ok (.aload_n 3, 1) := dk_45 (dk_at dksX0_bridge_5 16 rfl rfl)
theorem dX0_bridge_141 : decode cX0_bridge 141 = .ok (.getfield 297, 3) := dk_180 1 41 (dk_at dksX0_bridge_5 17 rfl rfl)
theorem dX0_bridge_144 : decode cX0_bridge 144 = .ok (.ireturn, 1) := dk_172 (dk_at dksX0_bridge_5 20 rfl rfl)
theorem dX0_bridge_145 : decode cX0_bridge 145 = .ok (.aload_n 3, 1) := dk_45 (dk_at dksX0_bridge_5 21 rfl rfl)
theorem dX0_bridge_146 : decode cX0_bridge 146 = .ok (.invokevirtual 300, 3) := dk_182 1 44 (dk_at dksX0_bridge_6 0 rfl rfl)
theorem dX0_bridge_149 : decode cX0_bridge 149 = .ok (.ireturn, 1) := dk_172 (dk_at dksX0_bridge_6 3 rfl rfl)
abbrev cX0_isBridge : ByteArray := prog_1_method_22_code
def yX0_isBridge : MethodName := ⟨RX0, "isBridge", "(I)Z"⟩
def dkwX0_isBridge_0 : List UInt8 := [27, 133, 9, 42, 182, 0, 188, 180, 0, 200, 4, 100, 133, 184, 0, 196, 172]
abbrev dktX0_isBridge_0 : List UInt8 := dkwX0_isBridge_0 ++ []
theorem dksX0_isBridge_0 : cX0_isBridge.data.toList.drop 0 = dktX0_isBridge_0 := by decide +kernel
theorem dX0_isBridge_0 : decode cX0_isBridge 0 = .ok (.iload_n 1, 1) := dk_27 (dk_at dksX0_isBridge_0 0 rfl rfl)
theorem dX0_isBridge_1 : decode cX0_isBridge 1 = .ok (.i2l, 1) := dk_133 (dk_at dksX0_isBridge_0 1 rfl rfl)
theorem dX0_isBridge_2 : decode cX0_isBridge 2 = .ok (.lconst 0, 1) := dk_9 (dk_at dksX0_isBridge_0 2 rfl rfl)
theorem dX0_isBridge_3 : decode cX0_isBridge 3 = .ok (.aload_n 0, 1) := dk_42 (dk_at dksX0_isBridge_0 3 rfl rfl)
theorem dX0_isBridge_4 : decode cX0_isBridge 4 = .ok (.invokevirtual 188, 3) := dk_182 0 188 (dk_at dksX0_isBridge_0 4 rfl rfl)
theorem dX0_isBridge_7 : decode cX0_isBridge 7 = .ok (.getfield 200, 3) := dk_180 0 200 (dk_at dksX0_isBridge_0 7 rfl rfl)
theorem dX0_isBridge_10 : decode cX0_isBridge 10 = .ok (.iconst 1, 1) := dk_4 (dk_at dksX0_isBridge_0 10 rfl rfl)
theorem dX0_isBridge_11 : decode cX0_isBridge 11 = .ok (.isub, 1) := dk_100 (dk_at dksX0_isBridge_0 11 rfl rfl)
theorem dX0_isBridge_12 : decode cX0_isBridge 12 = .ok (.i2l, 1) := dk_133 (dk_at dksX0_isBridge_0 12 rfl rfl)
theorem dX0_isBridge_13 : decode cX0_isBridge 13 = .ok (.invokestatic 196, 3) := dk_184 0 196 (dk_at dksX0_isBridge_0 13 rfl rfl)
theorem dX0_isBridge_16 : decode cX0_isBridge 16 = .ok (.ireturn, 1) := dk_172 (dk_at dksX0_isBridge_0 16 rfl rfl)
abbrev cX0_person : ByteArray := prog_1_method_35_code
def yX0_person : MethodName := ⟨RX0, "person", "(II)I"⟩
def dkwX0_person_4 : List UInt8 := [153, 0, 7, 4, 167, 0, 4, 3, 172]
abbrev dktX0_person_4 : List UInt8 := dkwX0_person_4 ++ []
def dkwX0_person_3 : List UInt8 := [182, 1, 65, 167, 0, 27, 28, 5, 160, 0, 10, 45, 180, 1, 69, 167, 0, 15, 45, 180, 1, 72]
abbrev dktX0_person_3 : List UInt8 := dkwX0_person_3 ++ dktX0_person_4
def dkwX0_person_2 : List UInt8 := [50, 78, 28, 154, 0, 10, 45, 180, 1, 57, 167, 0, 43, 28, 4, 160, 0, 14, 42, 45, 180, 1, 62]
abbrev dktX0_person_2 : List UInt8 := dkwX0_person_2 ++ dktX0_person_3
def dkwX0_person_1 : List UInt8 := [167, 0, 4, 4, 181, 0, 110, 42, 180, 0, 110, 158, 0, 5, 2, 172, 42, 182, 0, 188, 180, 1, 53, 27]
abbrev dktX0_person_1 : List UInt8 := dkwX0_person_1 ++ dktX0_person_2
def dkwX0_person_0 : List UInt8 := [42, 42, 27, 182, 1, 48, 153, 0, 19, 28, 133, 9, 20, 1, 51, 184, 0, 196, 153, 0, 7, 3]
abbrev dktX0_person_0 : List UInt8 := dkwX0_person_0 ++ dktX0_person_1
theorem dksX0_person_0 : cX0_person.data.toList.drop 0 = dktX0_person_0 := by decide +kernel
theorem dksX0_person_1 : cX0_person.data.toList.drop 22 = dktX0_person_1 := dk_seg dksX0_person_0 22 rfl rfl
theorem dksX0_person_2 : cX0_person.data.toList.drop 46 = dktX0_person_2 := dk_seg dksX0_person_1 24 rfl rfl
theorem dksX0_person_3 : cX0_person.data.toList.drop 69 = dktX0_person_3 := dk_seg dksX0_person_2 23 rfl rfl
theorem dksX0_person_4 : cX0_person.data.toList.drop 91 = dktX0_person_4 := dk_seg dksX0_person_3 22 rfl rfl
theorem dX0_person_0 : decode cX0_person 0 = .ok (.aload_n 0, 1) := dk_42 (dk_at dksX0_person_0 0 rfl rfl)
theorem dX0_person_1 : decode cX0_person 1 = .ok (.aload_n 0, 1) := dk_42 (dk_at dksX0_person_0 1 rfl rfl)
theorem dX0_person_2 : decode cX0_person 2 = .ok (.iload_n 1, 1) := dk_27 (dk_at dksX0_person_0 2 rfl rfl)
theorem dX0_person_3 : decode cX0_person 3 = .ok (.invokevirtual 304, 3) := dk_182 1 48 (dk_at dksX0_person_0 3 rfl rfl)
theorem dX0_person_6 : decode cX0_person 6 = .ok (.ifCond .eq 19, 3) := dk_153 0 19 (dk_at dksX0_person_0 6 rfl rfl)
theorem dX0_person_9 : decode cX0_person 9 = .ok (.iload_n 2, 1) := dk_28 (dk_at dksX0_person_0 9 rfl rfl)
theorem dX0_person_10 : decode cX0_person 10 = .ok (.i2l, 1) := dk_133 (dk_at dksX0_person_0 10 rfl rfl)
theorem dX0_person_11 : decode cX0_person 11 = .ok (.lconst 0, 1) := dk_9 (dk_at dksX0_person_0 11 rfl rfl)
theorem dX0_person_12 : decode cX0_person 12 = .ok (.ldc2_w 307, 3) := dk_20 1 51 (dk_at dksX0_person_0 12 rfl rfl)
theorem dX0_person_15 : decode cX0_person 15 = .ok (.invokestatic 196, 3) := dk_184 0 196 (dk_at dksX0_person_0 15 rfl rfl)
theorem dX0_person_18 : decode cX0_person 18 = .ok (.ifCond .eq 7, 3) := dk_153 0 7 (dk_at dksX0_person_0 18 rfl rfl)
theorem dX0_person_21 : decode cX0_person 21 = .ok (.iconst 0, 1) := dk_3 (dk_at dksX0_person_0 21 rfl rfl)
theorem dX0_person_22 : decode cX0_person 22 = .ok (.goto 4, 3) := dk_167 0 4 (dk_at dksX0_person_1 0 rfl rfl)
theorem dX0_person_25 : decode cX0_person 25 = .ok (.iconst 1, 1) := dk_4 (dk_at dksX0_person_1 3 rfl rfl)
theorem dX0_person_26 : decode cX0_person 26 = .ok (.putfield 110, 3) := dk_181 0 110 (dk_at dksX0_person_1 4 rfl rfl)
theorem dX0_person_29 : decode cX0_person 29 = .ok (.aload_n 0, 1) := dk_42 (dk_at dksX0_person_1 7 rfl rfl)
theorem dX0_person_30 : decode cX0_person 30 = .ok (.getfield 110, 3) := dk_180 0 110 (dk_at dksX0_person_1 8 rfl rfl)
theorem dX0_person_33 : decode cX0_person 33 = .ok (.ifCond .le 5, 3) := dk_158 0 5 (dk_at dksX0_person_1 11 rfl rfl)
theorem dX0_person_36 : decode cX0_person 36 = .ok (.iconst (-1), 1) := dk_2 (dk_at dksX0_person_1 14 rfl rfl)
theorem dX0_person_37 : decode cX0_person 37 = .ok (.ireturn, 1) := dk_172 (dk_at dksX0_person_1 15 rfl rfl)
theorem dX0_person_38 : decode cX0_person 38 = .ok (.aload_n 0, 1) := dk_42 (dk_at dksX0_person_1 16 rfl rfl)
theorem dX0_person_39 : decode cX0_person 39 = .ok (.invokevirtual 188, 3) := dk_182 0 188 (dk_at dksX0_person_1 17 rfl rfl)
theorem dX0_person_42 : decode cX0_person 42 = .ok (.getfield 309, 3) := dk_180 1 53 (dk_at dksX0_person_1 20 rfl rfl)
theorem dX0_person_45 : decode cX0_person 45 = .ok (.iload_n 1, 1) := dk_27 (dk_at dksX0_person_1 23 rfl rfl)
theorem dX0_person_46 : decode cX0_person 46 = .ok (.aaload, 1) := dk_50 (dk_at dksX0_person_2 0 rfl rfl)
theorem dX0_person_47 : decode cX0_person 47 = .ok (.astore_n 3, 1) := dk_78 (dk_at dksX0_person_2 1 rfl rfl)
theorem dX0_person_48 : decode cX0_person 48 = .ok (.iload_n 2, 1) := dk_28 (dk_at dksX0_person_2 2 rfl rfl)
theorem dX0_person_49 : decode cX0_person 49 = .ok (.ifCond .ne 10, 3) := dk_154 0 10 (dk_at dksX0_person_2 3 rfl rfl)
theorem dX0_person_52 : decode cX0_person 52 = .ok (.aload_n 3, 1) := dk_45 (dk_at dksX0_person_2 6 rfl rfl)
theorem dX0_person_53 : decode cX0_person 53 = .ok (.getfield 313, 3) := dk_180 1 57 (dk_at dksX0_person_2 7 rfl rfl)
theorem dX0_person_56 : decode cX0_person 56 = .ok (.goto 43, 3) := dk_167 0 43 (dk_at dksX0_person_2 10 rfl rfl)
theorem dX0_person_59 : decode cX0_person 59 = .ok (.iload_n 2, 1) := dk_28 (dk_at dksX0_person_2 13 rfl rfl)
theorem dX0_person_60 : decode cX0_person 60 = .ok (.iconst 1, 1) := dk_4 (dk_at dksX0_person_2 14 rfl rfl)
theorem dX0_person_61 : decode cX0_person 61 = .ok (.if_icmp .ne 14, 3) := dk_160 0 14 (dk_at dksX0_person_2 15 rfl rfl)
theorem dX0_person_64 : decode cX0_person 64 = .ok (.aload_n 0, 1) := dk_42 (dk_at dksX0_person_2 18 rfl rfl)
theorem dX0_person_65 : decode cX0_person 65 = .ok (.aload_n 3, 1) := dk_45 (dk_at dksX0_person_2 19 rfl rfl)
theorem dX0_person_66 : decode cX0_person 66 = .ok (.getfield 318, 3) := dk_180 1 62 (dk_at dksX0_person_2 20 rfl rfl)
theorem dX0_person_69 : decode cX0_person 69 = .ok (.invokevirtual 321, 3) := dk_182 1 65 (dk_at dksX0_person_3 0 rfl rfl)
theorem dX0_person_72 : decode cX0_person 72 = .ok (.goto 27, 3) := dk_167 0 27 (dk_at dksX0_person_3 3 rfl rfl)
theorem dX0_person_75 : decode cX0_person 75 = .ok (.iload_n 2, 1) := dk_28 (dk_at dksX0_person_3 6 rfl rfl)
theorem dX0_person_76 : decode cX0_person 76 = .ok (.iconst 2, 1) := dk_5 (dk_at dksX0_person_3 7 rfl rfl)
theorem dX0_person_77 : decode cX0_person 77 = .ok (.if_icmp .ne 10, 3) := dk_160 0 10 (dk_at dksX0_person_3 8 rfl rfl)
theorem dX0_person_80 : decode cX0_person 80 = .ok (.aload_n 3, 1) := dk_45 (dk_at dksX0_person_3 11 rfl rfl)
theorem dX0_person_81 : decode cX0_person 81 = .ok (.getfield 325, 3) := dk_180 1 69 (dk_at dksX0_person_3 12 rfl rfl)
theorem dX0_person_84 : decode cX0_person 84 = .ok (.goto 15, 3) := dk_167 0 15 (dk_at dksX0_person_3 15 rfl rfl)
theorem dX0_person_87 : decode cX0_person 87 = .ok (.aload_n 3, 1) := dk_45 (dk_at dksX0_person_3 18 rfl rfl)
theorem dX0_person_88 : decode cX0_person 88 = .ok (.getfield 328, 3) := dk_180 1 72 (dk_at dksX0_person_3 19 rfl rfl)
theorem dX0_person_91 : decode cX0_person 91 = .ok (.ifCond .eq 7, 3) := dk_153 0 7 (dk_at dksX0_person_4 0 rfl rfl)
theorem dX0_person_94 : decode cX0_person 94 = .ok (.iconst 1, 1) := dk_4 (dk_at dksX0_person_4 3 rfl rfl)
theorem dX0_person_95 : decode cX0_person 95 = .ok (.goto 4, 3) := dk_167 0 4 (dk_at dksX0_person_4 4 rfl rfl)
theorem dX0_person_98 : decode cX0_person 98 = .ok (.iconst 0, 1) := dk_3 (dk_at dksX0_person_4 7 rfl rfl)
theorem dX0_person_99 : decode cX0_person 99 = .ok (.ireturn, 1) := dk_172 (dk_at dksX0_person_4 8 rfl rfl)
abbrev cX0_isPerson : ByteArray := prog_1_method_23_code
def yX0_isPerson : MethodName := ⟨RX0, "isPerson", "(I)Z"⟩
def dkwX0_isPerson_0 : List UInt8 := [27, 133, 9, 42, 182, 0, 188, 180, 0, 203, 4, 100, 133, 184, 0, 196, 172]
abbrev dktX0_isPerson_0 : List UInt8 := dkwX0_isPerson_0 ++ []
theorem dksX0_isPerson_0 : cX0_isPerson.data.toList.drop 0 = dktX0_isPerson_0 := by decide +kernel
theorem dX0_isPerson_0 : decode cX0_isPerson 0 = .ok (.iload_n 1, 1) := dk_27 (dk_at dksX0_isPerson_0 0 rfl rfl)
theorem dX0_isPerson_1 : decode cX0_isPerson 1 = .ok (.i2l, 1) := dk_133 (dk_at dksX0_isPerson_0 1 rfl rfl)
theorem dX0_isPerson_2 : decode cX0_isPerson 2 = .ok (.lconst 0, 1) := dk_9 (dk_at dksX0_isPerson_0 2 rfl rfl)
theorem dX0_isPerson_3 : decode cX0_isPerson 3 = .ok (.aload_n 0, 1) := dk_42 (dk_at dksX0_isPerson_0 3 rfl rfl)
theorem dX0_isPerson_4 : decode cX0_isPerson 4 = .ok (.invokevirtual 188, 3) := dk_182 0 188 (dk_at dksX0_isPerson_0 4 rfl rfl)
theorem dX0_isPerson_7 : decode cX0_isPerson 7 = .ok (.getfield 203, 3) := dk_180 0 203 (dk_at dksX0_isPerson_0 7 rfl rfl)
theorem dX0_isPerson_10 : decode cX0_isPerson 10 = .ok (.iconst 1, 1) := dk_4 (dk_at dksX0_isPerson_0 10 rfl rfl)
theorem dX0_isPerson_11 : decode cX0_isPerson 11 = .ok (.isub, 1) := dk_100 (dk_at dksX0_isPerson_0 11 rfl rfl)
theorem dX0_isPerson_12 : decode cX0_isPerson 12 = .ok (.i2l, 1) := dk_133 (dk_at dksX0_isPerson_0 12 rfl rfl)
theorem dX0_isPerson_13 : decode cX0_isPerson 13 = .ok (.invokestatic 196, 3) := dk_184 0 196 (dk_at dksX0_isPerson_0 13 rfl rfl)
theorem dX0_isPerson_16 : decode cX0_isPerson 16 = .ok (.ireturn, 1) := dk_172 (dk_at dksX0_isPerson_0 16 rfl rfl)
abbrev cX0_answer : ByteArray := prog_1_method_25_code
def yX0_answer : MethodName := ⟨RX0, "answer", "(I)I"⟩
def dkwX0_answer_0 : List UInt8 := [42, 27, 156, 0, 8, 16, 6, 167, 0, 4, 3, 181, 0, 110, 27, 172]
abbrev dktX0_answer_0 : List UInt8 := dkwX0_answer_0 ++ []
theorem dksX0_answer_0 : cX0_answer.data.toList.drop 0 = dktX0_answer_0 := by decide +kernel
theorem dX0_answer_0 : decode cX0_answer 0 = .ok (.aload_n 0, 1) := dk_42 (dk_at dksX0_answer_0 0 rfl rfl)
theorem dX0_answer_1 : decode cX0_answer 1 = .ok (.iload_n 1, 1) := dk_27 (dk_at dksX0_answer_0 1 rfl rfl)
theorem dX0_answer_2 : decode cX0_answer 2 = .ok (.ifCond .ge 8, 3) := dk_156 0 8 (dk_at dksX0_answer_0 2 rfl rfl)
theorem dX0_answer_5 : decode cX0_answer 5 = .ok (.bipush 6, 2) := dk_16 6 (dk_at dksX0_answer_0 5 rfl rfl)
theorem dX0_answer_7 : decode cX0_answer 7 = .ok (.goto 4, 3) := dk_167 0 4 (dk_at dksX0_answer_0 7 rfl rfl)
theorem dX0_answer_10 : decode cX0_answer 10 = .ok (.iconst 0, 1) := dk_3 (dk_at dksX0_answer_0 10 rfl rfl)
theorem dX0_answer_11 : decode cX0_answer 11 = .ok (.putfield 110, 3) := dk_181 0 110 (dk_at dksX0_answer_0 11 rfl rfl)
theorem dX0_answer_14 : decode cX0_answer 14 = .ok (.iload_n 1, 1) := dk_27 (dk_at dksX0_answer_0 14 rfl rfl)
theorem dX0_answer_15 : decode cX0_answer 15 = .ok (.ireturn, 1) := dk_172 (dk_at dksX0_answer_0 15 rfl rfl)
abbrev cX0_stones : ByteArray := prog_1_method_36_code
def yX0_stones : MethodName := ⟨RX0, "stones", "(I)I"⟩
def dkwX0_stones_1 : List UInt8 := [2, 167, 0, 12, 42, 182, 0, 188, 180, 1, 79, 27, 46, 172]
abbrev dktX0_stones_1 : List UInt8 := dkwX0_stones_1 ++ []
def dkwX0_stones_0 : List UInt8 := [42, 42, 27, 182, 1, 76, 153, 0, 7, 3, 167, 0, 4, 4, 181, 0, 110, 42, 180, 0, 110, 158, 0, 7]
abbrev dktX0_stones_0 : List UInt8 := dkwX0_stones_0 ++ dktX0_stones_1
theorem dksX0_stones_0 : cX0_stones.data.toList.drop 0 = dktX0_stones_0 := by decide +kernel
theorem dksX0_stones_1 : cX0_stones.data.toList.drop 24 = dktX0_stones_1 := dk_seg dksX0_stones_0 24 rfl rfl
theorem dX0_stones_0 : decode cX0_stones 0 = .ok (.aload_n 0, 1) := dk_42 (dk_at dksX0_stones_0 0 rfl rfl)
theorem dX0_stones_1 : decode cX0_stones 1 = .ok (.aload_n 0, 1) := dk_42 (dk_at dksX0_stones_0 1 rfl rfl)
theorem dX0_stones_2 : decode cX0_stones 2 = .ok (.iload_n 1, 1) := dk_27 (dk_at dksX0_stones_0 2 rfl rfl)
theorem dX0_stones_3 : decode cX0_stones 3 = .ok (.invokevirtual 332, 3) := dk_182 1 76 (dk_at dksX0_stones_0 3 rfl rfl)
theorem dX0_stones_6 : decode cX0_stones 6 = .ok (.ifCond .eq 7, 3) := dk_153 0 7 (dk_at dksX0_stones_0 6 rfl rfl)
theorem dX0_stones_9 : decode cX0_stones 9 = .ok (.iconst 0, 1) := dk_3 (dk_at dksX0_stones_0 9 rfl rfl)
theorem dX0_stones_10 : decode cX0_stones 10 = .ok (.goto 4, 3) := dk_167 0 4 (dk_at dksX0_stones_0 10 rfl rfl)
theorem dX0_stones_13 : decode cX0_stones 13 = .ok (.iconst 1, 1) := dk_4 (dk_at dksX0_stones_0 13 rfl rfl)
theorem dX0_stones_14 : decode cX0_stones 14 = .ok (.putfield 110, 3) := dk_181 0 110 (dk_at dksX0_stones_0 14 rfl rfl)
theorem dX0_stones_17 : decode cX0_stones 17 = .ok (.aload_n 0, 1) := dk_42 (dk_at dksX0_stones_0 17 rfl rfl)
theorem dX0_stones_18 : decode cX0_stones 18 = .ok (.getfield 110, 3) := dk_180 0 110 (dk_at dksX0_stones_0 18 rfl rfl)
theorem dX0_stones_21 : decode cX0_stones 21 = .ok (.ifCond .le 7, 3) := dk_158 0 7 (dk_at dksX0_stones_0 21 rfl rfl)
theorem dX0_stones_24 : decode cX0_stones 24 = .ok (.iconst (-1), 1) := dk_2 (dk_at dksX0_stones_1 0 rfl rfl)
theorem dX0_stones_25 : decode cX0_stones 25 = .ok (.goto 12, 3) := dk_167 0 12 (dk_at dksX0_stones_1 1 rfl rfl)
theorem dX0_stones_28 : decode cX0_stones 28 = .ok (.aload_n 0, 1) := dk_42 (dk_at dksX0_stones_1 4 rfl rfl)
theorem dX0_stones_29 : decode cX0_stones 29 = .ok (.invokevirtual 188, 3) := dk_182 0 188 (dk_at dksX0_stones_1 5 rfl rfl)
theorem dX0_stones_32 : decode cX0_stones 32 = .ok (.getfield 335, 3) := dk_180 1 79 (dk_at dksX0_stones_1 8 rfl rfl)
theorem dX0_stones_35 : decode cX0_stones 35 = .ok (.iload_n 1, 1) := dk_27 (dk_at dksX0_stones_1 11 rfl rfl)
theorem dX0_stones_36 : decode cX0_stones 36 = .ok (.iaload, 1) := dk_46 (dk_at dksX0_stones_1 12 rfl rfl)
theorem dX0_stones_37 : decode cX0_stones 37 = .ok (.ireturn, 1) := dk_172 (dk_at dksX0_stones_1 13 rfl rfl)
abbrev cX0_isPlace : ByteArray := prog_1_method_21_code
def yX0_isPlace : MethodName := ⟨RX0, "isPlace", "(I)Z"⟩
def dkwX0_isPlace_0 : List UInt8 := [27, 133, 9, 42, 182, 0, 188, 180, 0, 191, 4, 100, 133, 184, 0, 196, 172]
abbrev dktX0_isPlace_0 : List UInt8 := dkwX0_isPlace_0 ++ []
theorem dksX0_isPlace_0 : cX0_isPlace.data.toList.drop 0 = dktX0_isPlace_0 := by decide +kernel
theorem dX0_isPlace_0 : decode cX0_isPlace 0 = .ok (.iload_n 1, 1) := dk_27 (dk_at dksX0_isPlace_0 0 rfl rfl)
theorem dX0_isPlace_1 : decode cX0_isPlace 1 = .ok (.i2l, 1) := dk_133 (dk_at dksX0_isPlace_0 1 rfl rfl)
theorem dX0_isPlace_2 : decode cX0_isPlace 2 = .ok (.lconst 0, 1) := dk_9 (dk_at dksX0_isPlace_0 2 rfl rfl)
theorem dX0_isPlace_3 : decode cX0_isPlace 3 = .ok (.aload_n 0, 1) := dk_42 (dk_at dksX0_isPlace_0 3 rfl rfl)
theorem dX0_isPlace_4 : decode cX0_isPlace 4 = .ok (.invokevirtual 188, 3) := dk_182 0 188 (dk_at dksX0_isPlace_0 4 rfl rfl)
theorem dX0_isPlace_7 : decode cX0_isPlace 7 = .ok (.getfield 191, 3) := dk_180 0 191 (dk_at dksX0_isPlace_0 7 rfl rfl)
theorem dX0_isPlace_10 : decode cX0_isPlace 10 = .ok (.iconst 1, 1) := dk_4 (dk_at dksX0_isPlace_0 10 rfl rfl)
theorem dX0_isPlace_11 : decode cX0_isPlace 11 = .ok (.isub, 1) := dk_100 (dk_at dksX0_isPlace_0 11 rfl rfl)
theorem dX0_isPlace_12 : decode cX0_isPlace 12 = .ok (.i2l, 1) := dk_133 (dk_at dksX0_isPlace_0 12 rfl rfl)
theorem dX0_isPlace_13 : decode cX0_isPlace 13 = .ok (.invokestatic 196, 3) := dk_184 0 196 (dk_at dksX0_isPlace_0 13 rfl rfl)
theorem dX0_isPlace_16 : decode cX0_isPlace 16 = .ok (.ireturn, 1) := dk_172 (dk_at dksX0_isPlace_0 16 rfl rfl)
abbrev cX0_at : ByteArray := prog_1_method_37_code
def yX0_at : MethodName := ⟨RX0, "at", "(I)I"⟩
def dkwX0_at_1 : List UInt8 := [2, 167, 0, 15, 42, 180, 0, 55, 180, 0, 183, 180, 1, 82, 27, 46, 172]
abbrev dktX0_at_1 : List UInt8 := dkwX0_at_1 ++ []
def dkwX0_at_0 : List UInt8 := [42, 42, 27, 182, 1, 48, 153, 0, 7, 3, 167, 0, 4, 4, 181, 0, 110, 42, 180, 0, 110, 158, 0, 7]
abbrev dktX0_at_0 : List UInt8 := dkwX0_at_0 ++ dktX0_at_1
theorem dksX0_at_0 : cX0_at.data.toList.drop 0 = dktX0_at_0 := by decide +kernel
theorem dksX0_at_1 : cX0_at.data.toList.drop 24 = dktX0_at_1 := dk_seg dksX0_at_0 24 rfl rfl
theorem dX0_at_0 : decode cX0_at 0 = .ok (.aload_n 0, 1) := dk_42 (dk_at dksX0_at_0 0 rfl rfl)
theorem dX0_at_1 : decode cX0_at 1 = .ok (.aload_n 0, 1) := dk_42 (dk_at dksX0_at_0 1 rfl rfl)
theorem dX0_at_2 : decode cX0_at 2 = .ok (.iload_n 1, 1) := dk_27 (dk_at dksX0_at_0 2 rfl rfl)
theorem dX0_at_3 : decode cX0_at 3 = .ok (.invokevirtual 304, 3) := dk_182 1 48 (dk_at dksX0_at_0 3 rfl rfl)
theorem dX0_at_6 : decode cX0_at 6 = .ok (.ifCond .eq 7, 3) := dk_153 0 7 (dk_at dksX0_at_0 6 rfl rfl)
theorem dX0_at_9 : decode cX0_at 9 = .ok (.iconst 0, 1) := dk_3 (dk_at dksX0_at_0 9 rfl rfl)
theorem dX0_at_10 : decode cX0_at 10 = .ok (.goto 4, 3) := dk_167 0 4 (dk_at dksX0_at_0 10 rfl rfl)
theorem dX0_at_13 : decode cX0_at 13 = .ok (.iconst 1, 1) := dk_4 (dk_at dksX0_at_0 13 rfl rfl)
theorem dX0_at_14 : decode cX0_at 14 = .ok (.putfield 110, 3) := dk_181 0 110 (dk_at dksX0_at_0 14 rfl rfl)
theorem dX0_at_17 : decode cX0_at 17 = .ok (.aload_n 0, 1) := dk_42 (dk_at dksX0_at_0 17 rfl rfl)
theorem dX0_at_18 : decode cX0_at 18 = .ok (.getfield 110, 3) := dk_180 0 110 (dk_at dksX0_at_0 18 rfl rfl)
theorem dX0_at_21 : decode cX0_at 21 = .ok (.ifCond .le 7, 3) := dk_158 0 7 (dk_at dksX0_at_0 21 rfl rfl)
theorem dX0_at_24 : decode cX0_at 24 = .ok (.iconst (-1), 1) := dk_2 (dk_at dksX0_at_1 0 rfl rfl)
theorem dX0_at_25 : decode cX0_at 25 = .ok (.goto 15, 3) := dk_167 0 15 (dk_at dksX0_at_1 1 rfl rfl)
theorem dX0_at_28 : decode cX0_at 28 = .ok (.aload_n 0, 1) := dk_42 (dk_at dksX0_at_1 4 rfl rfl)
theorem dX0_at_29 : decode cX0_at 29 = .ok (.getfield 55, 3) := dk_180 0 55 (dk_at dksX0_at_1 5 rfl rfl)
theorem dX0_at_32 : decode cX0_at 32 = .ok (.getfield 183, 3) := dk_180 0 183 (dk_at dksX0_at_1 8 rfl rfl)
theorem dX0_at_35 : decode cX0_at 35 = .ok (.getfield 338, 3) := dk_180 1 82 (dk_at dksX0_at_1 11 rfl rfl)
theorem dX0_at_38 : decode cX0_at 38 = .ok (.iload_n 1, 1) := dk_27 (dk_at dksX0_at_1 14 rfl rfl)
theorem dX0_at_39 : decode cX0_at 39 = .ok (.iaload, 1) := dk_46 (dk_at dksX0_at_1 15 rfl rfl)
theorem dX0_at_40 : decode cX0_at 40 = .ok (.ireturn, 1) := dk_172 (dk_at dksX0_at_1 16 rfl rfl)
abbrev cX0_carries : ByteArray := prog_1_method_38_code
def yX0_carries : MethodName := ⟨RX0, "carries", "(I)I"⟩
def dkwX0_carries_1 : List UInt8 := [2, 167, 0, 18, 42, 42, 180, 0, 55, 180, 0, 183, 27, 182, 1, 85, 182, 1, 65, 172]
abbrev dktX0_carries_1 : List UInt8 := dkwX0_carries_1 ++ []
def dkwX0_carries_0 : List UInt8 := [42, 42, 27, 182, 1, 48, 153, 0, 7, 3, 167, 0, 4, 4, 181, 0, 110, 42, 180, 0, 110, 158, 0, 7]
abbrev dktX0_carries_0 : List UInt8 := dkwX0_carries_0 ++ dktX0_carries_1
theorem dksX0_carries_0 : cX0_carries.data.toList.drop 0 = dktX0_carries_0 := by decide +kernel
theorem dksX0_carries_1 : cX0_carries.data.toList.drop 24 = dktX0_carries_1 := dk_seg dksX0_carries_0 24 rfl rfl
theorem dX0_carries_0 : decode cX0_carries 0 = .ok (.aload_n 0, 1) := dk_42 (dk_at dksX0_carries_0 0 rfl rfl)
theorem dX0_carries_1 : decode cX0_carries 1 = .ok (.aload_n 0, 1) := dk_42 (dk_at dksX0_carries_0 1 rfl rfl)
theorem dX0_carries_2 : decode cX0_carries 2 = .ok (.iload_n 1, 1) := dk_27 (dk_at dksX0_carries_0 2 rfl rfl)
theorem dX0_carries_3 : decode cX0_carries 3 = .ok (.invokevirtual 304, 3) := dk_182 1 48 (dk_at dksX0_carries_0 3 rfl rfl)
theorem dX0_carries_6 : decode cX0_carries 6 = .ok (.ifCond .eq 7, 3) := dk_153 0 7 (dk_at dksX0_carries_0 6 rfl rfl)
theorem dX0_carries_9 : decode cX0_carries 9 = .ok (.iconst 0, 1) := dk_3 (dk_at dksX0_carries_0 9 rfl rfl)
theorem dX0_carries_10 : decode cX0_carries 10 = .ok (.goto 4, 3) := dk_167 0 4 (dk_at dksX0_carries_0 10 rfl rfl)
theorem dX0_carries_13 : decode cX0_carries 13 = .ok (.iconst 1, 1) := dk_4 (dk_at dksX0_carries_0 13 rfl rfl)
theorem dX0_carries_14 : decode cX0_carries 14 = .ok (.putfield 110, 3) := dk_181 0 110 (dk_at dksX0_carries_0 14 rfl rfl)
theorem dX0_carries_17 : decode cX0_carries 17 = .ok (.aload_n 0, 1) := dk_42 (dk_at dksX0_carries_0 17 rfl rfl)
theorem dX0_carries_18 : decode cX0_carries 18 = .ok (.getfield 110, 3) := dk_180 0 110 (dk_at dksX0_carries_0 18 rfl rfl)
theorem dX0_carries_21 : decode cX0_carries 21 = .ok (.ifCond .le 7, 3) := dk_158 0 7 (dk_at dksX0_carries_0 21 rfl rfl)
theorem dX0_carries_24 : decode cX0_carries 24 = .ok (.iconst (-1), 1) := dk_2 (dk_at dksX0_carries_1 0 rfl rfl)
theorem dX0_carries_25 : decode cX0_carries 25 = .ok (.goto 18, 3) := dk_167 0 18 (dk_at dksX0_carries_1 1 rfl rfl)
theorem dX0_carries_28 : decode cX0_carries 28 = .ok (.aload_n 0, 1) := dk_42 (dk_at dksX0_carries_1 4 rfl rfl)
theorem dX0_carries_29 : decode cX0_carries 29 = .ok (.aload_n 0, 1) := dk_42 (dk_at dksX0_carries_1 5 rfl rfl)
theorem dX0_carries_30 : decode cX0_carries 30 = .ok (.getfield 55, 3) := dk_180 0 55 (dk_at dksX0_carries_1 6 rfl rfl)
theorem dX0_carries_33 : decode cX0_carries 33 = .ok (.getfield 183, 3) := dk_180 0 183 (dk_at dksX0_carries_1 9 rfl rfl)
theorem dX0_carries_36 : decode cX0_carries 36 = .ok (.iload_n 1, 1) := dk_27 (dk_at dksX0_carries_1 12 rfl rfl)
theorem dX0_carries_37 : decode cX0_carries 37 = .ok (.invokevirtual 341, 3) := dk_182 1 85 (dk_at dksX0_carries_1 13 rfl rfl)
theorem dX0_carries_40 : decode cX0_carries 40 = .ok (.invokevirtual 321, 3) := dk_182 1 65 (dk_at dksX0_carries_1 16 rfl rfl)
theorem dX0_carries_43 : decode cX0_carries 43 = .ok (.ireturn, 1) := dk_172 (dk_at dksX0_carries_1 19 rfl rfl)
abbrev cX0_load : ByteArray := prog_1_method_39_code
def yX0_load : MethodName := ⟨RX0, "load", "(II)I"⟩
def dkwX0_load_2 : List UInt8 := [180, 1, 91, 27, 50, 180, 1, 95, 167, 0, 14, 42, 180, 0, 55, 180, 0, 183, 27, 182, 1, 98, 172]
abbrev dktX0_load_2 : List UInt8 := dkwX0_load_2 ++ []
def dkwX0_load_1 : List UInt8 := [181, 0, 110, 42, 180, 0, 110, 158, 0, 7, 2, 167, 0, 33, 28, 154, 0, 18, 42, 182, 0, 188]
abbrev dktX0_load_1 : List UInt8 := dkwX0_load_1 ++ dktX0_load_2
def dkwX0_load_0 : List UInt8 := [42, 42, 27, 182, 1, 88, 153, 0, 17, 28, 133, 9, 10, 184, 0, 196, 153, 0, 7, 3, 167, 0, 4, 4]
abbrev dktX0_load_0 : List UInt8 := dkwX0_load_0 ++ dktX0_load_1
theorem dksX0_load_0 : cX0_load.data.toList.drop 0 = dktX0_load_0 := by decide +kernel
theorem dksX0_load_1 : cX0_load.data.toList.drop 24 = dktX0_load_1 := dk_seg dksX0_load_0 24 rfl rfl
theorem dksX0_load_2 : cX0_load.data.toList.drop 46 = dktX0_load_2 := dk_seg dksX0_load_1 22 rfl rfl
theorem dX0_load_0 : decode cX0_load 0 = .ok (.aload_n 0, 1) := dk_42 (dk_at dksX0_load_0 0 rfl rfl)
theorem dX0_load_1 : decode cX0_load 1 = .ok (.aload_n 0, 1) := dk_42 (dk_at dksX0_load_0 1 rfl rfl)
theorem dX0_load_2 : decode cX0_load 2 = .ok (.iload_n 1, 1) := dk_27 (dk_at dksX0_load_0 2 rfl rfl)
theorem dX0_load_3 : decode cX0_load 3 = .ok (.invokevirtual 344, 3) := dk_182 1 88 (dk_at dksX0_load_0 3 rfl rfl)
theorem dX0_load_6 : decode cX0_load 6 = .ok (.ifCond .eq 17, 3) := dk_153 0 17 (dk_at dksX0_load_0 6 rfl rfl)
theorem dX0_load_9 : decode cX0_load 9 = .ok (.iload_n 2, 1) := dk_28 (dk_at dksX0_load_0 9 rfl rfl)
theorem dX0_load_10 : decode cX0_load 10 = .ok (.i2l, 1) := dk_133 (dk_at dksX0_load_0 10 rfl rfl)
theorem dX0_load_11 : decode cX0_load 11 = .ok (.lconst 0, 1) := dk_9 (dk_at dksX0_load_0 11 rfl rfl)
theorem dX0_load_12 : decode cX0_load 12 = .ok (.lconst 1, 1) := dk_10 (dk_at dksX0_load_0 12 rfl rfl)
theorem dX0_load_13 : decode cX0_load 13 = .ok (.invokestatic 196, 3) := dk_184 0 196 (dk_at dksX0_load_0 13 rfl rfl)
theorem dX0_load_16 : decode cX0_load 16 = .ok (.ifCond .eq 7, 3) := dk_153 0 7 (dk_at dksX0_load_0 16 rfl rfl)
theorem dX0_load_19 : decode cX0_load 19 = .ok (.iconst 0, 1) := dk_3 (dk_at dksX0_load_0 19 rfl rfl)
theorem dX0_load_20 : decode cX0_load 20 = .ok (.goto 4, 3) := dk_167 0 4 (dk_at dksX0_load_0 20 rfl rfl)
theorem dX0_load_23 : decode cX0_load 23 = .ok (.iconst 1, 1) := dk_4 (dk_at dksX0_load_0 23 rfl rfl)
theorem dX0_load_24 : decode cX0_load 24 = .ok (.putfield 110, 3) := dk_181 0 110 (dk_at dksX0_load_1 0 rfl rfl)
theorem dX0_load_27 : decode cX0_load 27 = .ok (.aload_n 0, 1) := dk_42 (dk_at dksX0_load_1 3 rfl rfl)
theorem dX0_load_28 : decode cX0_load 28 = .ok (.getfield 110, 3) := dk_180 0 110 (dk_at dksX0_load_1 4 rfl rfl)
theorem dX0_load_31 : decode cX0_load 31 = .ok (.ifCond .le 7, 3) := dk_158 0 7 (dk_at dksX0_load_1 7 rfl rfl)
theorem dX0_load_34 : decode cX0_load 34 = .ok (.iconst (-1), 1) := dk_2 (dk_at dksX0_load_1 10 rfl rfl)
theorem dX0_load_35 : decode cX0_load 35 = .ok (.goto 33, 3) := dk_167 0 33 (dk_at dksX0_load_1 11 rfl rfl)
theorem dX0_load_38 : decode cX0_load 38 = .ok (.iload_n 2, 1) := dk_28 (dk_at dksX0_load_1 14 rfl rfl)
theorem dX0_load_39 : decode cX0_load 39 = .ok (.ifCond .ne 18, 3) := dk_154 0 18 (dk_at dksX0_load_1 15 rfl rfl)
theorem dX0_load_42 : decode cX0_load 42 = .ok (.aload_n 0, 1) := dk_42 (dk_at dksX0_load_1 18 rfl rfl)
theorem dX0_load_43 : decode cX0_load 43 = .ok (.invokevirtual 188, 3) := dk_182 0 188 (dk_at dksX0_load_1 19 rfl rfl)
theorem dX0_load_46 : decode cX0_load 46 = .ok (.getfield 347, 3) := dk_180 1 91 (dk_at dksX0_load_2 0 rfl rfl)
theorem dX0_load_49 : decode cX0_load 49 = .ok (.iload_n 1, 1) := dk_27 (dk_at dksX0_load_2 3 rfl rfl)
theorem dX0_load_50 : decode cX0_load 50 = .ok (.aaload, 1) := dk_50 (dk_at dksX0_load_2 4 rfl rfl)
theorem dX0_load_51 : decode cX0_load 51 = .ok (.getfield 351, 3) := dk_180 1 95 (dk_at dksX0_load_2 5 rfl rfl)
theorem dX0_load_54 : decode cX0_load 54 = .ok (.goto 14, 3) := dk_167 0 14 (dk_at dksX0_load_2 8 rfl rfl)
theorem dX0_load_57 : decode cX0_load 57 = .ok (.aload_n 0, 1) := dk_42 (dk_at dksX0_load_2 11 rfl rfl)
theorem dX0_load_58 : decode cX0_load 58 = .ok (.getfield 55, 3) := dk_180 0 55 (dk_at dksX0_load_2 12 rfl rfl)
theorem dX0_load_61 : decode cX0_load 61 = .ok (.getfield 183, 3) := dk_180 0 183 (dk_at dksX0_load_2 15 rfl rfl)
theorem dX0_load_64 : decode cX0_load 64 = .ok (.iload_n 1, 1) := dk_27 (dk_at dksX0_load_2 18 rfl rfl)
theorem dX0_load_65 : decode cX0_load 65 = .ok (.invokevirtual 354, 3) := dk_182 1 98 (dk_at dksX0_load_2 19 rfl rfl)
theorem dX0_load_68 : decode cX0_load 68 = .ok (.ireturn, 1) := dk_172 (dk_at dksX0_load_2 22 rfl rfl)
abbrev cX0_isLoad : ByteArray := prog_1_method_24_code
def yX0_isLoad : MethodName := ⟨RX0, "isLoad", "(I)Z"⟩
def dkwX0_isLoad_0 : List UInt8 := [27, 133, 9, 42, 182, 0, 188, 180, 0, 206, 4, 100, 133, 184, 0, 196, 172]
abbrev dktX0_isLoad_0 : List UInt8 := dkwX0_isLoad_0 ++ []
theorem dksX0_isLoad_0 : cX0_isLoad.data.toList.drop 0 = dktX0_isLoad_0 := by decide +kernel
theorem dX0_isLoad_0 : decode cX0_isLoad 0 = .ok (.iload_n 1, 1) := dk_27 (dk_at dksX0_isLoad_0 0 rfl rfl)
theorem dX0_isLoad_1 : decode cX0_isLoad 1 = .ok (.i2l, 1) := dk_133 (dk_at dksX0_isLoad_0 1 rfl rfl)
theorem dX0_isLoad_2 : decode cX0_isLoad 2 = .ok (.lconst 0, 1) := dk_9 (dk_at dksX0_isLoad_0 2 rfl rfl)
theorem dX0_isLoad_3 : decode cX0_isLoad 3 = .ok (.aload_n 0, 1) := dk_42 (dk_at dksX0_isLoad_0 3 rfl rfl)
theorem dX0_isLoad_4 : decode cX0_isLoad 4 = .ok (.invokevirtual 188, 3) := dk_182 0 188 (dk_at dksX0_isLoad_0 4 rfl rfl)
theorem dX0_isLoad_7 : decode cX0_isLoad 7 = .ok (.getfield 206, 3) := dk_180 0 206 (dk_at dksX0_isLoad_0 7 rfl rfl)
theorem dX0_isLoad_10 : decode cX0_isLoad 10 = .ok (.iconst 1, 1) := dk_4 (dk_at dksX0_isLoad_0 10 rfl rfl)
theorem dX0_isLoad_11 : decode cX0_isLoad 11 = .ok (.isub, 1) := dk_100 (dk_at dksX0_isLoad_0 11 rfl rfl)
theorem dX0_isLoad_12 : decode cX0_isLoad 12 = .ok (.i2l, 1) := dk_133 (dk_at dksX0_isLoad_0 12 rfl rfl)
theorem dX0_isLoad_13 : decode cX0_isLoad 13 = .ok (.invokestatic 196, 3) := dk_184 0 196 (dk_at dksX0_isLoad_0 13 rfl rfl)
theorem dX0_isLoad_16 : decode cX0_isLoad 16 = .ok (.ireturn, 1) := dk_172 (dk_at dksX0_isLoad_0 16 rfl rfl)
abbrev cX0_weight : ByteArray := prog_1_method_40_code
def yX0_weight : MethodName := ⟨RX0, "weight", "(I)I"⟩
def dkwX0_weight_1 : List UInt8 := [2, 167, 0, 14, 42, 180, 0, 55, 180, 0, 183, 27, 182, 1, 101, 172]
abbrev dktX0_weight_1 : List UInt8 := dkwX0_weight_1 ++ []
def dkwX0_weight_0 : List UInt8 := [42, 42, 27, 182, 1, 76, 153, 0, 7, 3, 167, 0, 4, 4, 181, 0, 110, 42, 180, 0, 110, 158, 0, 7]
abbrev dktX0_weight_0 : List UInt8 := dkwX0_weight_0 ++ dktX0_weight_1
theorem dksX0_weight_0 : cX0_weight.data.toList.drop 0 = dktX0_weight_0 := by decide +kernel
theorem dksX0_weight_1 : cX0_weight.data.toList.drop 24 = dktX0_weight_1 := dk_seg dksX0_weight_0 24 rfl rfl
theorem dX0_weight_0 : decode cX0_weight 0 = .ok (.aload_n 0, 1) := dk_42 (dk_at dksX0_weight_0 0 rfl rfl)
theorem dX0_weight_1 : decode cX0_weight 1 = .ok (.aload_n 0, 1) := dk_42 (dk_at dksX0_weight_0 1 rfl rfl)
theorem dX0_weight_2 : decode cX0_weight 2 = .ok (.iload_n 1, 1) := dk_27 (dk_at dksX0_weight_0 2 rfl rfl)
theorem dX0_weight_3 : decode cX0_weight 3 = .ok (.invokevirtual 332, 3) := dk_182 1 76 (dk_at dksX0_weight_0 3 rfl rfl)
theorem dX0_weight_6 : decode cX0_weight 6 = .ok (.ifCond .eq 7, 3) := dk_153 0 7 (dk_at dksX0_weight_0 6 rfl rfl)
theorem dX0_weight_9 : decode cX0_weight 9 = .ok (.iconst 0, 1) := dk_3 (dk_at dksX0_weight_0 9 rfl rfl)
theorem dX0_weight_10 : decode cX0_weight 10 = .ok (.goto 4, 3) := dk_167 0 4 (dk_at dksX0_weight_0 10 rfl rfl)
theorem dX0_weight_13 : decode cX0_weight 13 = .ok (.iconst 1, 1) := dk_4 (dk_at dksX0_weight_0 13 rfl rfl)
theorem dX0_weight_14 : decode cX0_weight 14 = .ok (.putfield 110, 3) := dk_181 0 110 (dk_at dksX0_weight_0 14 rfl rfl)
theorem dX0_weight_17 : decode cX0_weight 17 = .ok (.aload_n 0, 1) := dk_42 (dk_at dksX0_weight_0 17 rfl rfl)
theorem dX0_weight_18 : decode cX0_weight 18 = .ok (.getfield 110, 3) := dk_180 0 110 (dk_at dksX0_weight_0 18 rfl rfl)
theorem dX0_weight_21 : decode cX0_weight 21 = .ok (.ifCond .le 7, 3) := dk_158 0 7 (dk_at dksX0_weight_0 21 rfl rfl)
theorem dX0_weight_24 : decode cX0_weight 24 = .ok (.iconst (-1), 1) := dk_2 (dk_at dksX0_weight_1 0 rfl rfl)
theorem dX0_weight_25 : decode cX0_weight 25 = .ok (.goto 14, 3) := dk_167 0 14 (dk_at dksX0_weight_1 1 rfl rfl)
theorem dX0_weight_28 : decode cX0_weight 28 = .ok (.aload_n 0, 1) := dk_42 (dk_at dksX0_weight_1 4 rfl rfl)
theorem dX0_weight_29 : decode cX0_weight 29 = .ok (.getfield 55, 3) := dk_180 0 55 (dk_at dksX0_weight_1 5 rfl rfl)
theorem dX0_weight_32 : decode cX0_weight 32 = .ok (.getfield 183, 3) := dk_180 0 183 (dk_at dksX0_weight_1 8 rfl rfl)
theorem dX0_weight_35 : decode cX0_weight 35 = .ok (.iload_n 1, 1) := dk_27 (dk_at dksX0_weight_1 11 rfl rfl)
theorem dX0_weight_36 : decode cX0_weight 36 = .ok (.invokevirtual 357, 3) := dk_182 1 101 (dk_at dksX0_weight_1 12 rfl rfl)
theorem dX0_weight_39 : decode cX0_weight 39 = .ok (.ireturn, 1) := dk_172 (dk_at dksX0_weight_1 15 rfl rfl)
abbrev cX0_hangs : ByteArray := prog_1_method_41_code
def yX0_hangs : MethodName := ⟨RX0, "hangs", "(I)I"⟩
def dkwX0_hangs_1 : List UInt8 := [2, 167, 0, 22, 42, 180, 0, 55, 180, 0, 183, 27, 182, 1, 103, 153, 0, 7, 4, 167, 0, 4, 3, 172]
abbrev dktX0_hangs_1 : List UInt8 := dkwX0_hangs_1 ++ []
def dkwX0_hangs_0 : List UInt8 := [42, 42, 27, 182, 1, 6, 153, 0, 7, 3, 167, 0, 4, 4, 181, 0, 110, 42, 180, 0, 110, 158, 0, 7]
abbrev dktX0_hangs_0 : List UInt8 := dkwX0_hangs_0 ++ dktX0_hangs_1
theorem dksX0_hangs_0 : cX0_hangs.data.toList.drop 0 = dktX0_hangs_0 := by decide +kernel
theorem dksX0_hangs_1 : cX0_hangs.data.toList.drop 24 = dktX0_hangs_1 := dk_seg dksX0_hangs_0 24 rfl rfl
theorem dX0_hangs_0 : decode cX0_hangs 0 = .ok (.aload_n 0, 1) := dk_42 (dk_at dksX0_hangs_0 0 rfl rfl)
theorem dX0_hangs_1 : decode cX0_hangs 1 = .ok (.aload_n 0, 1) := dk_42 (dk_at dksX0_hangs_0 1 rfl rfl)
theorem dX0_hangs_2 : decode cX0_hangs 2 = .ok (.iload_n 1, 1) := dk_27 (dk_at dksX0_hangs_0 2 rfl rfl)
theorem dX0_hangs_3 : decode cX0_hangs 3 = .ok (.invokevirtual 262, 3) := dk_182 1 6 (dk_at dksX0_hangs_0 3 rfl rfl)
theorem dX0_hangs_6 : decode cX0_hangs 6 = .ok (.ifCond .eq 7, 3) := dk_153 0 7 (dk_at dksX0_hangs_0 6 rfl rfl)
theorem dX0_hangs_9 : decode cX0_hangs 9 = .ok (.iconst 0, 1) := dk_3 (dk_at dksX0_hangs_0 9 rfl rfl)
theorem dX0_hangs_10 : decode cX0_hangs 10 = .ok (.goto 4, 3) := dk_167 0 4 (dk_at dksX0_hangs_0 10 rfl rfl)
theorem dX0_hangs_13 : decode cX0_hangs 13 = .ok (.iconst 1, 1) := dk_4 (dk_at dksX0_hangs_0 13 rfl rfl)
theorem dX0_hangs_14 : decode cX0_hangs 14 = .ok (.putfield 110, 3) := dk_181 0 110 (dk_at dksX0_hangs_0 14 rfl rfl)
theorem dX0_hangs_17 : decode cX0_hangs 17 = .ok (.aload_n 0, 1) := dk_42 (dk_at dksX0_hangs_0 17 rfl rfl)
theorem dX0_hangs_18 : decode cX0_hangs 18 = .ok (.getfield 110, 3) := dk_180 0 110 (dk_at dksX0_hangs_0 18 rfl rfl)
theorem dX0_hangs_21 : decode cX0_hangs 21 = .ok (.ifCond .le 7, 3) := dk_158 0 7 (dk_at dksX0_hangs_0 21 rfl rfl)
theorem dX0_hangs_24 : decode cX0_hangs 24 = .ok (.iconst (-1), 1) := dk_2 (dk_at dksX0_hangs_1 0 rfl rfl)
theorem dX0_hangs_25 : decode cX0_hangs 25 = .ok (.goto 22, 3) := dk_167 0 22 (dk_at dksX0_hangs_1 1 rfl rfl)
theorem dX0_hangs_28 : decode cX0_hangs 28 = .ok (.aload_n 0, 1) := dk_42 (dk_at dksX0_hangs_1 4 rfl rfl)
theorem dX0_hangs_29 : decode cX0_hangs 29 = .ok (.getfield 55, 3) := dk_180 0 55 (dk_at dksX0_hangs_1 5 rfl rfl)
theorem dX0_hangs_32 : decode cX0_hangs 32 = .ok (.getfield 183, 3) := dk_180 0 183 (dk_at dksX0_hangs_1 8 rfl rfl)
theorem dX0_hangs_35 : decode cX0_hangs 35 = .ok (.iload_n 1, 1) := dk_27 (dk_at dksX0_hangs_1 11 rfl rfl)
theorem dX0_hangs_36 : decode cX0_hangs 36 = .ok (.invokevirtual 359, 3) := dk_182 1 103 (dk_at dksX0_hangs_1 12 rfl rfl)
theorem dX0_hangs_39 : decode cX0_hangs 39 = .ok (.ifCond .eq 7, 3) := dk_153 0 7 (dk_at dksX0_hangs_1 15 rfl rfl)
theorem dX0_hangs_42 : decode cX0_hangs 42 = .ok (.iconst 1, 1) := dk_4 (dk_at dksX0_hangs_1 18 rfl rfl)
theorem dX0_hangs_43 : decode cX0_hangs 43 = .ok (.goto 4, 3) := dk_167 0 4 (dk_at dksX0_hangs_1 19 rfl rfl)
theorem dX0_hangs_46 : decode cX0_hangs 46 = .ok (.iconst 0, 1) := dk_3 (dk_at dksX0_hangs_1 22 rfl rfl)
theorem dX0_hangs_47 : decode cX0_hangs 47 = .ok (.ireturn, 1) := dk_172 (dk_at dksX0_hangs_1 23 rfl rfl)
abbrev cX0_put_2 : ByteArray := prog_1_method_42_code
def yX0_put_2 : MethodName := ⟨RX0, "put", "(II)Z"⟩
def dkwX0_put_2_2 : List UInt8 := [180, 0, 110, 154, 0, 7, 4, 167, 0, 4, 3, 172]
abbrev dktX0_put_2_2 : List UInt8 := dkwX0_put_2_2 ++ []
def dkwX0_put_2_1 : List UInt8 := [181, 0, 110, 42, 180, 0, 110, 154, 0, 16, 42, 180, 0, 55, 180, 0, 183, 180, 1, 82, 27, 28, 79, 42]
abbrev dktX0_put_2_1 : List UInt8 := dkwX0_put_2_1 ++ dktX0_put_2_2
def dkwX0_put_2_0 : List UInt8 := [42, 42, 27, 182, 1, 48, 153, 0, 15, 42, 28, 182, 1, 76, 153, 0, 7, 3, 167, 0, 4, 4]
abbrev dktX0_put_2_0 : List UInt8 := dkwX0_put_2_0 ++ dktX0_put_2_1
theorem dksX0_put_2_0 : cX0_put_2.data.toList.drop 0 = dktX0_put_2_0 := by decide +kernel
theorem dksX0_put_2_1 : cX0_put_2.data.toList.drop 22 = dktX0_put_2_1 := dk_seg dksX0_put_2_0 22 rfl rfl
theorem dksX0_put_2_2 : cX0_put_2.data.toList.drop 46 = dktX0_put_2_2 := dk_seg dksX0_put_2_1 24 rfl rfl
theorem dX0_put_2_0 : decode cX0_put_2 0 = .ok (.aload_n 0, 1) := dk_42 (dk_at dksX0_put_2_0 0 rfl rfl)
theorem dX0_put_2_1 : decode cX0_put_2 1 = .ok (.aload_n 0, 1) := dk_42 (dk_at dksX0_put_2_0 1 rfl rfl)
theorem dX0_put_2_2 : decode cX0_put_2 2 = .ok (.iload_n 1, 1) := dk_27 (dk_at dksX0_put_2_0 2 rfl rfl)
theorem dX0_put_2_3 : decode cX0_put_2 3 = .ok (.invokevirtual 304, 3) := dk_182 1 48 (dk_at dksX0_put_2_0 3 rfl rfl)
theorem dX0_put_2_6 : decode cX0_put_2 6 = .ok (.ifCond .eq 15, 3) := dk_153 0 15 (dk_at dksX0_put_2_0 6 rfl rfl)
theorem dX0_put_2_9 : decode cX0_put_2 9 = .ok (.aload_n 0, 1) := dk_42 (dk_at dksX0_put_2_0 9 rfl rfl)
theorem dX0_put_2_10 : decode cX0_put_2 10 = .ok (.iload_n 2, 1) := dk_28 (dk_at dksX0_put_2_0 10 rfl rfl)
theorem dX0_put_2_11 : decode cX0_put_2 11 = .ok (.invokevirtual 332, 3) := dk_182 1 76 (dk_at dksX0_put_2_0 11 rfl rfl)
theorem dX0_put_2_14 : decode cX0_put_2 14 = .ok (.ifCond .eq 7, 3) := dk_153 0 7 (dk_at dksX0_put_2_0 14 rfl rfl)
theorem dX0_put_2_17 : decode cX0_put_2 17 = .ok (.iconst 0, 1) := dk_3 (dk_at dksX0_put_2_0 17 rfl rfl)
theorem dX0_put_2_18 : decode cX0_put_2 18 = .ok (.goto 4, 3) := dk_167 0 4 (dk_at dksX0_put_2_0 18 rfl rfl)
theorem dX0_put_2_21 : decode cX0_put_2 21 = .ok (.iconst 1, 1) := dk_4 (dk_at dksX0_put_2_0 21 rfl rfl)
theorem dX0_put_2_22 : decode cX0_put_2 22 = .ok (.putfield 110, 3) := dk_181 0 110 (dk_at dksX0_put_2_1 0 rfl rfl)
theorem dX0_put_2_25 : decode cX0_put_2 25 = .ok (.aload_n 0, 1) := dk_42 (dk_at dksX0_put_2_1 3 rfl rfl)
theorem dX0_put_2_26 : decode cX0_put_2 26 = .ok (.getfield 110, 3) := dk_180 0 110 (dk_at dksX0_put_2_1 4 rfl rfl)
theorem dX0_put_2_29 : decode cX0_put_2 29 = .ok (.ifCond .ne 16, 3) := dk_154 0 16 (dk_at dksX0_put_2_1 7 rfl rfl)
theorem dX0_put_2_32 : decode cX0_put_2 32 = .ok (.aload_n 0, 1) := dk_42 (dk_at dksX0_put_2_1 10 rfl rfl)
theorem dX0_put_2_33 : decode cX0_put_2 33 = .ok (.getfield 55, 3) := dk_180 0 55 (dk_at dksX0_put_2_1 11 rfl rfl)
theorem dX0_put_2_36 : decode cX0_put_2 36 = .ok (.getfield 183, 3) := dk_180 0 183 (dk_at dksX0_put_2_1 14 rfl rfl)
theorem dX0_put_2_39 : decode cX0_put_2 39 = .ok (.getfield 338, 3) := dk_180 1 82 (dk_at dksX0_put_2_1 17 rfl rfl)
theorem dX0_put_2_42 : decode cX0_put_2 42 = .ok (.iload_n 1, 1) := dk_27 (dk_at dksX0_put_2_1 20 rfl rfl)
theorem dX0_put_2_43 : decode cX0_put_2 43 = .ok (.iload_n 2, 1) := dk_28 (dk_at dksX0_put_2_1 21 rfl rfl)
theorem dX0_put_2_44 : decode cX0_put_2 44 = .ok (.iastore, 1) := dk_79 (dk_at dksX0_put_2_1 22 rfl rfl)
theorem dX0_put_2_45 : decode cX0_put_2 45 = .ok (.aload_n 0, 1) := dk_42 (dk_at dksX0_put_2_1 23 rfl rfl)
theorem dX0_put_2_46 : decode cX0_put_2 46 = .ok (.getfield 110, 3) := dk_180 0 110 (dk_at dksX0_put_2_2 0 rfl rfl)
theorem dX0_put_2_49 : decode cX0_put_2 49 = .ok (.ifCond .ne 7, 3) := dk_154 0 7 (dk_at dksX0_put_2_2 3 rfl rfl)
theorem dX0_put_2_52 : decode cX0_put_2 52 = .ok (.iconst 1, 1) := dk_4 (dk_at dksX0_put_2_2 6 rfl rfl)
theorem dX0_put_2_53 : decode cX0_put_2 53 = .ok (.goto 4, 3) := dk_167 0 4 (dk_at dksX0_put_2_2 7 rfl rfl)
theorem dX0_put_2_56 : decode cX0_put_2 56 = .ok (.iconst 0, 1) := dk_3 (dk_at dksX0_put_2_2 10 rfl rfl)
theorem dX0_put_2_57 : decode cX0_put_2 57 = .ok (.ireturn, 1) := dk_172 (dk_at dksX0_put_2_2 11 rfl rfl)
abbrev cX0_go : ByteArray := prog_1_method_44_code
def yX0_go : MethodName := ⟨RX0, "go", "(II)Z"⟩
def dkwX0_go_1 : List UInt8 := [2, 28, 182, 1, 109, 172]
abbrev dktX0_go_1 : List UInt8 := dkwX0_go_1 ++ []
def dkwX0_go_0 : List UInt8 := [42, 42, 27, 182, 1, 48, 153, 0, 15, 42, 28, 182, 1, 6, 153, 0, 7, 4, 167, 0, 4, 3, 3, 27]
abbrev dktX0_go_0 : List UInt8 := dkwX0_go_0 ++ dktX0_go_1
theorem dksX0_go_0 : cX0_go.data.toList.drop 0 = dktX0_go_0 := by decide +kernel
theorem dksX0_go_1 : cX0_go.data.toList.drop 24 = dktX0_go_1 := dk_seg dksX0_go_0 24 rfl rfl
theorem dX0_go_0 : decode cX0_go 0 = .ok (.aload_n 0, 1) := dk_42 (dk_at dksX0_go_0 0 rfl rfl)
theorem dX0_go_1 : decode cX0_go 1 = .ok (.aload_n 0, 1) := dk_42 (dk_at dksX0_go_0 1 rfl rfl)
theorem dX0_go_2 : decode cX0_go 2 = .ok (.iload_n 1, 1) := dk_27 (dk_at dksX0_go_0 2 rfl rfl)
theorem dX0_go_3 : decode cX0_go 3 = .ok (.invokevirtual 304, 3) := dk_182 1 48 (dk_at dksX0_go_0 3 rfl rfl)
theorem dX0_go_6 : decode cX0_go 6 = .ok (.ifCond .eq 15, 3) := dk_153 0 15 (dk_at dksX0_go_0 6 rfl rfl)
theorem dX0_go_9 : decode cX0_go 9 = .ok (.aload_n 0, 1) := dk_42 (dk_at dksX0_go_0 9 rfl rfl)
theorem dX0_go_10 : decode cX0_go 10 = .ok (.iload_n 2, 1) := dk_28 (dk_at dksX0_go_0 10 rfl rfl)
theorem dX0_go_11 : decode cX0_go 11 = .ok (.invokevirtual 262, 3) := dk_182 1 6 (dk_at dksX0_go_0 11 rfl rfl)
theorem dX0_go_14 : decode cX0_go 14 = .ok (.ifCond .eq 7, 3) := dk_153 0 7 (dk_at dksX0_go_0 14 rfl rfl)
theorem dX0_go_17 : decode cX0_go 17 = .ok (.iconst 1, 1) := dk_4 (dk_at dksX0_go_0 17 rfl rfl)
theorem dX0_go_18 : decode cX0_go 18 = .ok (.goto 4, 3) := dk_167 0 4 (dk_at dksX0_go_0 18 rfl rfl)
theorem dX0_go_21 : decode cX0_go 21 = .ok (.iconst 0, 1) := dk_3 (dk_at dksX0_go_0 21 rfl rfl)
theorem dX0_go_22 : decode cX0_go 22 = .ok (.iconst 0, 1) := dk_3 (dk_at dksX0_go_0 22 rfl rfl)
theorem dX0_go_23 : decode cX0_go 23 = .ok (.iload_n 1, 1) := dk_27 (dk_at dksX0_go_0 23 rfl rfl)
theorem dX0_go_24 : decode cX0_go 24 = .ok (.iconst (-1), 1) := dk_2 (dk_at dksX0_go_1 0 rfl rfl)
theorem dX0_go_25 : decode cX0_go 25 = .ok (.iload_n 2, 1) := dk_28 (dk_at dksX0_go_1 1 rfl rfl)
theorem dX0_go_26 : decode cX0_go 26 = .ok (.invokevirtual 365, 3) := dk_182 1 109 (dk_at dksX0_go_1 2 rfl rfl)
theorem dX0_go_29 : decode cX0_go 29 = .ok (.ireturn, 1) := dk_172 (dk_at dksX0_go_1 5 rfl rfl)
abbrev cX0_does : ByteArray := prog_1_method_43_code
def yX0_does : MethodName := ⟨RX0, "does", "(ZIIII)Z"⟩
def dkwX0_does_2 : List UInt8 := [154, 0, 7, 4, 167, 0, 4, 3, 172]
abbrev dktX0_does_2 : List UInt8 := dkwX0_does_2 ++ []
def dkwX0_does_1 : List UInt8 := [28, 29, 21, 4, 21, 5, 182, 1, 106, 154, 0, 9, 42, 16, 7, 181, 0, 110, 42, 180, 0, 110]
abbrev dktX0_does_1 : List UInt8 := dkwX0_does_1 ++ dktX0_does_2
def dkwX0_does_0 : List UInt8 := [42, 27, 153, 0, 7, 3, 167, 0, 4, 4, 181, 0, 110, 27, 153, 0, 28, 42, 180, 0, 55, 180, 0, 183]
abbrev dktX0_does_0 : List UInt8 := dkwX0_does_0 ++ dktX0_does_1
theorem dksX0_does_0 : cX0_does.data.toList.drop 0 = dktX0_does_0 := by decide +kernel
theorem dksX0_does_1 : cX0_does.data.toList.drop 24 = dktX0_does_1 := dk_seg dksX0_does_0 24 rfl rfl
theorem dksX0_does_2 : cX0_does.data.toList.drop 46 = dktX0_does_2 := dk_seg dksX0_does_1 22 rfl rfl
theorem dX0_does_0 : decode cX0_does 0 = .ok (.aload_n 0, 1) := dk_42 (dk_at dksX0_does_0 0 rfl rfl)
theorem dX0_does_1 : decode cX0_does 1 = .ok (.iload_n 1, 1) := dk_27 (dk_at dksX0_does_0 1 rfl rfl)
theorem dX0_does_2 : decode cX0_does 2 = .ok (.ifCond .eq 7, 3) := dk_153 0 7 (dk_at dksX0_does_0 2 rfl rfl)
theorem dX0_does_5 : decode cX0_does 5 = .ok (.iconst 0, 1) := dk_3 (dk_at dksX0_does_0 5 rfl rfl)
theorem dX0_does_6 : decode cX0_does 6 = .ok (.goto 4, 3) := dk_167 0 4 (dk_at dksX0_does_0 6 rfl rfl)
theorem dX0_does_9 : decode cX0_does 9 = .ok (.iconst 1, 1) := dk_4 (dk_at dksX0_does_0 9 rfl rfl)
theorem dX0_does_10 : decode cX0_does 10 = .ok (.putfield 110, 3) := dk_181 0 110 (dk_at dksX0_does_0 10 rfl rfl)
theorem dX0_does_13 : decode cX0_does 13 = .ok (.iload_n 1, 1) := dk_27 (dk_at dksX0_does_0 13 rfl rfl)
theorem dX0_does_14 : decode cX0_does 14 = .ok (.ifCond .eq 28, 3) := dk_153 0 28 (dk_at dksX0_does_0 14 rfl rfl)
theorem dX0_does_17 : decode cX0_does 17 = .ok (.aload_n 0, 1) := dk_42 (dk_at dksX0_does_0 17 rfl rfl)
theorem dX0_does_18 : decode cX0_does 18 = .ok (.getfield 55, 3) := dk_180 0 55 (dk_at dksX0_does_0 18 rfl rfl)
theorem dX0_does_21 : decode cX0_does 21 = .ok (.getfield 183, 3) := dk_180 0 183 (dk_at dksX0_does_0 21 rfl rfl)
theorem dX0_does_24 : decode cX0_does 24 = .ok (.iload_n 2, 1) := dk_28 (dk_at dksX0_does_1 0 rfl rfl)
theorem dX0_does_25 : decode cX0_does 25 = .ok (.iload_n 3, 1) := dk_29 (dk_at dksX0_does_1 1 rfl rfl)
theorem dX0_does_26 : decode cX0_does 26 = .ok (.iload 4, 2) := dk_21 4 (dk_at dksX0_does_1 2 rfl rfl)
theorem dX0_does_28 : decode cX0_does 28 = .ok (.iload 5, 2) := dk_21 5 (dk_at dksX0_does_1 4 rfl rfl)
theorem dX0_does_30 : decode cX0_does 30 = .ok (.invokevirtual 362, 3) := dk_182 1 106 (dk_at dksX0_does_1 6 rfl rfl)
theorem dX0_does_33 : decode cX0_does 33 = .ok (.ifCond .ne 9, 3) := dk_154 0 9 (dk_at dksX0_does_1 9 rfl rfl)
theorem dX0_does_36 : decode cX0_does 36 = .ok (.aload_n 0, 1) := dk_42 (dk_at dksX0_does_1 12 rfl rfl)
theorem dX0_does_37 : decode cX0_does 37 = .ok (.bipush 7, 2) := dk_16 7 (dk_at dksX0_does_1 13 rfl rfl)
theorem dX0_does_39 : decode cX0_does 39 = .ok (.putfield 110, 3) := dk_181 0 110 (dk_at dksX0_does_1 15 rfl rfl)
theorem dX0_does_42 : decode cX0_does 42 = .ok (.aload_n 0, 1) := dk_42 (dk_at dksX0_does_1 18 rfl rfl)
theorem dX0_does_43 : decode cX0_does 43 = .ok (.getfield 110, 3) := dk_180 0 110 (dk_at dksX0_does_1 19 rfl rfl)
theorem dX0_does_46 : decode cX0_does 46 = .ok (.ifCond .ne 7, 3) := dk_154 0 7 (dk_at dksX0_does_2 0 rfl rfl)
theorem dX0_does_49 : decode cX0_does 49 = .ok (.iconst 1, 1) := dk_4 (dk_at dksX0_does_2 3 rfl rfl)
theorem dX0_does_50 : decode cX0_does 50 = .ok (.goto 4, 3) := dk_167 0 4 (dk_at dksX0_does_2 4 rfl rfl)
theorem dX0_does_53 : decode cX0_does 53 = .ok (.iconst 0, 1) := dk_3 (dk_at dksX0_does_2 7 rfl rfl)
theorem dX0_does_54 : decode cX0_does 54 = .ok (.ireturn, 1) := dk_172 (dk_at dksX0_does_2 8 rfl rfl)
abbrev cX0_both : ByteArray := prog_1_method_45_code
def yX0_both : MethodName := ⟨RX0, "both", "(III)Z"⟩
def dkwX0_both_1 : List UInt8 := [182, 1, 6, 153, 0, 7, 4, 167, 0, 4, 3, 4, 27, 28, 29, 182, 1, 109, 172]
abbrev dktX0_both_1 : List UInt8 := dkwX0_both_1 ++ []
def dkwX0_both_0 : List UInt8 := [42, 42, 27, 182, 1, 48, 153, 0, 28, 42, 28, 182, 1, 48, 153, 0, 20, 27, 28, 159, 0, 15, 42, 29]
abbrev dktX0_both_0 : List UInt8 := dkwX0_both_0 ++ dktX0_both_1
theorem dksX0_both_0 : cX0_both.data.toList.drop 0 = dktX0_both_0 := by decide +kernel
theorem dksX0_both_1 : cX0_both.data.toList.drop 24 = dktX0_both_1 := dk_seg dksX0_both_0 24 rfl rfl
theorem dX0_both_0 : decode cX0_both 0 = .ok (.aload_n 0, 1) := dk_42 (dk_at dksX0_both_0 0 rfl rfl)
theorem dX0_both_1 : decode cX0_both 1 = .ok (.aload_n 0, 1) := dk_42 (dk_at dksX0_both_0 1 rfl rfl)
theorem dX0_both_2 : decode cX0_both 2 = .ok (.iload_n 1, 1) := dk_27 (dk_at dksX0_both_0 2 rfl rfl)
theorem dX0_both_3 : decode cX0_both 3 = .ok (.invokevirtual 304, 3) := dk_182 1 48 (dk_at dksX0_both_0 3 rfl rfl)
theorem dX0_both_6 : decode cX0_both 6 = .ok (.ifCond .eq 28, 3) := dk_153 0 28 (dk_at dksX0_both_0 6 rfl rfl)
theorem dX0_both_9 : decode cX0_both 9 = .ok (.aload_n 0, 1) := dk_42 (dk_at dksX0_both_0 9 rfl rfl)
theorem dX0_both_10 : decode cX0_both 10 = .ok (.iload_n 2, 1) := dk_28 (dk_at dksX0_both_0 10 rfl rfl)
theorem dX0_both_11 : decode cX0_both 11 = .ok (.invokevirtual 304, 3) := dk_182 1 48 (dk_at dksX0_both_0 11 rfl rfl)
theorem dX0_both_14 : decode cX0_both 14 = .ok (.ifCond .eq 20, 3) := dk_153 0 20 (dk_at dksX0_both_0 14 rfl rfl)
theorem dX0_both_17 : decode cX0_both 17 = .ok (.iload_n 1, 1) := dk_27 (dk_at dksX0_both_0 17 rfl rfl)
theorem dX0_both_18 : decode cX0_both 18 = .ok (.iload_n 2, 1) := dk_28 (dk_at dksX0_both_0 18 rfl rfl)
theorem dX0_both_19 : decode cX0_both 19 = .ok (.if_icmp .eq 15, 3) := dk_159 0 15 (dk_at dksX0_both_0 19 rfl rfl)
theorem dX0_both_22 : decode cX0_both 22 = .ok (.aload_n 0, 1) := dk_42 (dk_at dksX0_both_0 22 rfl rfl)
theorem dX0_both_23 : decode cX0_both 23 = .ok (.iload_n 3, 1) := dk_29 (dk_at dksX0_both_0 23 rfl rfl)
theorem dX0_both_24 : decode cX0_both 24 = .ok (.invokevirtual 262, 3) := dk_182 1 6 (dk_at dksX0_both_1 0 rfl rfl)
theorem dX0_both_27 : decode cX0_both 27 = .ok (.ifCond .eq 7, 3) := dk_153 0 7 (dk_at dksX0_both_1 3 rfl rfl)
theorem dX0_both_30 : decode cX0_both 30 = .ok (.iconst 1, 1) := dk_4 (dk_at dksX0_both_1 6 rfl rfl)
theorem dX0_both_31 : decode cX0_both 31 = .ok (.goto 4, 3) := dk_167 0 4 (dk_at dksX0_both_1 7 rfl rfl)
theorem dX0_both_34 : decode cX0_both 34 = .ok (.iconst 0, 1) := dk_3 (dk_at dksX0_both_1 10 rfl rfl)
theorem dX0_both_35 : decode cX0_both 35 = .ok (.iconst 1, 1) := dk_4 (dk_at dksX0_both_1 11 rfl rfl)
theorem dX0_both_36 : decode cX0_both 36 = .ok (.iload_n 1, 1) := dk_27 (dk_at dksX0_both_1 12 rfl rfl)
theorem dX0_both_37 : decode cX0_both 37 = .ok (.iload_n 2, 1) := dk_28 (dk_at dksX0_both_1 13 rfl rfl)
theorem dX0_both_38 : decode cX0_both 38 = .ok (.iload_n 3, 1) := dk_29 (dk_at dksX0_both_1 14 rfl rfl)
theorem dX0_both_39 : decode cX0_both 39 = .ok (.invokevirtual 365, 3) := dk_182 1 109 (dk_at dksX0_both_1 15 rfl rfl)
theorem dX0_both_42 : decode cX0_both 42 = .ok (.ireturn, 1) := dk_172 (dk_at dksX0_both_1 18 rfl rfl)
abbrev cX0_why : ByteArray := prog_1_method_46_code
def yX0_why : MethodName := ⟨RX0, "why", "(III)I"⟩
def dkwX0_why_2 : List UInt8 := [158, 0, 7, 2, 167, 0, 16, 42, 180, 0, 55, 180, 0, 183, 27, 28, 29, 182, 1, 113, 172]
abbrev dktX0_why_2 : List UInt8 := dkwX0_why_2 ++ []
def dkwX0_why_1 : List UInt8 := [159, 0, 15, 42, 29, 182, 1, 6, 153, 0, 7, 3, 167, 0, 4, 4, 181, 0, 110, 42, 180, 0, 110]
abbrev dktX0_why_1 : List UInt8 := dkwX0_why_1 ++ dktX0_why_2
def dkwX0_why_0 : List UInt8 := [42, 42, 27, 182, 1, 48, 153, 0, 33, 28, 2, 159, 0, 16, 42, 28, 182, 1, 48, 153, 0, 20, 27, 28]
abbrev dktX0_why_0 : List UInt8 := dkwX0_why_0 ++ dktX0_why_1
theorem dksX0_why_0 : cX0_why.data.toList.drop 0 = dktX0_why_0 := by decide +kernel
theorem dksX0_why_1 : cX0_why.data.toList.drop 24 = dktX0_why_1 := dk_seg dksX0_why_0 24 rfl rfl
theorem dksX0_why_2 : cX0_why.data.toList.drop 47 = dktX0_why_2 := dk_seg dksX0_why_1 23 rfl rfl
theorem dX0_why_0 : decode cX0_why 0 = .ok (.aload_n 0, 1) := dk_42 (dk_at dksX0_why_0 0 rfl rfl)
theorem dX0_why_1 : decode cX0_why 1 = .ok (.aload_n 0, 1) := dk_42 (dk_at dksX0_why_0 1 rfl rfl)
theorem dX0_why_2 : decode cX0_why 2 = .ok (.iload_n 1, 1) := dk_27 (dk_at dksX0_why_0 2 rfl rfl)
theorem dX0_why_3 : decode cX0_why 3 = .ok (.invokevirtual 304, 3) := dk_182 1 48 (dk_at dksX0_why_0 3 rfl rfl)
theorem dX0_why_6 : decode cX0_why 6 = .ok (.ifCond .eq 33, 3) := dk_153 0 33 (dk_at dksX0_why_0 6 rfl rfl)
theorem dX0_why_9 : decode cX0_why 9 = .ok (.iload_n 2, 1) := dk_28 (dk_at dksX0_why_0 9 rfl rfl)
theorem dX0_why_10 : decode cX0_why 10 = .ok (.iconst (-1), 1) := dk_2 (dk_at dksX0_why_0 10 rfl rfl)
theorem dX0_why_11 : decode cX0_why 11 = .ok (.if_icmp .eq 16, 3) := dk_159 0 16 (dk_at dksX0_why_0 11 rfl rfl)
theorem dX0_why_14 : decode cX0_why 14 = .ok (.aload_n 0, 1) := dk_42 (dk_at dksX0_why_0 14 rfl rfl)
theorem dX0_why_15 : decode cX0_why 15 = .ok (.iload_n 2, 1) := dk_28 (dk_at dksX0_why_0 15 rfl rfl)
theorem dX0_why_16 : decode cX0_why 16 = .ok (.invokevirtual 304, 3) := dk_182 1 48 (dk_at dksX0_why_0 16 rfl rfl)
theorem dX0_why_19 : decode cX0_why 19 = .ok (.ifCond .eq 20, 3) := dk_153 0 20 (dk_at dksX0_why_0 19 rfl rfl)
theorem dX0_why_22 : decode cX0_why 22 = .ok (.iload_n 1, 1) := dk_27 (dk_at dksX0_why_0 22 rfl rfl)
theorem dX0_why_23 : decode cX0_why 23 = .ok (.iload_n 2, 1) := dk_28 (dk_at dksX0_why_0 23 rfl rfl)
theorem dX0_why_24 : decode cX0_why 24 = .ok (.if_icmp .eq 15, 3) := dk_159 0 15 (dk_at dksX0_why_1 0 rfl rfl)
theorem dX0_why_27 : decode cX0_why 27 = .ok (.aload_n 0, 1) := dk_42 (dk_at dksX0_why_1 3 rfl rfl)
theorem dX0_why_28 : decode cX0_why 28 = .ok (.iload_n 3, 1) := dk_29 (dk_at dksX0_why_1 4 rfl rfl)
theorem dX0_why_29 : decode cX0_why 29 = .ok (.invokevirtual 262, 3) := dk_182 1 6 (dk_at dksX0_why_1 5 rfl rfl)
theorem dX0_why_32 : decode cX0_why 32 = .ok (.ifCond .eq 7, 3) := dk_153 0 7 (dk_at dksX0_why_1 8 rfl rfl)
theorem dX0_why_35 : decode cX0_why 35 = .ok (.iconst 0, 1) := dk_3 (dk_at dksX0_why_1 11 rfl rfl)
theorem dX0_why_36 : decode cX0_why 36 = .ok (.goto 4, 3) := dk_167 0 4 (dk_at dksX0_why_1 12 rfl rfl)
theorem dX0_why_39 : decode cX0_why 39 = .ok (.iconst 1, 1) := dk_4 (dk_at dksX0_why_1 15 rfl rfl)
theorem dX0_why_40 : decode cX0_why 40 = .ok (.putfield 110, 3) := dk_181 0 110 (dk_at dksX0_why_1 16 rfl rfl)
theorem dX0_why_43 : decode cX0_why 43 = .ok (.aload_n 0, 1) := dk_42 (dk_at dksX0_why_1 19 rfl rfl)
theorem dX0_why_44 : decode cX0_why 44 = .ok (.getfield 110, 3) := dk_180 0 110 (dk_at dksX0_why_1 20 rfl rfl)
theorem dX0_why_47 : decode cX0_why 47 = .ok (.ifCond .le 7, 3) := dk_158 0 7 (dk_at dksX0_why_2 0 rfl rfl)
theorem dX0_why_50 : decode cX0_why 50 = .ok (.iconst (-1), 1) := dk_2 (dk_at dksX0_why_2 3 rfl rfl)
theorem dX0_why_51 : decode cX0_why 51 = .ok (.goto 16, 3) := dk_167 0 16 (dk_at dksX0_why_2 4 rfl rfl)
theorem dX0_why_54 : decode cX0_why 54 = .ok (.aload_n 0, 1) := dk_42 (dk_at dksX0_why_2 7 rfl rfl)
theorem dX0_why_55 : decode cX0_why 55 = .ok (.getfield 55, 3) := dk_180 0 55 (dk_at dksX0_why_2 8 rfl rfl)
theorem dX0_why_58 : decode cX0_why 58 = .ok (.getfield 183, 3) := dk_180 0 183 (dk_at dksX0_why_2 11 rfl rfl)
theorem dX0_why_61 : decode cX0_why 61 = .ok (.iload_n 1, 1) := dk_27 (dk_at dksX0_why_2 14 rfl rfl)
theorem dX0_why_62 : decode cX0_why 62 = .ok (.iload_n 2, 1) := dk_28 (dk_at dksX0_why_2 15 rfl rfl)
theorem dX0_why_63 : decode cX0_why 63 = .ok (.iload_n 3, 1) := dk_29 (dk_at dksX0_why_2 16 rfl rfl)
theorem dX0_why_64 : decode cX0_why 64 = .ok (.invokevirtual 369, 3) := dk_182 1 113 (dk_at dksX0_why_2 17 rfl rfl)
theorem dX0_why_67 : decode cX0_why 67 = .ok (.ireturn, 1) := dk_172 (dk_at dksX0_why_2 20 rfl rfl)
abbrev cX0_lift : ByteArray := prog_1_method_47_code
def yX0_lift : MethodName := ⟨RX0, "lift", "(II)Z"⟩
def dkwX0_lift_1 : List UInt8 := [2, 28, 182, 1, 109, 172]
abbrev dktX0_lift_1 : List UInt8 := dkwX0_lift_1 ++ []
def dkwX0_lift_0 : List UInt8 := [42, 42, 27, 182, 1, 48, 153, 0, 15, 42, 28, 182, 1, 88, 153, 0, 7, 4, 167, 0, 4, 3, 5, 27]
abbrev dktX0_lift_0 : List UInt8 := dkwX0_lift_0 ++ dktX0_lift_1
theorem dksX0_lift_0 : cX0_lift.data.toList.drop 0 = dktX0_lift_0 := by decide +kernel
theorem dksX0_lift_1 : cX0_lift.data.toList.drop 24 = dktX0_lift_1 := dk_seg dksX0_lift_0 24 rfl rfl
theorem dX0_lift_0 : decode cX0_lift 0 = .ok (.aload_n 0, 1) := dk_42 (dk_at dksX0_lift_0 0 rfl rfl)
theorem dX0_lift_1 : decode cX0_lift 1 = .ok (.aload_n 0, 1) := dk_42 (dk_at dksX0_lift_0 1 rfl rfl)
theorem dX0_lift_2 : decode cX0_lift 2 = .ok (.iload_n 1, 1) := dk_27 (dk_at dksX0_lift_0 2 rfl rfl)
theorem dX0_lift_3 : decode cX0_lift 3 = .ok (.invokevirtual 304, 3) := dk_182 1 48 (dk_at dksX0_lift_0 3 rfl rfl)
theorem dX0_lift_6 : decode cX0_lift 6 = .ok (.ifCond .eq 15, 3) := dk_153 0 15 (dk_at dksX0_lift_0 6 rfl rfl)
theorem dX0_lift_9 : decode cX0_lift 9 = .ok (.aload_n 0, 1) := dk_42 (dk_at dksX0_lift_0 9 rfl rfl)
theorem dX0_lift_10 : decode cX0_lift 10 = .ok (.iload_n 2, 1) := dk_28 (dk_at dksX0_lift_0 10 rfl rfl)
theorem dX0_lift_11 : decode cX0_lift 11 = .ok (.invokevirtual 344, 3) := dk_182 1 88 (dk_at dksX0_lift_0 11 rfl rfl)
theorem dX0_lift_14 : decode cX0_lift 14 = .ok (.ifCond .eq 7, 3) := dk_153 0 7 (dk_at dksX0_lift_0 14 rfl rfl)
theorem dX0_lift_17 : decode cX0_lift 17 = .ok (.iconst 1, 1) := dk_4 (dk_at dksX0_lift_0 17 rfl rfl)
theorem dX0_lift_18 : decode cX0_lift 18 = .ok (.goto 4, 3) := dk_167 0 4 (dk_at dksX0_lift_0 18 rfl rfl)
theorem dX0_lift_21 : decode cX0_lift 21 = .ok (.iconst 0, 1) := dk_3 (dk_at dksX0_lift_0 21 rfl rfl)
theorem dX0_lift_22 : decode cX0_lift 22 = .ok (.iconst 2, 1) := dk_5 (dk_at dksX0_lift_0 22 rfl rfl)
theorem dX0_lift_23 : decode cX0_lift 23 = .ok (.iload_n 1, 1) := dk_27 (dk_at dksX0_lift_0 23 rfl rfl)
theorem dX0_lift_24 : decode cX0_lift 24 = .ok (.iconst (-1), 1) := dk_2 (dk_at dksX0_lift_1 0 rfl rfl)
theorem dX0_lift_25 : decode cX0_lift 25 = .ok (.iload_n 2, 1) := dk_28 (dk_at dksX0_lift_1 1 rfl rfl)
theorem dX0_lift_26 : decode cX0_lift 26 = .ok (.invokevirtual 365, 3) := dk_182 1 109 (dk_at dksX0_lift_1 2 rfl rfl)
theorem dX0_lift_29 : decode cX0_lift 29 = .ok (.ireturn, 1) := dk_172 (dk_at dksX0_lift_1 5 rfl rfl)
abbrev cX0_drop : ByteArray := prog_1_method_48_code
def yX0_drop : MethodName := ⟨RX0, "drop", "(I)Z"⟩
def dkwX0_drop_0 : List UInt8 := [42, 42, 27, 182, 1, 48, 6, 27, 2, 2, 182, 1, 109, 172]
abbrev dktX0_drop_0 : List UInt8 := dkwX0_drop_0 ++ []
theorem dksX0_drop_0 : cX0_drop.data.toList.drop 0 = dktX0_drop_0 := by decide +kernel
theorem dX0_drop_0 : decode cX0_drop 0 = .ok (.aload_n 0, 1) := dk_42 (dk_at dksX0_drop_0 0 rfl rfl)
theorem dX0_drop_1 : decode cX0_drop 1 = .ok (.aload_n 0, 1) := dk_42 (dk_at dksX0_drop_0 1 rfl rfl)
theorem dX0_drop_2 : decode cX0_drop 2 = .ok (.iload_n 1, 1) := dk_27 (dk_at dksX0_drop_0 2 rfl rfl)
theorem dX0_drop_3 : decode cX0_drop 3 = .ok (.invokevirtual 304, 3) := dk_182 1 48 (dk_at dksX0_drop_0 3 rfl rfl)
theorem dX0_drop_6 : decode cX0_drop 6 = .ok (.iconst 3, 1) := dk_6 (dk_at dksX0_drop_0 6 rfl rfl)
theorem dX0_drop_7 : decode cX0_drop 7 = .ok (.iload_n 1, 1) := dk_27 (dk_at dksX0_drop_0 7 rfl rfl)
theorem dX0_drop_8 : decode cX0_drop 8 = .ok (.iconst (-1), 1) := dk_2 (dk_at dksX0_drop_0 8 rfl rfl)
theorem dX0_drop_9 : decode cX0_drop 9 = .ok (.iconst (-1), 1) := dk_2 (dk_at dksX0_drop_0 9 rfl rfl)
theorem dX0_drop_10 : decode cX0_drop 10 = .ok (.invokevirtual 365, 3) := dk_182 1 109 (dk_at dksX0_drop_0 10 rfl rfl)
theorem dX0_drop_13 : decode cX0_drop 13 = .ok (.ireturn, 1) := dk_172 (dk_at dksX0_drop_0 13 rfl rfl)
abbrev cX0_begin : ByteArray := prog_1_method_49_code
def yX0_begin : MethodName := ⟨RX0, "begin", "()Z"⟩
def dkwX0_begin_0 : List UInt8 := [42, 3, 181, 0, 110, 42, 180, 0, 55, 180, 0, 183, 42, 182, 0, 188, 182, 0, 235, 4, 172]
abbrev dktX0_begin_0 : List UInt8 := dkwX0_begin_0 ++ []
theorem dksX0_begin_0 : cX0_begin.data.toList.drop 0 = dktX0_begin_0 := by decide +kernel
theorem dX0_begin_0 : decode cX0_begin 0 = .ok (.aload_n 0, 1) := dk_42 (dk_at dksX0_begin_0 0 rfl rfl)
theorem dX0_begin_1 : decode cX0_begin 1 = .ok (.iconst 0, 1) := dk_3 (dk_at dksX0_begin_0 1 rfl rfl)
theorem dX0_begin_2 : decode cX0_begin 2 = .ok (.putfield 110, 3) := dk_181 0 110 (dk_at dksX0_begin_0 2 rfl rfl)
theorem dX0_begin_5 : decode cX0_begin 5 = .ok (.aload_n 0, 1) := dk_42 (dk_at dksX0_begin_0 5 rfl rfl)
theorem dX0_begin_6 : decode cX0_begin 6 = .ok (.getfield 55, 3) := dk_180 0 55 (dk_at dksX0_begin_0 6 rfl rfl)
theorem dX0_begin_9 : decode cX0_begin 9 = .ok (.getfield 183, 3) := dk_180 0 183 (dk_at dksX0_begin_0 9 rfl rfl)
theorem dX0_begin_12 : decode cX0_begin 12 = .ok (.aload_n 0, 1) := dk_42 (dk_at dksX0_begin_0 12 rfl rfl)
theorem dX0_begin_13 : decode cX0_begin 13 = .ok (.invokevirtual 188, 3) := dk_182 0 188 (dk_at dksX0_begin_0 13 rfl rfl)
theorem dX0_begin_16 : decode cX0_begin 16 = .ok (.invokevirtual 235, 3) := dk_182 0 235 (dk_at dksX0_begin_0 16 rfl rfl)
theorem dX0_begin_19 : decode cX0_begin 19 = .ok (.iconst 1, 1) := dk_4 (dk_at dksX0_begin_0 19 rfl rfl)
theorem dX0_begin_20 : decode cX0_begin 20 = .ok (.ireturn, 1) := dk_172 (dk_at dksX0_begin_0 20 rfl rfl)
abbrev cX0_least : ByteArray := prog_1_method_56_code
def yX0_least : MethodName := ⟨RX0, "least", "(I)I"⟩
def dkwX0_least_3 : List UInt8 := [180, 0, 78, 28, 46, 182, 1, 65, 172]
abbrev dktX0_least_3 : List UInt8 := dkwX0_least_3 ++ []
def dkwX0_least_2 : List UInt8 := [182, 1, 160, 182, 1, 65, 172, 42, 182, 1, 164, 61, 42, 28, 156, 0, 7, 2, 167, 0, 9, 42]
abbrev dktX0_least_2 : List UInt8 := dkwX0_least_2 ++ dktX0_least_3
def dkwX0_least_1 : List UInt8 := [180, 0, 110, 158, 0, 5, 2, 172, 27, 158, 0, 22, 42, 42, 27, 4, 160, 0, 7, 4, 167, 0, 4, 3]
abbrev dktX0_least_1 : List UInt8 := dkwX0_least_1 ++ dktX0_least_2
def dkwX0_least_0 : List UInt8 := [42, 27, 133, 9, 20, 1, 158, 184, 0, 196, 153, 0, 7, 3, 167, 0, 4, 4, 181, 0, 110, 42]
abbrev dktX0_least_0 : List UInt8 := dkwX0_least_0 ++ dktX0_least_1
theorem dksX0_least_0 : cX0_least.data.toList.drop 0 = dktX0_least_0 := by decide +kernel
theorem dksX0_least_1 : cX0_least.data.toList.drop 22 = dktX0_least_1 := dk_seg dksX0_least_0 22 rfl rfl
theorem dksX0_least_2 : cX0_least.data.toList.drop 46 = dktX0_least_2 := dk_seg dksX0_least_1 24 rfl rfl
theorem dksX0_least_3 : cX0_least.data.toList.drop 68 = dktX0_least_3 := dk_seg dksX0_least_2 22 rfl rfl
theorem dX0_least_0 : decode cX0_least 0 = .ok (.aload_n 0, 1) := dk_42 (dk_at dksX0_least_0 0 rfl rfl)
theorem dX0_least_1 : decode cX0_least 1 = .ok (.iload_n 1, 1) := dk_27 (dk_at dksX0_least_0 1 rfl rfl)
theorem dX0_least_2 : decode cX0_least 2 = .ok (.i2l, 1) := dk_133 (dk_at dksX0_least_0 2 rfl rfl)
theorem dX0_least_3 : decode cX0_least 3 = .ok (.lconst 0, 1) := dk_9 (dk_at dksX0_least_0 3 rfl rfl)
theorem dX0_least_4 : decode cX0_least 4 = .ok (.ldc2_w 414, 3) := dk_20 1 158 (dk_at dksX0_least_0 4 rfl rfl)
theorem dX0_least_7 : decode cX0_least 7 = .ok (.invokestatic 196, 3) := dk_184 0 196 (dk_at dksX0_least_0 7 rfl rfl)
theorem dX0_least_10 : decode cX0_least 10 = .ok (.ifCond .eq 7, 3) := dk_153 0 7 (dk_at dksX0_least_0 10 rfl rfl)
theorem dX0_least_13 : decode cX0_least 13 = .ok (.iconst 0, 1) := dk_3 (dk_at dksX0_least_0 13 rfl rfl)
theorem dX0_least_14 : decode cX0_least 14 = .ok (.goto 4, 3) := dk_167 0 4 (dk_at dksX0_least_0 14 rfl rfl)
theorem dX0_least_17 : decode cX0_least 17 = .ok (.iconst 1, 1) := dk_4 (dk_at dksX0_least_0 17 rfl rfl)
theorem dX0_least_18 : decode cX0_least 18 = .ok (.putfield 110, 3) := dk_181 0 110 (dk_at dksX0_least_0 18 rfl rfl)
theorem dX0_least_21 : decode cX0_least 21 = .ok (.aload_n 0, 1) := dk_42 (dk_at dksX0_least_0 21 rfl rfl)
theorem dX0_least_22 : decode cX0_least 22 = .ok (.getfield 110, 3) := dk_180 0 110 (dk_at dksX0_least_1 0 rfl rfl)
theorem dX0_least_25 : decode cX0_least 25 = .ok (.ifCond .le 5, 3) := dk_158 0 5 (dk_at dksX0_least_1 3 rfl rfl)
theorem dX0_least_28 : decode cX0_least 28 = .ok (.iconst (-1), 1) := dk_2 (dk_at dksX0_least_1 6 rfl rfl)
theorem dX0_least_29 : decode cX0_least 29 = .ok (.ireturn, 1) := dk_172 (dk_at dksX0_least_1 7 rfl rfl)
theorem dX0_least_30 : decode cX0_least 30 = .ok (.iload_n 1, 1) := dk_27 (dk_at dksX0_least_1 8 rfl rfl)
theorem dX0_least_31 : decode cX0_least 31 = .ok (.ifCond .le 22, 3) := dk_158 0 22 (dk_at dksX0_least_1 9 rfl rfl)
theorem dX0_least_34 : decode cX0_least 34 = .ok (.aload_n 0, 1) := dk_42 (dk_at dksX0_least_1 12 rfl rfl)
theorem dX0_least_35 : decode cX0_least 35 = .ok (.aload_n 0, 1) := dk_42 (dk_at dksX0_least_1 13 rfl rfl)
theorem dX0_least_36 : decode cX0_least 36 = .ok (.iload_n 1, 1) := dk_27 (dk_at dksX0_least_1 14 rfl rfl)
theorem dX0_least_37 : decode cX0_least 37 = .ok (.iconst 1, 1) := dk_4 (dk_at dksX0_least_1 15 rfl rfl)
theorem dX0_least_38 : decode cX0_least 38 = .ok (.if_icmp .ne 7, 3) := dk_160 0 7 (dk_at dksX0_least_1 16 rfl rfl)
theorem dX0_least_41 : decode cX0_least 41 = .ok (.iconst 1, 1) := dk_4 (dk_at dksX0_least_1 19 rfl rfl)
theorem dX0_least_42 : decode cX0_least 42 = .ok (.goto 4, 3) := dk_167 0 4 (dk_at dksX0_least_1 20 rfl rfl)
theorem dX0_least_45 : decode cX0_least 45 = .ok (.iconst 0, 1) := dk_3 (dk_at dksX0_least_1 23 rfl rfl)
theorem dX0_least_46 : decode cX0_least 46 = .ok (.invokevirtual 416, 3) := dk_182 1 160 (dk_at dksX0_least_2 0 rfl rfl)
theorem dX0_least_49 : decode cX0_least 49 = .ok (.invokevirtual 321, 3) := dk_182 1 65 (dk_at dksX0_least_2 3 rfl rfl)
theorem dX0_least_52 : decode cX0_least 52 = .ok (.ireturn, 1) := dk_172 (dk_at dksX0_least_2 6 rfl rfl)
theorem dX0_least_53 : decode cX0_least 53 = .ok (.aload_n 0, 1) := dk_42 (dk_at dksX0_least_2 7 rfl rfl)
theorem dX0_least_54 : decode cX0_least 54 = .ok (.invokevirtual 420, 3) := dk_182 1 164 (dk_at dksX0_least_2 8 rfl rfl)
theorem dX0_least_57 : decode cX0_least 57 = .ok (.istore_n 2, 1) := dk_61 (dk_at dksX0_least_2 11 rfl rfl)
theorem dX0_least_58 : decode cX0_least 58 = .ok (.aload_n 0, 1) := dk_42 (dk_at dksX0_least_2 12 rfl rfl)
theorem dX0_least_59 : decode cX0_least 59 = .ok (.iload_n 2, 1) := dk_28 (dk_at dksX0_least_2 13 rfl rfl)
theorem dX0_least_60 : decode cX0_least 60 = .ok (.ifCond .ge 7, 3) := dk_156 0 7 (dk_at dksX0_least_2 14 rfl rfl)
theorem dX0_least_63 : decode cX0_least 63 = .ok (.iconst (-1), 1) := dk_2 (dk_at dksX0_least_2 17 rfl rfl)
theorem dX0_least_64 : decode cX0_least 64 = .ok (.goto 9, 3) := dk_167 0 9 (dk_at dksX0_least_2 18 rfl rfl)
theorem dX0_least_67 : decode cX0_least 67 = .ok (.aload_n 0, 1) := dk_42 (dk_at dksX0_least_2 21 rfl rfl)
theorem dX0_least_68 : decode cX0_least 68 = .ok (.getfield 78, 3) := dk_180 0 78 (dk_at dksX0_least_3 0 rfl rfl)
theorem dX0_least_71 : decode cX0_least 71 = .ok (.iload_n 2, 1) := dk_28 (dk_at dksX0_least_3 3 rfl rfl)
theorem dX0_least_72 : decode cX0_least 72 = .ok (.iaload, 1) := dk_46 (dk_at dksX0_least_3 4 rfl rfl)
theorem dX0_least_73 : decode cX0_least 73 = .ok (.invokevirtual 321, 3) := dk_182 1 65 (dk_at dksX0_least_3 5 rfl rfl)
theorem dX0_least_76 : decode cX0_least 76 = .ok (.ireturn, 1) := dk_172 (dk_at dksX0_least_3 8 rfl rfl)
abbrev cX0_leastCost : ByteArray := prog_1_method_55_code
def yX0_leastCost : MethodName := ⟨RX0, "leastCost", "(Z)I"⟩
def dkwX0_leastCost_15 : List UInt8 := [160, 0, 7, 2, 167, 0, 5, 21, 6, 172]
abbrev dktX0_leastCost_15 : List UInt8 := dkwX0_leastCost_15 ++ []
def dkwX0_leastCost_14 : List UInt8 := [153, 0, 12, 42, 180, 0, 78, 21, 7, 46, 54, 6, 132, 7, 1, 167, 255, 203, 21, 6, 19, 1, 151]
abbrev dktX0_leastCost_14 : List UInt8 := dkwX0_leastCost_14 ++ dktX0_leastCost_15
def dkwX0_leastCost_13 : List UInt8 := [161, 0, 6, 167, 0, 31, 42, 180, 0, 73, 21, 7, 182, 1, 135, 42, 180, 0, 73, 182, 1, 2]
abbrev dktX0_leastCost_13 : List UInt8 := dkwX0_leastCost_13 ++ dktX0_leastCost_14
def dkwX0_leastCost_12 : List UInt8 := [19, 1, 151, 54, 6, 3, 54, 7, 21, 7, 18, 77, 162, 0, 52, 42, 180, 0, 78, 21, 7, 46, 21, 6]
abbrev dktX0_leastCost_12 : List UInt8 := dkwX0_leastCost_12 ++ dktX0_leastCost_13
def dkwX0_leastCost_11 : List UInt8 := [21, 4, 21, 5, 96, 29, 112, 21, 8, 79, 132, 5, 1, 132, 7, 1, 167, 255, 99, 167, 255, 50]
abbrev dktX0_leastCost_11 : List UInt8 := dkwX0_leastCost_11 ++ dktX0_leastCost_12
def dkwX0_leastCost_10 : List UInt8 := [180, 0, 88, 21, 8, 51, 153, 0, 6, 167, 0, 28, 42, 180, 0, 88, 21, 8, 4, 84, 42, 180, 0, 81]
abbrev dktX0_leastCost_10 : List UInt8 := dkwX0_leastCost_10 ++ dktX0_leastCost_11
def dkwX0_leastCost_9 : List UInt8 := [180, 0, 78, 21, 8, 46, 161, 0, 6, 167, 0, 50, 42, 180, 0, 78, 21, 8, 21, 9, 79, 42]
abbrev dktX0_leastCost_9 : List UInt8 := dkwX0_leastCost_9 ++ dktX0_leastCost_10
def dkwX0_leastCost_8 : List UInt8 := [167, 0, 16, 42, 180, 0, 66, 42, 182, 0, 188, 21, 7, 182, 1, 155, 96, 54, 9, 21, 9, 42]
abbrev dktX0_leastCost_8 : List UInt8 := dkwX0_leastCost_8 ++ dktX0_leastCost_9
def dkwX0_leastCost_7 : List UInt8 := [180, 0, 78, 21, 6, 46, 27, 153, 0, 19, 42, 180, 0, 66, 42, 182, 0, 188, 21, 7, 182, 1, 152]
abbrev dktX0_leastCost_7 : List UInt8 := dkwX0_leastCost_7 ++ dktX0_leastCost_8
def dkwX0_leastCost_6 : List UInt8 := [180, 0, 73, 21, 7, 182, 1, 137, 154, 0, 6, 167, 0, 117, 42, 180, 0, 73, 182, 1, 126, 54, 8, 42]
abbrev dktX0_leastCost_6 : List UInt8 := dkwX0_leastCost_6 ++ dktX0_leastCost_7
def dkwX0_leastCost_5 : List UInt8 := [180, 0, 66, 180, 1, 132, 162, 0, 151, 42, 180, 0, 73, 21, 6, 182, 1, 135, 42, 180, 0, 66, 42]
abbrev dktX0_leastCost_5 : List UInt8 := dkwX0_leastCost_5 ++ dktX0_leastCost_6
def dkwX0_leastCost_4 : List UInt8 := [21, 4, 4, 96, 54, 4, 132, 5, 255, 42, 180, 0, 88, 21, 6, 3, 84, 3, 54, 7, 21, 7, 42]
abbrev dktX0_leastCost_4 : List UInt8 := dkwX0_leastCost_4 ++ dktX0_leastCost_5
def dkwX0_leastCost_3 : List UInt8 := [158, 0, 207, 42, 180, 0, 81, 21, 4, 46, 54, 6, 21, 4, 4, 96, 29, 160, 0, 7, 3, 167, 0, 7]
abbrev dktX0_leastCost_3 : List UInt8 := dkwX0_leastCost_3 ++ dktX0_leastCost_4
def dkwX0_leastCost_2 : List UInt8 := [42, 180, 0, 78, 28, 3, 79, 3, 54, 4, 4, 54, 5, 42, 180, 0, 88, 28, 4, 84, 21, 5]
abbrev dktX0_leastCost_2 : List UInt8 := dkwX0_leastCost_2 ++ dktX0_leastCost_3
def dkwX0_leastCost_1 : List UInt8 := [180, 0, 88, 28, 3, 84, 132, 2, 1, 167, 255, 231, 42, 180, 0, 81, 3, 46, 61, 42, 180, 1, 116, 62]
abbrev dktX0_leastCost_1 : List UInt8 := dkwX0_leastCost_1 ++ dktX0_leastCost_2
def dkwX0_leastCost_0 : List UInt8 := [42, 182, 1, 146, 3, 61, 28, 18, 77, 162, 0, 25, 42, 180, 0, 78, 28, 19, 1, 151, 79, 42]
abbrev dktX0_leastCost_0 : List UInt8 := dkwX0_leastCost_0 ++ dktX0_leastCost_1
theorem dksX0_leastCost_0 : cX0_leastCost.data.toList.drop 0 = dktX0_leastCost_0 := by decide +kernel
theorem dksX0_leastCost_1 : cX0_leastCost.data.toList.drop 22 = dktX0_leastCost_1 := dk_seg dksX0_leastCost_0 22 rfl rfl
theorem dksX0_leastCost_2 : cX0_leastCost.data.toList.drop 46 = dktX0_leastCost_2 := dk_seg dksX0_leastCost_1 24 rfl rfl
theorem dksX0_leastCost_3 : cX0_leastCost.data.toList.drop 68 = dktX0_leastCost_3 := dk_seg dksX0_leastCost_2 22 rfl rfl
theorem dksX0_leastCost_4 : cX0_leastCost.data.toList.drop 92 = dktX0_leastCost_4 := dk_seg dksX0_leastCost_3 24 rfl rfl
theorem dksX0_leastCost_5 : cX0_leastCost.data.toList.drop 115 = dktX0_leastCost_5 := dk_seg dksX0_leastCost_4 23 rfl rfl
theorem dksX0_leastCost_6 : cX0_leastCost.data.toList.drop 138 = dktX0_leastCost_6 := dk_seg dksX0_leastCost_5 23 rfl rfl
theorem dksX0_leastCost_7 : cX0_leastCost.data.toList.drop 162 = dktX0_leastCost_7 := dk_seg dksX0_leastCost_6 24 rfl rfl
theorem dksX0_leastCost_8 : cX0_leastCost.data.toList.drop 185 = dktX0_leastCost_8 := dk_seg dksX0_leastCost_7 23 rfl rfl
theorem dksX0_leastCost_9 : cX0_leastCost.data.toList.drop 207 = dktX0_leastCost_9 := dk_seg dksX0_leastCost_8 22 rfl rfl
theorem dksX0_leastCost_10 : cX0_leastCost.data.toList.drop 229 = dktX0_leastCost_10 := dk_seg dksX0_leastCost_9 22 rfl rfl
theorem dksX0_leastCost_11 : cX0_leastCost.data.toList.drop 253 = dktX0_leastCost_11 := dk_seg dksX0_leastCost_10 24 rfl rfl
theorem dksX0_leastCost_12 : cX0_leastCost.data.toList.drop 275 = dktX0_leastCost_12 := dk_seg dksX0_leastCost_11 22 rfl rfl
theorem dksX0_leastCost_13 : cX0_leastCost.data.toList.drop 299 = dktX0_leastCost_13 := dk_seg dksX0_leastCost_12 24 rfl rfl
theorem dksX0_leastCost_14 : cX0_leastCost.data.toList.drop 321 = dktX0_leastCost_14 := dk_seg dksX0_leastCost_13 22 rfl rfl
theorem dksX0_leastCost_15 : cX0_leastCost.data.toList.drop 344 = dktX0_leastCost_15 := dk_seg dksX0_leastCost_14 23 rfl rfl
theorem dX0_leastCost_0 : decode cX0_leastCost 0 = .ok (.aload_n 0, 1) := dk_42 (dk_at dksX0_leastCost_0 0 rfl rfl)
theorem dX0_leastCost_1 : decode cX0_leastCost 1 = .ok (.invokevirtual 402, 3) := dk_182 1 146 (dk_at dksX0_leastCost_0 1 rfl rfl)
theorem dX0_leastCost_4 : decode cX0_leastCost 4 = .ok (.iconst 0, 1) := dk_3 (dk_at dksX0_leastCost_0 4 rfl rfl)
theorem dX0_leastCost_5 : decode cX0_leastCost 5 = .ok (.istore_n 2, 1) := dk_61 (dk_at dksX0_leastCost_0 5 rfl rfl)
theorem dX0_leastCost_6 : decode cX0_leastCost 6 = .ok (.iload_n 2, 1) := dk_28 (dk_at dksX0_leastCost_0 6 rfl rfl)
theorem dX0_leastCost_7 : decode cX0_leastCost 7 = .ok (.ldc 77, 2) := dk_18 77 (dk_at dksX0_leastCost_0 7 rfl rfl)
theorem dX0_leastCost_9 : decode cX0_leastCost 9 = .ok (.if_icmp .ge 25, 3) := dk_162 0 25 (dk_at dksX0_leastCost_0 9 rfl rfl)
theorem dX0_leastCost_12 : decode cX0_leastCost 12 = .ok (.aload_n 0, 1) := dk_42 (dk_at dksX0_leastCost_0 12 rfl rfl)
theorem dX0_leastCost_13 : decode cX0_leastCost 13 = .ok (.getfield 78, 3) := dk_180 0 78 (dk_at dksX0_leastCost_0 13 rfl rfl)
theorem dX0_leastCost_16 : decode cX0_leastCost 16 = .ok (.iload_n 2, 1) := dk_28 (dk_at dksX0_leastCost_0 16 rfl rfl)
theorem dX0_leastCost_17 : decode cX0_leastCost 17 = .ok (.ldc_w 407, 3) := dk_19 1 151 (dk_at dksX0_leastCost_0 17 rfl rfl)
theorem dX0_leastCost_20 : decode cX0_leastCost 20 = .ok (.iastore, 1) := dk_79 (dk_at dksX0_leastCost_0 20 rfl rfl)
theorem dX0_leastCost_21 : decode cX0_leastCost 21 = .ok (.aload_n 0, 1) := dk_42 (dk_at dksX0_leastCost_0 21 rfl rfl)
theorem dX0_leastCost_22 : decode cX0_leastCost 22 = .ok (.getfield 88, 3) := dk_180 0 88 (dk_at dksX0_leastCost_1 0 rfl rfl)
theorem dX0_leastCost_25 : decode cX0_leastCost 25 = .ok (.iload_n 2, 1) := dk_28 (dk_at dksX0_leastCost_1 3 rfl rfl)
theorem dX0_leastCost_26 : decode cX0_leastCost 26 = .ok (.iconst 0, 1) := dk_3 (dk_at dksX0_leastCost_1 4 rfl rfl)
theorem dX0_leastCost_27 : decode cX0_leastCost 27 = .ok (.bastore, 1) := dk_84 (dk_at dksX0_leastCost_1 5 rfl rfl)
theorem dX0_leastCost_28 : decode cX0_leastCost 28 = .ok (.iinc 2 1, 3) := dk_132 2 1 (dk_at dksX0_leastCost_1 6 rfl rfl)
theorem dX0_leastCost_31 : decode cX0_leastCost 31 = .ok (.goto (-25), 3) := dk_167 255 231 (dk_at dksX0_leastCost_1 9 rfl rfl)
theorem dX0_leastCost_34 : decode cX0_leastCost 34 = .ok (.aload_n 0, 1) := dk_42 (dk_at dksX0_leastCost_1 12 rfl rfl)
theorem dX0_leastCost_35 : decode cX0_leastCost 35 = .ok (.getfield 81, 3) := dk_180 0 81 (dk_at dksX0_leastCost_1 13 rfl rfl)
theorem dX0_leastCost_38 : decode cX0_leastCost 38 = .ok (.iconst 0, 1) := dk_3 (dk_at dksX0_leastCost_1 16 rfl rfl)
theorem dX0_leastCost_39 : decode cX0_leastCost 39 = .ok (.iaload, 1) := dk_46 (dk_at dksX0_leastCost_1 17 rfl rfl)
theorem dX0_leastCost_40 : decode cX0_leastCost 40 = .ok (.istore_n 2, 1) := dk_61 (dk_at dksX0_leastCost_1 18 rfl rfl)
theorem dX0_leastCost_41 : decode cX0_leastCost 41 = .ok (.aload_n 0, 1) := dk_42 (dk_at dksX0_leastCost_1 19 rfl rfl)
theorem dX0_leastCost_42 : decode cX0_leastCost 42 = .ok (.getfield 372, 3) := dk_180 1 116 (dk_at dksX0_leastCost_1 20 rfl rfl)
theorem dX0_leastCost_45 : decode cX0_leastCost 45 = .ok (.istore_n 3, 1) := dk_62 (dk_at dksX0_leastCost_1 23 rfl rfl)
theorem dX0_leastCost_46 : decode cX0_leastCost 46 = .ok (.aload_n 0, 1) := dk_42 (dk_at dksX0_leastCost_2 0 rfl rfl)
theorem dX0_leastCost_47 : decode cX0_leastCost 47 = .ok (.getfield 78, 3) := dk_180 0 78 (dk_at dksX0_leastCost_2 1 rfl rfl)
theorem dX0_leastCost_50 : decode cX0_leastCost 50 = .ok (.iload_n 2, 1) := dk_28 (dk_at dksX0_leastCost_2 4 rfl rfl)
theorem dX0_leastCost_51 : decode cX0_leastCost 51 = .ok (.iconst 0, 1) := dk_3 (dk_at dksX0_leastCost_2 5 rfl rfl)
theorem dX0_leastCost_52 : decode cX0_leastCost 52 = .ok (.iastore, 1) := dk_79 (dk_at dksX0_leastCost_2 6 rfl rfl)
theorem dX0_leastCost_53 : decode cX0_leastCost 53 = .ok (.iconst 0, 1) := dk_3 (dk_at dksX0_leastCost_2 7 rfl rfl)
theorem dX0_leastCost_54 : decode cX0_leastCost 54 = .ok (.istore 4, 2) := dk_54 4 (dk_at dksX0_leastCost_2 8 rfl rfl)
theorem dX0_leastCost_56 : decode cX0_leastCost 56 = .ok (.iconst 1, 1) := dk_4 (dk_at dksX0_leastCost_2 10 rfl rfl)
theorem dX0_leastCost_57 : decode cX0_leastCost 57 = .ok (.istore 5, 2) := dk_54 5 (dk_at dksX0_leastCost_2 11 rfl rfl)
theorem dX0_leastCost_59 : decode cX0_leastCost 59 = .ok (.aload_n 0, 1) := dk_42 (dk_at dksX0_leastCost_2 13 rfl rfl)
theorem dX0_leastCost_60 : decode cX0_leastCost 60 = .ok (.getfield 88, 3) := dk_180 0 88 (dk_at dksX0_leastCost_2 14 rfl rfl)
theorem dX0_leastCost_63 : decode cX0_leastCost 63 = .ok (.iload_n 2, 1) := dk_28 (dk_at dksX0_leastCost_2 17 rfl rfl)
theorem dX0_leastCost_64 : decode cX0_leastCost 64 = .ok (.iconst 1, 1) := dk_4 (dk_at dksX0_leastCost_2 18 rfl rfl)
theorem dX0_leastCost_65 : decode cX0_leastCost 65 = .ok (.bastore, 1) := dk_84 (dk_at dksX0_leastCost_2 19 rfl rfl)
theorem dX0_leastCost_66 : decode cX0_leastCost 66 = .ok (.iload 5, 2) := dk_21 5 (dk_at dksX0_leastCost_2 20 rfl rfl)
theorem dX0_leastCost_68 : decode cX0_leastCost 68 = .ok (.ifCond .le 207, 3) := dk_158 0 207 (dk_at dksX0_leastCost_3 0 rfl rfl)
theorem dX0_leastCost_71 : decode cX0_leastCost 71 = .ok (.aload_n 0, 1) := dk_42 (dk_at dksX0_leastCost_3 3 rfl rfl)
theorem dX0_leastCost_72 : decode cX0_leastCost 72 = .ok (.getfield 81, 3) := dk_180 0 81 (dk_at dksX0_leastCost_3 4 rfl rfl)
theorem dX0_leastCost_75 : decode cX0_leastCost 75 = .ok (.iload 4, 2) := dk_21 4 (dk_at dksX0_leastCost_3 7 rfl rfl)
theorem dX0_leastCost_77 : decode cX0_leastCost 77 = .ok (.iaload, 1) := dk_46 (dk_at dksX0_leastCost_3 9 rfl rfl)
theorem dX0_leastCost_78 : decode cX0_leastCost 78 = .ok (.istore 6, 2) := dk_54 6 (dk_at dksX0_leastCost_3 10 rfl rfl)
theorem dX0_leastCost_80 : decode cX0_leastCost 80 = .ok (.iload 4, 2) := dk_21 4 (dk_at dksX0_leastCost_3 12 rfl rfl)
theorem dX0_leastCost_82 : decode cX0_leastCost 82 = .ok (.iconst 1, 1) := dk_4 (dk_at dksX0_leastCost_3 14 rfl rfl)
theorem dX0_leastCost_83 : decode cX0_leastCost 83 = .ok (.iadd, 1) := dk_96 (dk_at dksX0_leastCost_3 15 rfl rfl)
theorem dX0_leastCost_84 : decode cX0_leastCost 84 = .ok (.iload_n 3, 1) := dk_29 (dk_at dksX0_leastCost_3 16 rfl rfl)
theorem dX0_leastCost_85 : decode cX0_leastCost 85 = .ok (.if_icmp .ne 7, 3) := dk_160 0 7 (dk_at dksX0_leastCost_3 17 rfl rfl)
theorem dX0_leastCost_88 : decode cX0_leastCost 88 = .ok (.iconst 0, 1) := dk_3 (dk_at dksX0_leastCost_3 20 rfl rfl)
theorem dX0_leastCost_89 : decode cX0_leastCost 89 = .ok (.goto 7, 3) := dk_167 0 7 (dk_at dksX0_leastCost_3 21 rfl rfl)
theorem dX0_leastCost_92 : decode cX0_leastCost 92 = .ok (.iload 4, 2) := dk_21 4 (dk_at dksX0_leastCost_4 0 rfl rfl)
theorem dX0_leastCost_94 : decode cX0_leastCost 94 = .ok (.iconst 1, 1) := dk_4 (dk_at dksX0_leastCost_4 2 rfl rfl)
theorem dX0_leastCost_95 : decode cX0_leastCost 95 = .ok (.iadd, 1) := dk_96 (dk_at dksX0_leastCost_4 3 rfl rfl)
theorem dX0_leastCost_96 : decode cX0_leastCost 96 = .ok (.istore 4, 2) := dk_54 4 (dk_at dksX0_leastCost_4 4 rfl rfl)
theorem dX0_leastCost_98 : decode cX0_leastCost 98 = .ok (.iinc 5 (-1), 3) := dk_132 5 255 (dk_at dksX0_leastCost_4 6 rfl rfl)
theorem dX0_leastCost_101 : decode cX0_leastCost 101 = .ok (.aload_n 0, 1) := dk_42 (dk_at dksX0_leastCost_4 9 rfl rfl)
theorem dX0_leastCost_102 : decode cX0_leastCost 102 = .ok (.getfield 88, 3) := dk_180 0 88 (dk_at dksX0_leastCost_4 10 rfl rfl)
theorem dX0_leastCost_105 : decode cX0_leastCost 105 = .ok (.iload 6, 2) := dk_21 6 (dk_at dksX0_leastCost_4 13 rfl rfl)
theorem dX0_leastCost_107 : decode cX0_leastCost 107 = .ok (.iconst 0, 1) := dk_3 (dk_at dksX0_leastCost_4 15 rfl rfl)
theorem dX0_leastCost_108 : decode cX0_leastCost 108 = .ok (.bastore, 1) := dk_84 (dk_at dksX0_leastCost_4 16 rfl rfl)
theorem dX0_leastCost_109 : decode cX0_leastCost 109 = .ok (.iconst 0, 1) := dk_3 (dk_at dksX0_leastCost_4 17 rfl rfl)
theorem dX0_leastCost_110 : decode cX0_leastCost 110 = .ok (.istore 7, 2) := dk_54 7 (dk_at dksX0_leastCost_4 18 rfl rfl)
theorem dX0_leastCost_112 : decode cX0_leastCost 112 = .ok (.iload 7, 2) := dk_21 7 (dk_at dksX0_leastCost_4 20 rfl rfl)
theorem dX0_leastCost_114 : decode cX0_leastCost 114 = .ok (.aload_n 0, 1) := dk_42 (dk_at dksX0_leastCost_4 22 rfl rfl)
theorem dX0_leastCost_115 : decode cX0_leastCost 115 = .ok (.getfield 66, 3) := dk_180 0 66 (dk_at dksX0_leastCost_5 0 rfl rfl)
theorem dX0_leastCost_118 : decode cX0_leastCost 118 = .ok (.getfield 388, 3) := dk_180 1 132 (dk_at dksX0_leastCost_5 3 rfl rfl)
theorem dX0_leastCost_121 : decode cX0_leastCost 121 = .ok (.if_icmp .ge 151, 3) := dk_162 0 151 (dk_at dksX0_leastCost_5 6 rfl rfl)
theorem dX0_leastCost_124 : decode cX0_leastCost 124 = .ok (.aload_n 0, 1) := dk_42 (dk_at dksX0_leastCost_5 9 rfl rfl)
theorem dX0_leastCost_125 : decode cX0_leastCost 125 = .ok (.getfield 73, 3) := dk_180 0 73 (dk_at dksX0_leastCost_5 10 rfl rfl)
theorem dX0_leastCost_128 : decode cX0_leastCost 128 = .ok (.iload 6, 2) := dk_21 6 (dk_at dksX0_leastCost_5 13 rfl rfl)
theorem dX0_leastCost_130 : decode cX0_leastCost 130 = .ok (.invokevirtual 391, 3) := dk_182 1 135 (dk_at dksX0_leastCost_5 15 rfl rfl)
theorem dX0_leastCost_133 : decode cX0_leastCost 133 = .ok (.aload_n 0, 1) := dk_42 (dk_at dksX0_leastCost_5 18 rfl rfl)
theorem dX0_leastCost_134 : decode cX0_leastCost 134 = .ok (.getfield 66, 3) := dk_180 0 66 (dk_at dksX0_leastCost_5 19 rfl rfl)
theorem dX0_leastCost_137 : decode cX0_leastCost 137 = .ok (.aload_n 0, 1) := dk_42 (dk_at dksX0_leastCost_5 22 rfl rfl)
theorem dX0_leastCost_138 : decode cX0_leastCost 138 = .ok (.getfield 73, 3) := dk_180 0 73 (dk_at dksX0_leastCost_6 0 rfl rfl)
theorem dX0_leastCost_141 : decode cX0_leastCost 141 = .ok (.iload 7, 2) := dk_21 7 (dk_at dksX0_leastCost_6 3 rfl rfl)
theorem dX0_leastCost_143 : decode cX0_leastCost 143 = .ok (.invokevirtual 393, 3) := dk_182 1 137 (dk_at dksX0_leastCost_6 5 rfl rfl)
theorem dX0_leastCost_146 : decode cX0_leastCost 146 = .ok (.ifCond .ne 6, 3) := dk_154 0 6 (dk_at dksX0_leastCost_6 8 rfl rfl)
theorem dX0_leastCost_149 : decode cX0_leastCost 149 = .ok (.goto 117, 3) := dk_167 0 117 (dk_at dksX0_leastCost_6 11 rfl rfl)
theorem dX0_leastCost_152 : decode cX0_leastCost 152 = .ok (.aload_n 0, 1) := dk_42 (dk_at dksX0_leastCost_6 14 rfl rfl)
theorem dX0_leastCost_153 : decode cX0_leastCost 153 = .ok (.getfield 73, 3) := dk_180 0 73 (dk_at dksX0_leastCost_6 15 rfl rfl)
theorem dX0_leastCost_156 : decode cX0_leastCost 156 = .ok (.invokevirtual 382, 3) := dk_182 1 126 (dk_at dksX0_leastCost_6 18 rfl rfl)
theorem dX0_leastCost_159 : decode cX0_leastCost 159 = .ok (.istore 8, 2) := dk_54 8 (dk_at dksX0_leastCost_6 21 rfl rfl)
theorem dX0_leastCost_161 : decode cX0_leastCost 161 = .ok (.aload_n 0, 1) := dk_42 (dk_at dksX0_leastCost_6 23 rfl rfl)
theorem dX0_leastCost_162 : decode cX0_leastCost 162 = .ok (.getfield 78, 3) := dk_180 0 78 (dk_at dksX0_leastCost_7 0 rfl rfl)
theorem dX0_leastCost_165 : decode cX0_leastCost 165 = .ok (.iload 6, 2) := dk_21 6 (dk_at dksX0_leastCost_7 3 rfl rfl)
theorem dX0_leastCost_167 : decode cX0_leastCost 167 = .ok (.iaload, 1) := dk_46 (dk_at dksX0_leastCost_7 5 rfl rfl)
theorem dX0_leastCost_168 : decode cX0_leastCost 168 = .ok (.iload_n 1, 1) := dk_27 (dk_at dksX0_leastCost_7 6 rfl rfl)
theorem dX0_leastCost_169 : decode cX0_leastCost 169 = .ok (.ifCond .eq 19, 3) := dk_153 0 19 (dk_at dksX0_leastCost_7 7 rfl rfl)
theorem dX0_leastCost_172 : decode cX0_leastCost 172 = .ok (.aload_n 0, 1) := dk_42 (dk_at dksX0_leastCost_7 10 rfl rfl)
theorem dX0_leastCost_173 : decode cX0_leastCost 173 = .ok (.getfield 66, 3) := dk_180 0 66 (dk_at dksX0_leastCost_7 11 rfl rfl)
theorem dX0_leastCost_176 : decode cX0_leastCost 176 = .ok (.aload_n 0, 1) := dk_42 (dk_at dksX0_leastCost_7 14 rfl rfl)
theorem dX0_leastCost_177 : decode cX0_leastCost 177 = .ok (.invokevirtual 188, 3) := dk_182 0 188 (dk_at dksX0_leastCost_7 15 rfl rfl)
theorem dX0_leastCost_180 : decode cX0_leastCost 180 = .ok (.iload 7, 2) := dk_21 7 (dk_at dksX0_leastCost_7 18 rfl rfl)
theorem dX0_leastCost_182 : decode cX0_leastCost 182 = .ok (.invokevirtual 408, 3) := dk_182 1 152 (dk_at dksX0_leastCost_7 20 rfl rfl)
theorem dX0_leastCost_185 : decode cX0_leastCost 185 = .ok (.goto 16, 3) := dk_167 0 16 (dk_at dksX0_leastCost_8 0 rfl rfl)
theorem dX0_leastCost_188 : decode cX0_leastCost 188 = .ok (.aload_n 0, 1) := dk_42 (dk_at dksX0_leastCost_8 3 rfl rfl)
theorem dX0_leastCost_189 : decode cX0_leastCost 189 = .ok (.getfield 66, 3) := dk_180 0 66 (dk_at dksX0_leastCost_8 4 rfl rfl)
theorem dX0_leastCost_192 : decode cX0_leastCost 192 = .ok (.aload_n 0, 1) := dk_42 (dk_at dksX0_leastCost_8 7 rfl rfl)
theorem dX0_leastCost_193 : decode cX0_leastCost 193 = .ok (.invokevirtual 188, 3) := dk_182 0 188 (dk_at dksX0_leastCost_8 8 rfl rfl)
theorem dX0_leastCost_196 : decode cX0_leastCost 196 = .ok (.iload 7, 2) := dk_21 7 (dk_at dksX0_leastCost_8 11 rfl rfl)
theorem dX0_leastCost_198 : decode cX0_leastCost 198 = .ok (.invokevirtual 411, 3) := dk_182 1 155 (dk_at dksX0_leastCost_8 13 rfl rfl)
theorem dX0_leastCost_201 : decode cX0_leastCost 201 = .ok (.iadd, 1) := dk_96 (dk_at dksX0_leastCost_8 16 rfl rfl)
theorem dX0_leastCost_202 : decode cX0_leastCost 202 = .ok (.istore 9, 2) := dk_54 9 (dk_at dksX0_leastCost_8 17 rfl rfl)
theorem dX0_leastCost_204 : decode cX0_leastCost 204 = .ok (.iload 9, 2) := dk_21 9 (dk_at dksX0_leastCost_8 19 rfl rfl)
theorem dX0_leastCost_206 : decode cX0_leastCost 206 = .ok (.aload_n 0, 1) := dk_42 (dk_at dksX0_leastCost_8 21 rfl rfl)
theorem dX0_leastCost_207 : decode cX0_leastCost 207 = .ok (.getfield 78, 3) := dk_180 0 78 (dk_at dksX0_leastCost_9 0 rfl rfl)
theorem dX0_leastCost_210 : decode cX0_leastCost 210 = .ok (.iload 8, 2) := dk_21 8 (dk_at dksX0_leastCost_9 3 rfl rfl)
theorem dX0_leastCost_212 : decode cX0_leastCost 212 = .ok (.iaload, 1) := dk_46 (dk_at dksX0_leastCost_9 5 rfl rfl)
theorem dX0_leastCost_213 : decode cX0_leastCost 213 = .ok (.if_icmp .lt 6, 3) := dk_161 0 6 (dk_at dksX0_leastCost_9 6 rfl rfl)
theorem dX0_leastCost_216 : decode cX0_leastCost 216 = .ok (.goto 50, 3) := dk_167 0 50 (dk_at dksX0_leastCost_9 9 rfl rfl)
theorem dX0_leastCost_219 : decode cX0_leastCost 219 = .ok (.aload_n 0, 1) := dk_42 (dk_at dksX0_leastCost_9 12 rfl rfl)
theorem dX0_leastCost_220 : decode cX0_leastCost 220 = .ok (.getfield 78, 3) := dk_180 0 78 (dk_at dksX0_leastCost_9 13 rfl rfl)
theorem dX0_leastCost_223 : decode cX0_leastCost 223 = .ok (.iload 8, 2) := dk_21 8 (dk_at dksX0_leastCost_9 16 rfl rfl)
theorem dX0_leastCost_225 : decode cX0_leastCost 225 = .ok (.iload 9, 2) := dk_21 9 (dk_at dksX0_leastCost_9 18 rfl rfl)
theorem dX0_leastCost_227 : decode cX0_leastCost 227 = .ok (.iastore, 1) := dk_79 (dk_at dksX0_leastCost_9 20 rfl rfl)
theorem dX0_leastCost_228 : decode cX0_leastCost 228 = .ok (.aload_n 0, 1) := dk_42 (dk_at dksX0_leastCost_9 21 rfl rfl)
theorem dX0_leastCost_229 : decode cX0_leastCost 229 = .ok (.getfield 88, 3) := dk_180 0 88 (dk_at dksX0_leastCost_10 0 rfl rfl)
theorem dX0_leastCost_232 : decode cX0_leastCost 232 = .ok (.iload 8, 2) := dk_21 8 (dk_at dksX0_leastCost_10 3 rfl rfl)
theorem dX0_leastCost_234 : decode cX0_leastCost 234 = .ok (.baload, 1) := dk_51 (dk_at dksX0_leastCost_10 5 rfl rfl)
theorem dX0_leastCost_235 : decode cX0_leastCost 235 = .ok (.ifCond .eq 6, 3) := dk_153 0 6 (dk_at dksX0_leastCost_10 6 rfl rfl)
theorem dX0_leastCost_238 : decode cX0_leastCost 238 = .ok (.goto 28, 3) := dk_167 0 28 (dk_at dksX0_leastCost_10 9 rfl rfl)
theorem dX0_leastCost_241 : decode cX0_leastCost 241 = .ok (.aload_n 0, 1) := dk_42 (dk_at dksX0_leastCost_10 12 rfl rfl)
theorem dX0_leastCost_242 : decode cX0_leastCost 242 = .ok (.getfield 88, 3) := dk_180 0 88 (dk_at dksX0_leastCost_10 13 rfl rfl)
theorem dX0_leastCost_245 : decode cX0_leastCost 245 = .ok (.iload 8, 2) := dk_21 8 (dk_at dksX0_leastCost_10 16 rfl rfl)
theorem dX0_leastCost_247 : decode cX0_leastCost 247 = .ok (.iconst 1, 1) := dk_4 (dk_at dksX0_leastCost_10 18 rfl rfl)
theorem dX0_leastCost_248 : decode cX0_leastCost 248 = .ok (.bastore, 1) := dk_84 (dk_at dksX0_leastCost_10 19 rfl rfl)
theorem dX0_leastCost_249 : decode cX0_leastCost 249 = .ok (.aload_n 0, 1) := dk_42 (dk_at dksX0_leastCost_10 20 rfl rfl)
theorem dX0_leastCost_250 : decode cX0_leastCost 250 = .ok (.getfield 81, 3) := dk_180 0 81 (dk_at dksX0_leastCost_10 21 rfl rfl)
theorem dX0_leastCost_253 : decode cX0_leastCost 253 = .ok (.iload 4, 2) := dk_21 4 (dk_at dksX0_leastCost_11 0 rfl rfl)
theorem dX0_leastCost_255 : decode cX0_leastCost 255 = .ok (.iload 5, 2) := dk_21 5 (dk_at dksX0_leastCost_11 2 rfl rfl)
theorem dX0_leastCost_257 : decode cX0_leastCost 257 = .ok (.iadd, 1) := dk_96 (dk_at dksX0_leastCost_11 4 rfl rfl)
theorem dX0_leastCost_258 : decode cX0_leastCost 258 = .ok (.iload_n 3, 1) := dk_29 (dk_at dksX0_leastCost_11 5 rfl rfl)
theorem dX0_leastCost_259 : decode cX0_leastCost 259 = .ok (.irem, 1) := dk_112 (dk_at dksX0_leastCost_11 6 rfl rfl)
theorem dX0_leastCost_260 : decode cX0_leastCost 260 = .ok (.iload 8, 2) := dk_21 8 (dk_at dksX0_leastCost_11 7 rfl rfl)
theorem dX0_leastCost_262 : decode cX0_leastCost 262 = .ok (.iastore, 1) := dk_79 (dk_at dksX0_leastCost_11 9 rfl rfl)
theorem dX0_leastCost_263 : decode cX0_leastCost 263 = .ok (.iinc 5 1, 3) := dk_132 5 1 (dk_at dksX0_leastCost_11 10 rfl rfl)
theorem dX0_leastCost_266 : decode cX0_leastCost 266 = .ok (.iinc 7 1, 3) := dk_132 7 1 (dk_at dksX0_leastCost_11 13 rfl rfl)
theorem dX0_leastCost_269 : decode cX0_leastCost 269 = .ok (.goto (-157), 3) := dk_167 255 99 (dk_at dksX0_leastCost_11 16 rfl rfl)
theorem dX0_leastCost_272 : decode cX0_leastCost 272 = .ok (.goto (-206), 3) := dk_167 255 50 (dk_at dksX0_leastCost_11 19 rfl rfl)
theorem dX0_leastCost_275 : decode cX0_leastCost 275 = .ok (.ldc_w 407, 3) := dk_19 1 151 (dk_at dksX0_leastCost_12 0 rfl rfl)
theorem dX0_leastCost_278 : decode cX0_leastCost 278 = .ok (.istore 6, 2) := dk_54 6 (dk_at dksX0_leastCost_12 3 rfl rfl)
theorem dX0_leastCost_280 : decode cX0_leastCost 280 = .ok (.iconst 0, 1) := dk_3 (dk_at dksX0_leastCost_12 5 rfl rfl)
theorem dX0_leastCost_281 : decode cX0_leastCost 281 = .ok (.istore 7, 2) := dk_54 7 (dk_at dksX0_leastCost_12 6 rfl rfl)
theorem dX0_leastCost_283 : decode cX0_leastCost 283 = .ok (.iload 7, 2) := dk_21 7 (dk_at dksX0_leastCost_12 8 rfl rfl)
theorem dX0_leastCost_285 : decode cX0_leastCost 285 = .ok (.ldc 77, 2) := dk_18 77 (dk_at dksX0_leastCost_12 10 rfl rfl)
theorem dX0_leastCost_287 : decode cX0_leastCost 287 = .ok (.if_icmp .ge 52, 3) := dk_162 0 52 (dk_at dksX0_leastCost_12 12 rfl rfl)
theorem dX0_leastCost_290 : decode cX0_leastCost 290 = .ok (.aload_n 0, 1) := dk_42 (dk_at dksX0_leastCost_12 15 rfl rfl)
theorem dX0_leastCost_291 : decode cX0_leastCost 291 = .ok (.getfield 78, 3) := dk_180 0 78 (dk_at dksX0_leastCost_12 16 rfl rfl)
theorem dX0_leastCost_294 : decode cX0_leastCost 294 = .ok (.iload 7, 2) := dk_21 7 (dk_at dksX0_leastCost_12 19 rfl rfl)
theorem dX0_leastCost_296 : decode cX0_leastCost 296 = .ok (.iaload, 1) := dk_46 (dk_at dksX0_leastCost_12 21 rfl rfl)
theorem dX0_leastCost_297 : decode cX0_leastCost 297 = .ok (.iload 6, 2) := dk_21 6 (dk_at dksX0_leastCost_12 22 rfl rfl)
theorem dX0_leastCost_299 : decode cX0_leastCost 299 = .ok (.if_icmp .lt 6, 3) := dk_161 0 6 (dk_at dksX0_leastCost_13 0 rfl rfl)
theorem dX0_leastCost_302 : decode cX0_leastCost 302 = .ok (.goto 31, 3) := dk_167 0 31 (dk_at dksX0_leastCost_13 3 rfl rfl)
theorem dX0_leastCost_305 : decode cX0_leastCost 305 = .ok (.aload_n 0, 1) := dk_42 (dk_at dksX0_leastCost_13 6 rfl rfl)
theorem dX0_leastCost_306 : decode cX0_leastCost 306 = .ok (.getfield 73, 3) := dk_180 0 73 (dk_at dksX0_leastCost_13 7 rfl rfl)
theorem dX0_leastCost_309 : decode cX0_leastCost 309 = .ok (.iload 7, 2) := dk_21 7 (dk_at dksX0_leastCost_13 10 rfl rfl)
theorem dX0_leastCost_311 : decode cX0_leastCost 311 = .ok (.invokevirtual 391, 3) := dk_182 1 135 (dk_at dksX0_leastCost_13 12 rfl rfl)
theorem dX0_leastCost_314 : decode cX0_leastCost 314 = .ok (.aload_n 0, 1) := dk_42 (dk_at dksX0_leastCost_13 15 rfl rfl)
theorem dX0_leastCost_315 : decode cX0_leastCost 315 = .ok (.getfield 73, 3) := dk_180 0 73 (dk_at dksX0_leastCost_13 16 rfl rfl)
theorem dX0_leastCost_318 : decode cX0_leastCost 318 = .ok (.invokevirtual 258, 3) := dk_182 1 2 (dk_at dksX0_leastCost_13 19 rfl rfl)
theorem dX0_leastCost_321 : decode cX0_leastCost 321 = .ok (.ifCond .eq 12, 3) := dk_153 0 12 (dk_at dksX0_leastCost_14 0 rfl rfl)
theorem dX0_leastCost_324 : decode cX0_leastCost 324 = .ok (.aload_n 0, 1) := dk_42 (dk_at dksX0_leastCost_14 3 rfl rfl)
theorem dX0_leastCost_325 : decode cX0_leastCost 325 = .ok (.getfield 78, 3) := dk_180 0 78 (dk_at dksX0_leastCost_14 4 rfl rfl)
theorem dX0_leastCost_328 : decode cX0_leastCost 328 = .ok (.iload 7, 2) := dk_21 7 (dk_at dksX0_leastCost_14 7 rfl rfl)
theorem dX0_leastCost_330 : decode cX0_leastCost 330 = .ok (.iaload, 1) := dk_46 (dk_at dksX0_leastCost_14 9 rfl rfl)
theorem dX0_leastCost_331 : decode cX0_leastCost 331 = .ok (.istore 6, 2) := dk_54 6 (dk_at dksX0_leastCost_14 10 rfl rfl)
theorem dX0_leastCost_333 : decode cX0_leastCost 333 = .ok (.iinc 7 1, 3) := dk_132 7 1 (dk_at dksX0_leastCost_14 12 rfl rfl)
theorem dX0_leastCost_336 : decode cX0_leastCost 336 = .ok (.goto (-53), 3) := dk_167 255 203 (dk_at dksX0_leastCost_14 15 rfl rfl)
theorem dX0_leastCost_339 : decode cX0_leastCost 339 = .ok (.iload 6, 2) := dk_21 6 (dk_at dksX0_leastCost_14 18 rfl rfl)
theorem dX0_leastCost_341 : decode cX0_leastCost 341 = .ok (.ldc_w 407, 3) := dk_19 1 151 (dk_at dksX0_leastCost_14 20 rfl rfl)
theorem dX0_leastCost_344 : decode cX0_leastCost 344 = .ok (.if_icmp .ne 7, 3) := dk_160 0 7 (dk_at dksX0_leastCost_15 0 rfl rfl)
theorem dX0_leastCost_347 : decode cX0_leastCost 347 = .ok (.iconst (-1), 1) := dk_2 (dk_at dksX0_leastCost_15 3 rfl rfl)
theorem dX0_leastCost_348 : decode cX0_leastCost 348 = .ok (.goto 5, 3) := dk_167 0 5 (dk_at dksX0_leastCost_15 4 rfl rfl)
theorem dX0_leastCost_351 : decode cX0_leastCost 351 = .ok (.iload 6, 2) := dk_21 6 (dk_at dksX0_leastCost_15 7 rfl rfl)
theorem dX0_leastCost_353 : decode cX0_leastCost 353 = .ok (.ireturn, 1) := dk_172 (dk_at dksX0_leastCost_15 9 rfl rfl)
abbrev cX0_findAll : ByteArray := prog_1_method_53_code
def yX0_findAll : MethodName := ⟨RX0, "findAll", "()V"⟩
def dkwX0_findAll_1 : List UInt8 := [132, 1, 1, 167, 255, 235, 177]
abbrev dktX0_findAll_1 : List UInt8 := dkwX0_findAll_1 ++ []
def dkwX0_findAll_0 : List UInt8 := [42, 182, 1, 140, 3, 60, 27, 42, 180, 1, 116, 162, 0, 19, 42, 42, 180, 0, 81, 27, 46, 182, 1, 143]
abbrev dktX0_findAll_0 : List UInt8 := dkwX0_findAll_0 ++ dktX0_findAll_1
theorem dksX0_findAll_0 : cX0_findAll.data.toList.drop 0 = dktX0_findAll_0 := by decide +kernel
theorem dksX0_findAll_1 : cX0_findAll.data.toList.drop 24 = dktX0_findAll_1 := dk_seg dksX0_findAll_0 24 rfl rfl
theorem dX0_findAll_0 : decode cX0_findAll 0 = .ok (.aload_n 0, 1) := dk_42 (dk_at dksX0_findAll_0 0 rfl rfl)
theorem dX0_findAll_1 : decode cX0_findAll 1 = .ok (.invokevirtual 396, 3) := dk_182 1 140 (dk_at dksX0_findAll_0 1 rfl rfl)
theorem dX0_findAll_4 : decode cX0_findAll 4 = .ok (.iconst 0, 1) := dk_3 (dk_at dksX0_findAll_0 4 rfl rfl)
theorem dX0_findAll_5 : decode cX0_findAll 5 = .ok (.istore_n 1, 1) := dk_60 (dk_at dksX0_findAll_0 5 rfl rfl)
theorem dX0_findAll_6 : decode cX0_findAll 6 = .ok (.iload_n 1, 1) := dk_27 (dk_at dksX0_findAll_0 6 rfl rfl)
theorem dX0_findAll_7 : decode cX0_findAll 7 = .ok (.aload_n 0, 1) := dk_42 (dk_at dksX0_findAll_0 7 rfl rfl)
theorem dX0_findAll_8 : decode cX0_findAll 8 = .ok (.getfield 372, 3) := dk_180 1 116 (dk_at dksX0_findAll_0 8 rfl rfl)
theorem dX0_findAll_11 : decode cX0_findAll 11 = .ok (.if_icmp .ge 19, 3) := dk_162 0 19 (dk_at dksX0_findAll_0 11 rfl rfl)
theorem dX0_findAll_14 : decode cX0_findAll 14 = .ok (.aload_n 0, 1) := dk_42 (dk_at dksX0_findAll_0 14 rfl rfl)
theorem dX0_findAll_15 : decode cX0_findAll 15 = .ok (.aload_n 0, 1) := dk_42 (dk_at dksX0_findAll_0 15 rfl rfl)
theorem dX0_findAll_16 : decode cX0_findAll 16 = .ok (.getfield 81, 3) := dk_180 0 81 (dk_at dksX0_findAll_0 16 rfl rfl)
theorem dX0_findAll_19 : decode cX0_findAll 19 = .ok (.iload_n 1, 1) := dk_27 (dk_at dksX0_findAll_0 19 rfl rfl)
theorem dX0_findAll_20 : decode cX0_findAll 20 = .ok (.iaload, 1) := dk_46 (dk_at dksX0_findAll_0 20 rfl rfl)
theorem dX0_findAll_21 : decode cX0_findAll 21 = .ok (.invokevirtual 399, 3) := dk_182 1 143 (dk_at dksX0_findAll_0 21 rfl rfl)
theorem dX0_findAll_24 : decode cX0_findAll 24 = .ok (.iinc 1 1, 3) := dk_132 1 1 (dk_at dksX0_findAll_1 0 rfl rfl)
theorem dX0_findAll_27 : decode cX0_findAll 27 = .ok (.goto (-21), 3) := dk_167 255 235 (dk_at dksX0_findAll_1 3 rfl rfl)
theorem dX0_findAll_30 : decode cX0_findAll 30 = .ok (.return_, 1) := dk_177 (dk_at dksX0_findAll_1 6 rfl rfl)
abbrev cX0_beginAll : ByteArray := prog_1_method_51_code
def yX0_beginAll : MethodName := ⟨RX0, "beginAll", "()V"⟩
def dkwX0_beginAll_2 : List UInt8 := [42, 3, 181, 1, 116, 42, 42, 180, 0, 73, 182, 1, 126, 3, 182, 1, 128, 177]
abbrev dktX0_beginAll_2 : List UInt8 := dkwX0_beginAll_2 ++ []
def dkwX0_beginAll_1 : List UInt8 := [182, 1, 123, 3, 60, 27, 18, 77, 162, 0, 16, 42, 180, 0, 78, 27, 2, 79, 132, 1, 1, 167, 255, 240]
abbrev dktX0_beginAll_1 : List UInt8 := dkwX0_beginAll_1 ++ dktX0_beginAll_2
def dkwX0_beginAll_0 : List UInt8 := [42, 180, 0, 73, 42, 180, 0, 55, 180, 0, 183, 182, 1, 119, 42, 180, 0, 66, 42, 182, 0, 188]
abbrev dktX0_beginAll_0 : List UInt8 := dkwX0_beginAll_0 ++ dktX0_beginAll_1
theorem dksX0_beginAll_0 : cX0_beginAll.data.toList.drop 0 = dktX0_beginAll_0 := by decide +kernel
theorem dksX0_beginAll_1 : cX0_beginAll.data.toList.drop 22 = dktX0_beginAll_1 := dk_seg dksX0_beginAll_0 22 rfl rfl
theorem dksX0_beginAll_2 : cX0_beginAll.data.toList.drop 46 = dktX0_beginAll_2 := dk_seg dksX0_beginAll_1 24 rfl rfl
theorem dX0_beginAll_0 : decode cX0_beginAll 0 = .ok (.aload_n 0, 1) := dk_42 (dk_at dksX0_beginAll_0 0 rfl rfl)
theorem dX0_beginAll_1 : decode cX0_beginAll 1 = .ok (.getfield 73, 3) := dk_180 0 73 (dk_at dksX0_beginAll_0 1 rfl rfl)
theorem dX0_beginAll_4 : decode cX0_beginAll 4 = .ok (.aload_n 0, 1) := dk_42 (dk_at dksX0_beginAll_0 4 rfl rfl)
theorem dX0_beginAll_5 : decode cX0_beginAll 5 = .ok (.getfield 55, 3) := dk_180 0 55 (dk_at dksX0_beginAll_0 5 rfl rfl)
theorem dX0_beginAll_8 : decode cX0_beginAll 8 = .ok (.getfield 183, 3) := dk_180 0 183 (dk_at dksX0_beginAll_0 8 rfl rfl)
theorem dX0_beginAll_11 : decode cX0_beginAll 11 = .ok (.invokevirtual 375, 3) := dk_182 1 119 (dk_at dksX0_beginAll_0 11 rfl rfl)
theorem dX0_beginAll_14 : decode cX0_beginAll 14 = .ok (.aload_n 0, 1) := dk_42 (dk_at dksX0_beginAll_0 14 rfl rfl)
theorem dX0_beginAll_15 : decode cX0_beginAll 15 = .ok (.getfield 66, 3) := dk_180 0 66 (dk_at dksX0_beginAll_0 15 rfl rfl)
theorem dX0_beginAll_18 : decode cX0_beginAll 18 = .ok (.aload_n 0, 1) := dk_42 (dk_at dksX0_beginAll_0 18 rfl rfl)
theorem dX0_beginAll_19 : decode cX0_beginAll 19 = .ok (.invokevirtual 188, 3) := dk_182 0 188 (dk_at dksX0_beginAll_0 19 rfl rfl)
theorem dX0_beginAll_22 : decode cX0_beginAll 22 = .ok (.invokevirtual 379, 3) := dk_182 1 123 (dk_at dksX0_beginAll_1 0 rfl rfl)
theorem dX0_beginAll_25 : decode cX0_beginAll 25 = .ok (.iconst 0, 1) := dk_3 (dk_at dksX0_beginAll_1 3 rfl rfl)
theorem dX0_beginAll_26 : decode cX0_beginAll 26 = .ok (.istore_n 1, 1) := dk_60 (dk_at dksX0_beginAll_1 4 rfl rfl)
theorem dX0_beginAll_27 : decode cX0_beginAll 27 = .ok (.iload_n 1, 1) := dk_27 (dk_at dksX0_beginAll_1 5 rfl rfl)
theorem dX0_beginAll_28 : decode cX0_beginAll 28 = .ok (.ldc 77, 2) := dk_18 77 (dk_at dksX0_beginAll_1 6 rfl rfl)
theorem dX0_beginAll_30 : decode cX0_beginAll 30 = .ok (.if_icmp .ge 16, 3) := dk_162 0 16 (dk_at dksX0_beginAll_1 8 rfl rfl)
theorem dX0_beginAll_33 : decode cX0_beginAll 33 = .ok (.aload_n 0, 1) := dk_42 (dk_at dksX0_beginAll_1 11 rfl rfl)
theorem dX0_beginAll_34 : decode cX0_beginAll 34 = .ok (.getfield 78, 3) := dk_180 0 78 (dk_at dksX0_beginAll_1 12 rfl rfl)
theorem dX0_beginAll_37 : decode cX0_beginAll 37 = .ok (.iload_n 1, 1) := dk_27 (dk_at dksX0_beginAll_1 15 rfl rfl)
theorem dX0_beginAll_38 : decode cX0_beginAll 38 = .ok (.iconst (-1), 1) := dk_2 (dk_at dksX0_beginAll_1 16 rfl rfl)
theorem dX0_beginAll_39 : decode cX0_beginAll 39 = .ok (.iastore, 1) := dk_79 (dk_at dksX0_beginAll_1 17 rfl rfl)
theorem dX0_beginAll_40 : decode cX0_beginAll 40 = .ok (.iinc 1 1, 3) := dk_132 1 1 (dk_at dksX0_beginAll_1 18 rfl rfl)
theorem dX0_beginAll_43 : decode cX0_beginAll 43 = .ok (.goto (-16), 3) := dk_167 255 240 (dk_at dksX0_beginAll_1 21 rfl rfl)
theorem dX0_beginAll_46 : decode cX0_beginAll 46 = .ok (.aload_n 0, 1) := dk_42 (dk_at dksX0_beginAll_2 0 rfl rfl)
theorem dX0_beginAll_47 : decode cX0_beginAll 47 = .ok (.iconst 0, 1) := dk_3 (dk_at dksX0_beginAll_2 1 rfl rfl)
theorem dX0_beginAll_48 : decode cX0_beginAll 48 = .ok (.putfield 372, 3) := dk_181 1 116 (dk_at dksX0_beginAll_2 2 rfl rfl)
theorem dX0_beginAll_51 : decode cX0_beginAll 51 = .ok (.aload_n 0, 1) := dk_42 (dk_at dksX0_beginAll_2 5 rfl rfl)
theorem dX0_beginAll_52 : decode cX0_beginAll 52 = .ok (.aload_n 0, 1) := dk_42 (dk_at dksX0_beginAll_2 6 rfl rfl)
theorem dX0_beginAll_53 : decode cX0_beginAll 53 = .ok (.getfield 73, 3) := dk_180 0 73 (dk_at dksX0_beginAll_2 7 rfl rfl)
theorem dX0_beginAll_56 : decode cX0_beginAll 56 = .ok (.invokevirtual 382, 3) := dk_182 1 126 (dk_at dksX0_beginAll_2 10 rfl rfl)
theorem dX0_beginAll_59 : decode cX0_beginAll 59 = .ok (.iconst 0, 1) := dk_3 (dk_at dksX0_beginAll_2 13 rfl rfl)
theorem dX0_beginAll_60 : decode cX0_beginAll 60 = .ok (.invokevirtual 384, 3) := dk_182 1 128 (dk_at dksX0_beginAll_2 14 rfl rfl)
theorem dX0_beginAll_63 : decode cX0_beginAll 63 = .ok (.return_, 1) := dk_177 (dk_at dksX0_beginAll_2 17 rfl rfl)
abbrev cX0_see : ByteArray := prog_1_method_50_code
def yX0_see : MethodName := ⟨RX0, "see", "(II)V"⟩
def dkwX0_see_1 : List UInt8 := [180, 1, 116, 27, 79, 42, 89, 180, 1, 116, 4, 96, 181, 1, 116, 177]
abbrev dktX0_see_1 : List UInt8 := dkwX0_see_1 ++ []
def dkwX0_see_0 : List UInt8 := [42, 180, 0, 78, 27, 46, 155, 0, 4, 177, 42, 180, 0, 78, 27, 28, 79, 42, 180, 0, 81, 42]
abbrev dktX0_see_0 : List UInt8 := dkwX0_see_0 ++ dktX0_see_1
theorem dksX0_see_0 : cX0_see.data.toList.drop 0 = dktX0_see_0 := by decide +kernel
theorem dksX0_see_1 : cX0_see.data.toList.drop 22 = dktX0_see_1 := dk_seg dksX0_see_0 22 rfl rfl
theorem dX0_see_0 : decode cX0_see 0 = .ok (.aload_n 0, 1) := dk_42 (dk_at dksX0_see_0 0 rfl rfl)
theorem dX0_see_1 : decode cX0_see 1 = .ok (.getfield 78, 3) := dk_180 0 78 (dk_at dksX0_see_0 1 rfl rfl)
theorem dX0_see_4 : decode cX0_see 4 = .ok (.iload_n 1, 1) := dk_27 (dk_at dksX0_see_0 4 rfl rfl)
theorem dX0_see_5 : decode cX0_see 5 = .ok (.iaload, 1) := dk_46 (dk_at dksX0_see_0 5 rfl rfl)
theorem dX0_see_6 : decode cX0_see 6 = .ok (.ifCond .lt 4, 3) := dk_155 0 4 (dk_at dksX0_see_0 6 rfl rfl)
theorem dX0_see_9 : decode cX0_see 9 = .ok (.return_, 1) := dk_177 (dk_at dksX0_see_0 9 rfl rfl)
theorem dX0_see_10 : decode cX0_see 10 = .ok (.aload_n 0, 1) := dk_42 (dk_at dksX0_see_0 10 rfl rfl)
theorem dX0_see_11 : decode cX0_see 11 = .ok (.getfield 78, 3) := dk_180 0 78 (dk_at dksX0_see_0 11 rfl rfl)
theorem dX0_see_14 : decode cX0_see 14 = .ok (.iload_n 1, 1) := dk_27 (dk_at dksX0_see_0 14 rfl rfl)
theorem dX0_see_15 : decode cX0_see 15 = .ok (.iload_n 2, 1) := dk_28 (dk_at dksX0_see_0 15 rfl rfl)
theorem dX0_see_16 : decode cX0_see 16 = .ok (.iastore, 1) := dk_79 (dk_at dksX0_see_0 16 rfl rfl)
theorem dX0_see_17 : decode cX0_see 17 = .ok (.aload_n 0, 1) := dk_42 (dk_at dksX0_see_0 17 rfl rfl)
theorem dX0_see_18 : decode cX0_see 18 = .ok (.getfield 81, 3) := dk_180 0 81 (dk_at dksX0_see_0 18 rfl rfl)
theorem dX0_see_21 : decode cX0_see 21 = .ok (.aload_n 0, 1) := dk_42 (dk_at dksX0_see_0 21 rfl rfl)
theorem dX0_see_22 : decode cX0_see 22 = .ok (.getfield 372, 3) := dk_180 1 116 (dk_at dksX0_see_1 0 rfl rfl)
theorem dX0_see_25 : decode cX0_see 25 = .ok (.iload_n 1, 1) := dk_27 (dk_at dksX0_see_1 3 rfl rfl)
theorem dX0_see_26 : decode cX0_see 26 = .ok (.iastore, 1) := dk_79 (dk_at dksX0_see_1 4 rfl rfl)
theorem dX0_see_27 : decode cX0_see 27 = .ok (.aload_n 0, 1) := dk_42 (dk_at dksX0_see_1 5 rfl rfl)
theorem dX0_see_28 : decode cX0_see 28 = .ok (.dup, 1) := dk_89 (dk_at dksX0_see_1 6 rfl rfl)
theorem dX0_see_29 : decode cX0_see 29 = .ok (.getfield 372, 3) := dk_180 1 116 (dk_at dksX0_see_1 7 rfl rfl)
theorem dX0_see_32 : decode cX0_see 32 = .ok (.iconst 1, 1) := dk_4 (dk_at dksX0_see_1 10 rfl rfl)
theorem dX0_see_33 : decode cX0_see 33 = .ok (.iadd, 1) := dk_96 (dk_at dksX0_see_1 11 rfl rfl)
theorem dX0_see_34 : decode cX0_see 34 = .ok (.putfield 372, 3) := dk_181 1 116 (dk_at dksX0_see_1 12 rfl rfl)
theorem dX0_see_37 : decode cX0_see 37 = .ok (.return_, 1) := dk_177 (dk_at dksX0_see_1 15 rfl rfl)
abbrev cX0_spread : ByteArray := prog_1_method_52_code
def yX0_spread : MethodName := ⟨RX0, "spread", "(I)V"⟩
def dkwX0_spread_2 : List UInt8 := [180, 0, 78, 27, 46, 4, 96, 182, 1, 128, 132, 2, 1, 167, 255, 200, 177]
abbrev dktX0_spread_2 : List UInt8 := dkwX0_spread_2 ++ []
def dkwX0_spread_1 : List UInt8 := [180, 0, 66, 42, 180, 0, 73, 28, 182, 1, 137, 153, 0, 22, 42, 42, 180, 0, 73, 182, 1, 126, 42]
abbrev dktX0_spread_1 : List UInt8 := dkwX0_spread_1 ++ dktX0_spread_2
def dkwX0_spread_0 : List UInt8 := [3, 61, 28, 42, 180, 0, 66, 180, 1, 132, 162, 0, 51, 42, 180, 0, 73, 27, 182, 1, 135, 42]
abbrev dktX0_spread_0 : List UInt8 := dkwX0_spread_0 ++ dktX0_spread_1
theorem dksX0_spread_0 : cX0_spread.data.toList.drop 0 = dktX0_spread_0 := by decide +kernel
theorem dksX0_spread_1 : cX0_spread.data.toList.drop 22 = dktX0_spread_1 := dk_seg dksX0_spread_0 22 rfl rfl
theorem dksX0_spread_2 : cX0_spread.data.toList.drop 45 = dktX0_spread_2 := dk_seg dksX0_spread_1 23 rfl rfl
theorem dX0_spread_0 : decode cX0_spread 0 = .ok (.iconst 0, 1) := dk_3 (dk_at dksX0_spread_0 0 rfl rfl)
theorem dX0_spread_1 : decode cX0_spread 1 = .ok (.istore_n 2, 1) := dk_61 (dk_at dksX0_spread_0 1 rfl rfl)
theorem dX0_spread_2 : decode cX0_spread 2 = .ok (.iload_n 2, 1) := dk_28 (dk_at dksX0_spread_0 2 rfl rfl)
theorem dX0_spread_3 : decode cX0_spread 3 = .ok (.aload_n 0, 1) := dk_42 (dk_at dksX0_spread_0 3 rfl rfl)
theorem dX0_spread_4 : decode cX0_spread 4 = .ok (.getfield 66, 3) := dk_180 0 66 (dk_at dksX0_spread_0 4 rfl rfl)
theorem dX0_spread_7 : decode cX0_spread 7 = .ok (.getfield 388, 3) := dk_180 1 132 (dk_at dksX0_spread_0 7 rfl rfl)
theorem dX0_spread_10 : decode cX0_spread 10 = .ok (.if_icmp .ge 51, 3) := dk_162 0 51 (dk_at dksX0_spread_0 10 rfl rfl)
theorem dX0_spread_13 : decode cX0_spread 13 = .ok (.aload_n 0, 1) := dk_42 (dk_at dksX0_spread_0 13 rfl rfl)
theorem dX0_spread_14 : decode cX0_spread 14 = .ok (.getfield 73, 3) := dk_180 0 73 (dk_at dksX0_spread_0 14 rfl rfl)
theorem dX0_spread_17 : decode cX0_spread 17 = .ok (.iload_n 1, 1) := dk_27 (dk_at dksX0_spread_0 17 rfl rfl)
theorem dX0_spread_18 : decode cX0_spread 18 = .ok (.invokevirtual 391, 3) := dk_182 1 135 (dk_at dksX0_spread_0 18 rfl rfl)
theorem dX0_spread_21 : decode cX0_spread 21 = .ok (.aload_n 0, 1) := dk_42 (dk_at dksX0_spread_0 21 rfl rfl)
theorem dX0_spread_22 : decode cX0_spread 22 = .ok (.getfield 66, 3) := dk_180 0 66 (dk_at dksX0_spread_1 0 rfl rfl)
theorem dX0_spread_25 : decode cX0_spread 25 = .ok (.aload_n 0, 1) := dk_42 (dk_at dksX0_spread_1 3 rfl rfl)
theorem dX0_spread_26 : decode cX0_spread 26 = .ok (.getfield 73, 3) := dk_180 0 73 (dk_at dksX0_spread_1 4 rfl rfl)
theorem dX0_spread_29 : decode cX0_spread 29 = .ok (.iload_n 2, 1) := dk_28 (dk_at dksX0_spread_1 7 rfl rfl)
theorem dX0_spread_30 : decode cX0_spread 30 = .ok (.invokevirtual 393, 3) := dk_182 1 137 (dk_at dksX0_spread_1 8 rfl rfl)
theorem dX0_spread_33 : decode cX0_spread 33 = .ok (.ifCond .eq 22, 3) := dk_153 0 22 (dk_at dksX0_spread_1 11 rfl rfl)
theorem dX0_spread_36 : decode cX0_spread 36 = .ok (.aload_n 0, 1) := dk_42 (dk_at dksX0_spread_1 14 rfl rfl)
theorem dX0_spread_37 : decode cX0_spread 37 = .ok (.aload_n 0, 1) := dk_42 (dk_at dksX0_spread_1 15 rfl rfl)
theorem dX0_spread_38 : decode cX0_spread 38 = .ok (.getfield 73, 3) := dk_180 0 73 (dk_at dksX0_spread_1 16 rfl rfl)
theorem dX0_spread_41 : decode cX0_spread 41 = .ok (.invokevirtual 382, 3) := dk_182 1 126 (dk_at dksX0_spread_1 19 rfl rfl)
theorem dX0_spread_44 : decode cX0_spread 44 = .ok (.aload_n 0, 1) := dk_42 (dk_at dksX0_spread_1 22 rfl rfl)
theorem dX0_spread_45 : decode cX0_spread 45 = .ok (.getfield 78, 3) := dk_180 0 78 (dk_at dksX0_spread_2 0 rfl rfl)
theorem dX0_spread_48 : decode cX0_spread 48 = .ok (.iload_n 1, 1) := dk_27 (dk_at dksX0_spread_2 3 rfl rfl)
theorem dX0_spread_49 : decode cX0_spread 49 = .ok (.iaload, 1) := dk_46 (dk_at dksX0_spread_2 4 rfl rfl)
theorem dX0_spread_50 : decode cX0_spread 50 = .ok (.iconst 1, 1) := dk_4 (dk_at dksX0_spread_2 5 rfl rfl)
theorem dX0_spread_51 : decode cX0_spread 51 = .ok (.iadd, 1) := dk_96 (dk_at dksX0_spread_2 6 rfl rfl)
theorem dX0_spread_52 : decode cX0_spread 52 = .ok (.invokevirtual 384, 3) := dk_182 1 128 (dk_at dksX0_spread_2 7 rfl rfl)
theorem dX0_spread_55 : decode cX0_spread 55 = .ok (.iinc 2 1, 3) := dk_132 2 1 (dk_at dksX0_spread_2 10 rfl rfl)
theorem dX0_spread_58 : decode cX0_spread 58 = .ok (.goto (-56), 3) := dk_167 255 200 (dk_at dksX0_spread_2 13 rfl rfl)
theorem dX0_spread_61 : decode cX0_spread 61 = .ok (.return_, 1) := dk_177 (dk_at dksX0_spread_2 16 rfl rfl)
abbrev cX0_findDone : ByteArray := prog_1_method_54_code
def yX0_findDone : MethodName := ⟨RX0, "findDone", "()I"⟩
def dkwX0_findDone_2 : List UInt8 := [180, 0, 81, 27, 46, 182, 1, 143, 132, 1, 1, 167, 255, 205, 2, 172]
abbrev dktX0_findDone_2 : List UInt8 := dkwX0_findDone_2 ++ []
def dkwX0_findDone_1 : List UInt8 := [182, 1, 135, 42, 180, 0, 73, 182, 1, 2, 153, 0, 10, 42, 180, 0, 81, 27, 46, 172, 42, 42]
abbrev dktX0_findDone_1 : List UInt8 := dkwX0_findDone_1 ++ dktX0_findDone_2
def dkwX0_findDone_0 : List UInt8 := [42, 182, 1, 140, 3, 60, 27, 42, 180, 1, 116, 162, 0, 49, 42, 180, 0, 73, 42, 180, 0, 81, 27, 46]
abbrev dktX0_findDone_0 : List UInt8 := dkwX0_findDone_0 ++ dktX0_findDone_1
theorem dksX0_findDone_0 : cX0_findDone.data.toList.drop 0 = dktX0_findDone_0 := by decide +kernel
theorem dksX0_findDone_1 : cX0_findDone.data.toList.drop 24 = dktX0_findDone_1 := dk_seg dksX0_findDone_0 24 rfl rfl
theorem dksX0_findDone_2 : cX0_findDone.data.toList.drop 46 = dktX0_findDone_2 := dk_seg dksX0_findDone_1 22 rfl rfl
theorem dX0_findDone_0 : decode cX0_findDone 0 = .ok (.aload_n 0, 1) := dk_42 (dk_at dksX0_findDone_0 0 rfl rfl)
theorem dX0_findDone_1 : decode cX0_findDone 1 = .ok (.invokevirtual 396, 3) := dk_182 1 140 (dk_at dksX0_findDone_0 1 rfl rfl)
theorem dX0_findDone_4 : decode cX0_findDone 4 = .ok (.iconst 0, 1) := dk_3 (dk_at dksX0_findDone_0 4 rfl rfl)
theorem dX0_findDone_5 : decode cX0_findDone 5 = .ok (.istore_n 1, 1) := dk_60 (dk_at dksX0_findDone_0 5 rfl rfl)
theorem dX0_findDone_6 : decode cX0_findDone 6 = .ok (.iload_n 1, 1) := dk_27 (dk_at dksX0_findDone_0 6 rfl rfl)
theorem dX0_findDone_7 : decode cX0_findDone 7 = .ok (.aload_n 0, 1) := dk_42 (dk_at dksX0_findDone_0 7 rfl rfl)
theorem dX0_findDone_8 : decode cX0_findDone 8 = .ok (.getfield 372, 3) := dk_180 1 116 (dk_at dksX0_findDone_0 8 rfl rfl)
theorem dX0_findDone_11 : decode cX0_findDone 11 = .ok (.if_icmp .ge 49, 3) := dk_162 0 49 (dk_at dksX0_findDone_0 11 rfl rfl)
theorem dX0_findDone_14 : decode cX0_findDone 14 = .ok (.aload_n 0, 1) := dk_42 (dk_at dksX0_findDone_0 14 rfl rfl)
theorem dX0_findDone_15 : decode cX0_findDone 15 = .ok (.getfield 73, 3) := dk_180 0 73 (dk_at dksX0_findDone_0 15 rfl rfl)
theorem dX0_findDone_18 : decode cX0_findDone 18 = .ok (.aload_n 0, 1) := dk_42 (dk_at dksX0_findDone_0 18 rfl rfl)
theorem dX0_findDone_19 : decode cX0_findDone 19 = .ok (.getfield 81, 3) := dk_180 0 81 (dk_at dksX0_findDone_0 19 rfl rfl)
theorem dX0_findDone_22 : decode cX0_findDone 22 = .ok (.iload_n 1, 1) := dk_27 (dk_at dksX0_findDone_0 22 rfl rfl)
theorem dX0_findDone_23 : decode cX0_findDone 23 = .ok (.iaload, 1) := dk_46 (dk_at dksX0_findDone_0 23 rfl rfl)
theorem dX0_findDone_24 : decode cX0_findDone 24 = .ok (.invokevirtual 391, 3) := dk_182 1 135 (dk_at dksX0_findDone_1 0 rfl rfl)
theorem dX0_findDone_27 : decode cX0_findDone 27 = .ok (.aload_n 0, 1) := dk_42 (dk_at dksX0_findDone_1 3 rfl rfl)
theorem dX0_findDone_28 : decode cX0_findDone 28 = .ok (.getfield 73, 3) := dk_180 0 73 (dk_at dksX0_findDone_1 4 rfl rfl)
theorem dX0_findDone_31 : decode cX0_findDone 31 = .ok (.invokevirtual 258, 3) := dk_182 1 2 (dk_at dksX0_findDone_1 7 rfl rfl)
theorem dX0_findDone_34 : decode cX0_findDone 34 = .ok (.ifCond .eq 10, 3) := dk_153 0 10 (dk_at dksX0_findDone_1 10 rfl rfl)
theorem dX0_findDone_37 : decode cX0_findDone 37 = .ok (.aload_n 0, 1) := dk_42 (dk_at dksX0_findDone_1 13 rfl rfl)
theorem dX0_findDone_38 : decode cX0_findDone 38 = .ok (.getfield 81, 3) := dk_180 0 81 (dk_at dksX0_findDone_1 14 rfl rfl)
theorem dX0_findDone_41 : decode cX0_findDone 41 = .ok (.iload_n 1, 1) := dk_27 (dk_at dksX0_findDone_1 17 rfl rfl)
theorem dX0_findDone_42 : decode cX0_findDone 42 = .ok (.iaload, 1) := dk_46 (dk_at dksX0_findDone_1 18 rfl rfl)
theorem dX0_findDone_43 : decode cX0_findDone 43 = .ok (.ireturn, 1) := dk_172 (dk_at dksX0_findDone_1 19 rfl rfl)
theorem dX0_findDone_44 : decode cX0_findDone 44 = .ok (.aload_n 0, 1) := dk_42 (dk_at dksX0_findDone_1 20 rfl rfl)
theorem dX0_findDone_45 : decode cX0_findDone 45 = .ok (.aload_n 0, 1) := dk_42 (dk_at dksX0_findDone_1 21 rfl rfl)
theorem dX0_findDone_46 : decode cX0_findDone 46 = .ok (.getfield 81, 3) := dk_180 0 81 (dk_at dksX0_findDone_2 0 rfl rfl)
theorem dX0_findDone_49 : decode cX0_findDone 49 = .ok (.iload_n 1, 1) := dk_27 (dk_at dksX0_findDone_2 3 rfl rfl)
theorem dX0_findDone_50 : decode cX0_findDone 50 = .ok (.iaload, 1) := dk_46 (dk_at dksX0_findDone_2 4 rfl rfl)
theorem dX0_findDone_51 : decode cX0_findDone 51 = .ok (.invokevirtual 399, 3) := dk_182 1 143 (dk_at dksX0_findDone_2 5 rfl rfl)
theorem dX0_findDone_54 : decode cX0_findDone 54 = .ok (.iinc 1 1, 3) := dk_132 1 1 (dk_at dksX0_findDone_2 8 rfl rfl)
theorem dX0_findDone_57 : decode cX0_findDone 57 = .ok (.goto (-51), 3) := dk_167 255 205 (dk_at dksX0_findDone_2 11 rfl rfl)
theorem dX0_findDone_60 : decode cX0_findDone 60 = .ok (.iconst (-1), 1) := dk_2 (dk_at dksX0_findDone_2 14 rfl rfl)
theorem dX0_findDone_61 : decode cX0_findDone 61 = .ok (.ireturn, 1) := dk_172 (dk_at dksX0_findDone_2 15 rfl rfl)
abbrev cX0_first : ByteArray := prog_1_method_57_code
def yX0_first : MethodName := ⟨RX0, "first", "()I"⟩
def dkwX0_first_5 : List UInt8 := [181, 1, 174, 28, 172]
abbrev dktX0_first_5 : List UInt8 := dkwX0_first_5 ++ []
def dkwX0_first_4 : List UInt8 := [21, 4, 28, 162, 0, 17, 42, 29, 21, 4, 182, 1, 170, 62, 132, 4, 1, 167, 255, 239, 42, 28]
abbrev dktX0_first_4 : List UInt8 := dkwX0_first_4 ++ dktX0_first_5
def dkwX0_first_3 : List UInt8 := [167, 255, 227, 42, 180, 0, 81, 3, 46, 62, 42, 180, 0, 94, 42, 182, 0, 188, 182, 1, 123, 3, 54, 4]
abbrev dktX0_first_3 : List UInt8 := dkwX0_first_3 ++ dktX0_first_4
def dkwX0_first_2 : List UInt8 := [180, 0, 84, 42, 180, 0, 81, 29, 46, 42, 42, 180, 0, 81, 29, 46, 28, 182, 1, 167, 84, 132, 3, 255]
abbrev dktX0_first_2 : List UInt8 := dkwX0_first_2 ++ dktX0_first_3
def dkwX0_first_1 : List UInt8 := [156, 0, 5, 2, 172, 42, 180, 0, 78, 27, 46, 61, 42, 180, 1, 116, 4, 100, 62, 29, 155, 0, 31, 42]
abbrev dktX0_first_1 : List UInt8 := dkwX0_first_1 ++ dktX0_first_2
def dkwX0_first_0 : List UInt8 := [42, 182, 1, 164, 60, 42, 27, 156, 0, 7, 2, 167, 0, 9, 42, 180, 0, 78, 27, 46, 182, 1, 65]
abbrev dktX0_first_0 : List UInt8 := dkwX0_first_0 ++ dktX0_first_1
theorem dksX0_first_0 : cX0_first.data.toList.drop 0 = dktX0_first_0 := by decide +kernel
theorem dksX0_first_1 : cX0_first.data.toList.drop 23 = dktX0_first_1 := dk_seg dksX0_first_0 23 rfl rfl
theorem dksX0_first_2 : cX0_first.data.toList.drop 47 = dktX0_first_2 := dk_seg dksX0_first_1 24 rfl rfl
theorem dksX0_first_3 : cX0_first.data.toList.drop 71 = dktX0_first_3 := dk_seg dksX0_first_2 24 rfl rfl
theorem dksX0_first_4 : cX0_first.data.toList.drop 95 = dktX0_first_4 := dk_seg dksX0_first_3 24 rfl rfl
theorem dksX0_first_5 : cX0_first.data.toList.drop 117 = dktX0_first_5 := dk_seg dksX0_first_4 22 rfl rfl
theorem dX0_first_0 : decode cX0_first 0 = .ok (.aload_n 0, 1) := dk_42 (dk_at dksX0_first_0 0 rfl rfl)
theorem dX0_first_1 : decode cX0_first 1 = .ok (.invokevirtual 420, 3) := dk_182 1 164 (dk_at dksX0_first_0 1 rfl rfl)
theorem dX0_first_4 : decode cX0_first 4 = .ok (.istore_n 1, 1) := dk_60 (dk_at dksX0_first_0 4 rfl rfl)
theorem dX0_first_5 : decode cX0_first 5 = .ok (.aload_n 0, 1) := dk_42 (dk_at dksX0_first_0 5 rfl rfl)
theorem dX0_first_6 : decode cX0_first 6 = .ok (.iload_n 1, 1) := dk_27 (dk_at dksX0_first_0 6 rfl rfl)
theorem dX0_first_7 : decode cX0_first 7 = .ok (.ifCond .ge 7, 3) := dk_156 0 7 (dk_at dksX0_first_0 7 rfl rfl)
theorem dX0_first_10 : decode cX0_first 10 = .ok (.iconst (-1), 1) := dk_2 (dk_at dksX0_first_0 10 rfl rfl)
theorem dX0_first_11 : decode cX0_first 11 = .ok (.goto 9, 3) := dk_167 0 9 (dk_at dksX0_first_0 11 rfl rfl)
theorem dX0_first_14 : decode cX0_first 14 = .ok (.aload_n 0, 1) := dk_42 (dk_at dksX0_first_0 14 rfl rfl)
theorem dX0_first_15 : decode cX0_first 15 = .ok (.getfield 78, 3) := dk_180 0 78 (dk_at dksX0_first_0 15 rfl rfl)
theorem dX0_first_18 : decode cX0_first 18 = .ok (.iload_n 1, 1) := dk_27 (dk_at dksX0_first_0 18 rfl rfl)
theorem dX0_first_19 : decode cX0_first 19 = .ok (.iaload, 1) := dk_46 (dk_at dksX0_first_0 19 rfl rfl)
theorem dX0_first_20 : decode cX0_first 20 = .ok (.invokevirtual 321, 3) := dk_182 1 65 (dk_at dksX0_first_0 20 rfl rfl)
theorem dX0_first_23 : decode cX0_first 23 = .ok (.ifCond .ge 5, 3) := dk_156 0 5 (dk_at dksX0_first_1 0 rfl rfl)
theorem dX0_first_26 : decode cX0_first 26 = .ok (.iconst (-1), 1) := dk_2 (dk_at dksX0_first_1 3 rfl rfl)
theorem dX0_first_27 : decode cX0_first 27 = .ok (.ireturn, 1) := dk_172 (dk_at dksX0_first_1 4 rfl rfl)
theorem dX0_first_28 : decode cX0_first 28 = .ok (.aload_n 0, 1) := dk_42 (dk_at dksX0_first_1 5 rfl rfl)
theorem dX0_first_29 : decode cX0_first 29 = .ok (.getfield 78, 3) := dk_180 0 78 (dk_at dksX0_first_1 6 rfl rfl)
theorem dX0_first_32 : decode cX0_first 32 = .ok (.iload_n 1, 1) := dk_27 (dk_at dksX0_first_1 9 rfl rfl)
theorem dX0_first_33 : decode cX0_first 33 = .ok (.iaload, 1) := dk_46 (dk_at dksX0_first_1 10 rfl rfl)
theorem dX0_first_34 : decode cX0_first 34 = .ok (.istore_n 2, 1) := dk_61 (dk_at dksX0_first_1 11 rfl rfl)
theorem dX0_first_35 : decode cX0_first 35 = .ok (.aload_n 0, 1) := dk_42 (dk_at dksX0_first_1 12 rfl rfl)
theorem dX0_first_36 : decode cX0_first 36 = .ok (.getfield 372, 3) := dk_180 1 116 (dk_at dksX0_first_1 13 rfl rfl)
theorem dX0_first_39 : decode cX0_first 39 = .ok (.iconst 1, 1) := dk_4 (dk_at dksX0_first_1 16 rfl rfl)
theorem dX0_first_40 : decode cX0_first 40 = .ok (.isub, 1) := dk_100 (dk_at dksX0_first_1 17 rfl rfl)
theorem dX0_first_41 : decode cX0_first 41 = .ok (.istore_n 3, 1) := dk_62 (dk_at dksX0_first_1 18 rfl rfl)
theorem dX0_first_42 : decode cX0_first 42 = .ok (.iload_n 3, 1) := dk_29 (dk_at dksX0_first_1 19 rfl rfl)
theorem dX0_first_43 : decode cX0_first 43 = .ok (.ifCond .lt 31, 3) := dk_155 0 31 (dk_at dksX0_first_1 20 rfl rfl)
theorem dX0_first_46 : decode cX0_first 46 = .ok (.aload_n 0, 1) := dk_42 (dk_at dksX0_first_1 23 rfl rfl)
theorem dX0_first_47 : decode cX0_first 47 = .ok (.getfield 84, 3) := dk_180 0 84 (dk_at dksX0_first_2 0 rfl rfl)
theorem dX0_first_50 : decode cX0_first 50 = .ok (.aload_n 0, 1) := dk_42 (dk_at dksX0_first_2 3 rfl rfl)
theorem dX0_first_51 : decode cX0_first 51 = .ok (.getfield 81, 3) := dk_180 0 81 (dk_at dksX0_first_2 4 rfl rfl)
theorem dX0_first_54 : decode cX0_first 54 = .ok (.iload_n 3, 1) := dk_29 (dk_at dksX0_first_2 7 rfl rfl)
theorem dX0_first_55 : decode cX0_first 55 = .ok (.iaload, 1) := dk_46 (dk_at dksX0_first_2 8 rfl rfl)
theorem dX0_first_56 : decode cX0_first 56 = .ok (.aload_n 0, 1) := dk_42 (dk_at dksX0_first_2 9 rfl rfl)
theorem dX0_first_57 : decode cX0_first 57 = .ok (.aload_n 0, 1) := dk_42 (dk_at dksX0_first_2 10 rfl rfl)
theorem dX0_first_58 : decode cX0_first 58 = .ok (.getfield 81, 3) := dk_180 0 81 (dk_at dksX0_first_2 11 rfl rfl)
theorem dX0_first_61 : decode cX0_first 61 = .ok (.iload_n 3, 1) := dk_29 (dk_at dksX0_first_2 14 rfl rfl)
theorem dX0_first_62 : decode cX0_first 62 = .ok (.iaload, 1) := dk_46 (dk_at dksX0_first_2 15 rfl rfl)
theorem dX0_first_63 : decode cX0_first 63 = .ok (.iload_n 2, 1) := dk_28 (dk_at dksX0_first_2 16 rfl rfl)
theorem dX0_first_64 : decode cX0_first 64 = .ok (.invokevirtual 423, 3) := dk_182 1 167 (dk_at dksX0_first_2 17 rfl rfl)
theorem dX0_first_67 : decode cX0_first 67 = .ok (.bastore, 1) := dk_84 (dk_at dksX0_first_2 20 rfl rfl)
theorem dX0_first_68 : decode cX0_first 68 = .ok (.iinc 3 (-1), 3) := dk_132 3 255 (dk_at dksX0_first_2 21 rfl rfl)
theorem dX0_first_71 : decode cX0_first 71 = .ok (.goto (-29), 3) := dk_167 255 227 (dk_at dksX0_first_3 0 rfl rfl)
theorem dX0_first_74 : decode cX0_first 74 = .ok (.aload_n 0, 1) := dk_42 (dk_at dksX0_first_3 3 rfl rfl)
theorem dX0_first_75 : decode cX0_first 75 = .ok (.getfield 81, 3) := dk_180 0 81 (dk_at dksX0_first_3 4 rfl rfl)
theorem dX0_first_78 : decode cX0_first 78 = .ok (.iconst 0, 1) := dk_3 (dk_at dksX0_first_3 7 rfl rfl)
theorem dX0_first_79 : decode cX0_first 79 = .ok (.iaload, 1) := dk_46 (dk_at dksX0_first_3 8 rfl rfl)
theorem dX0_first_80 : decode cX0_first 80 = .ok (.istore_n 3, 1) := dk_62 (dk_at dksX0_first_3 9 rfl rfl)
theorem dX0_first_81 : decode cX0_first 81 = .ok (.aload_n 0, 1) := dk_42 (dk_at dksX0_first_3 10 rfl rfl)
theorem dX0_first_82 : decode cX0_first 82 = .ok (.getfield 94, 3) := dk_180 0 94 (dk_at dksX0_first_3 11 rfl rfl)
theorem dX0_first_85 : decode cX0_first 85 = .ok (.aload_n 0, 1) := dk_42 (dk_at dksX0_first_3 14 rfl rfl)
theorem dX0_first_86 : decode cX0_first 86 = .ok (.invokevirtual 188, 3) := dk_182 0 188 (dk_at dksX0_first_3 15 rfl rfl)
theorem dX0_first_89 : decode cX0_first 89 = .ok (.invokevirtual 379, 3) := dk_182 1 123 (dk_at dksX0_first_3 18 rfl rfl)
theorem dX0_first_92 : decode cX0_first 92 = .ok (.iconst 0, 1) := dk_3 (dk_at dksX0_first_3 21 rfl rfl)
theorem dX0_first_93 : decode cX0_first 93 = .ok (.istore 4, 2) := dk_54 4 (dk_at dksX0_first_3 22 rfl rfl)
theorem dX0_first_95 : decode cX0_first 95 = .ok (.iload 4, 2) := dk_21 4 (dk_at dksX0_first_4 0 rfl rfl)
theorem dX0_first_97 : decode cX0_first 97 = .ok (.iload_n 2, 1) := dk_28 (dk_at dksX0_first_4 2 rfl rfl)
theorem dX0_first_98 : decode cX0_first 98 = .ok (.if_icmp .ge 17, 3) := dk_162 0 17 (dk_at dksX0_first_4 3 rfl rfl)
theorem dX0_first_101 : decode cX0_first 101 = .ok (.aload_n 0, 1) := dk_42 (dk_at dksX0_first_4 6 rfl rfl)
theorem dX0_first_102 : decode cX0_first 102 = .ok (.iload_n 3, 1) := dk_29 (dk_at dksX0_first_4 7 rfl rfl)
theorem dX0_first_103 : decode cX0_first 103 = .ok (.iload 4, 2) := dk_21 4 (dk_at dksX0_first_4 8 rfl rfl)
theorem dX0_first_105 : decode cX0_first 105 = .ok (.invokevirtual 426, 3) := dk_182 1 170 (dk_at dksX0_first_4 10 rfl rfl)
theorem dX0_first_108 : decode cX0_first 108 = .ok (.istore_n 3, 1) := dk_62 (dk_at dksX0_first_4 13 rfl rfl)
theorem dX0_first_109 : decode cX0_first 109 = .ok (.iinc 4 1, 3) := dk_132 4 1 (dk_at dksX0_first_4 14 rfl rfl)
theorem dX0_first_112 : decode cX0_first 112 = .ok (.goto (-17), 3) := dk_167 255 239 (dk_at dksX0_first_4 17 rfl rfl)
theorem dX0_first_115 : decode cX0_first 115 = .ok (.aload_n 0, 1) := dk_42 (dk_at dksX0_first_4 20 rfl rfl)
theorem dX0_first_116 : decode cX0_first 116 = .ok (.iload_n 2, 1) := dk_28 (dk_at dksX0_first_4 21 rfl rfl)
theorem dX0_first_117 : decode cX0_first 117 = .ok (.putfield 430, 3) := dk_181 1 174 (dk_at dksX0_first_5 0 rfl rfl)
theorem dX0_first_120 : decode cX0_first 120 = .ok (.iload_n 2, 1) := dk_28 (dk_at dksX0_first_5 3 rfl rfl)
theorem dX0_first_121 : decode cX0_first 121 = .ok (.ireturn, 1) := dk_172 (dk_at dksX0_first_5 4 rfl rfl)
abbrev cX0_isGood : ByteArray := prog_1_method_58_code
def yX0_isGood : MethodName := ⟨RX0, "isGood", "(II)Z"⟩
def dkwX0_isGood_5 : List UInt8 := [153, 0, 5, 4, 172, 132, 3, 1, 167, 255, 177, 3, 172]
abbrev dktX0_isGood_5 : List UInt8 := dkwX0_isGood_5 ++ []
def dkwX0_isGood_4 : List UInt8 := [180, 0, 78, 21, 4, 46, 42, 180, 0, 78, 27, 46, 4, 96, 160, 0, 15, 42, 180, 0, 84, 21, 4, 51]
abbrev dktX0_isGood_4 : List UInt8 := dkwX0_isGood_4 ++ dktX0_isGood_5
def dkwX0_isGood_3 : List UInt8 := [180, 0, 73, 29, 182, 1, 137, 154, 0, 6, 167, 0, 42, 42, 180, 0, 73, 182, 1, 126, 54, 4, 42]
abbrev dktX0_isGood_3 : List UInt8 := dkwX0_isGood_3 ++ dktX0_isGood_4
def dkwX0_isGood_2 : List UInt8 := [180, 0, 66, 180, 1, 132, 162, 0, 74, 42, 180, 0, 73, 27, 182, 1, 135, 42, 180, 0, 66, 42]
abbrev dktX0_isGood_2 : List UInt8 := dkwX0_isGood_2 ++ dktX0_isGood_3
def dkwX0_isGood_1 : List UInt8 := [28, 160, 0, 17, 42, 180, 0, 73, 182, 1, 2, 153, 0, 7, 4, 167, 0, 4, 3, 172, 3, 62, 29, 42]
abbrev dktX0_isGood_1 : List UInt8 := dkwX0_isGood_1 ++ dktX0_isGood_2
def dkwX0_isGood_0 : List UInt8 := [42, 180, 0, 73, 27, 182, 1, 135, 42, 180, 0, 78, 27, 46, 28, 161, 0, 29, 42, 180, 0, 78, 27, 46]
abbrev dktX0_isGood_0 : List UInt8 := dkwX0_isGood_0 ++ dktX0_isGood_1
theorem dksX0_isGood_0 : cX0_isGood.data.toList.drop 0 = dktX0_isGood_0 := by decide +kernel
theorem dksX0_isGood_1 : cX0_isGood.data.toList.drop 24 = dktX0_isGood_1 := dk_seg dksX0_isGood_0 24 rfl rfl
theorem dksX0_isGood_2 : cX0_isGood.data.toList.drop 48 = dktX0_isGood_2 := dk_seg dksX0_isGood_1 24 rfl rfl
theorem dksX0_isGood_3 : cX0_isGood.data.toList.drop 70 = dktX0_isGood_3 := dk_seg dksX0_isGood_2 22 rfl rfl
theorem dksX0_isGood_4 : cX0_isGood.data.toList.drop 93 = dktX0_isGood_4 := dk_seg dksX0_isGood_3 23 rfl rfl
theorem dksX0_isGood_5 : cX0_isGood.data.toList.drop 117 = dktX0_isGood_5 := dk_seg dksX0_isGood_4 24 rfl rfl
theorem dX0_isGood_0 : decode cX0_isGood 0 = .ok (.aload_n 0, 1) := dk_42 (dk_at dksX0_isGood_0 0 rfl rfl)
theorem dX0_isGood_1 : decode cX0_isGood 1 = .ok (.getfield 73, 3) := dk_180 0 73 (dk_at dksX0_isGood_0 1 rfl rfl)
theorem dX0_isGood_4 : decode cX0_isGood 4 = .ok (.iload_n 1, 1) := dk_27 (dk_at dksX0_isGood_0 4 rfl rfl)
theorem dX0_isGood_5 : decode cX0_isGood 5 = .ok (.invokevirtual 391, 3) := dk_182 1 135 (dk_at dksX0_isGood_0 5 rfl rfl)
theorem dX0_isGood_8 : decode cX0_isGood 8 = .ok (.aload_n 0, 1) := dk_42 (dk_at dksX0_isGood_0 8 rfl rfl)
theorem dX0_isGood_9 : decode cX0_isGood 9 = .ok (.getfield 78, 3) := dk_180 0 78 (dk_at dksX0_isGood_0 9 rfl rfl)
theorem dX0_isGood_12 : decode cX0_isGood 12 = .ok (.iload_n 1, 1) := dk_27 (dk_at dksX0_isGood_0 12 rfl rfl)
theorem dX0_isGood_13 : decode cX0_isGood 13 = .ok (.iaload, 1) := dk_46 (dk_at dksX0_isGood_0 13 rfl rfl)
theorem dX0_isGood_14 : decode cX0_isGood 14 = .ok (.iload_n 2, 1) := dk_28 (dk_at dksX0_isGood_0 14 rfl rfl)
theorem dX0_isGood_15 : decode cX0_isGood 15 = .ok (.if_icmp .lt 29, 3) := dk_161 0 29 (dk_at dksX0_isGood_0 15 rfl rfl)
theorem dX0_isGood_18 : decode cX0_isGood 18 = .ok (.aload_n 0, 1) := dk_42 (dk_at dksX0_isGood_0 18 rfl rfl)
theorem dX0_isGood_19 : decode cX0_isGood 19 = .ok (.getfield 78, 3) := dk_180 0 78 (dk_at dksX0_isGood_0 19 rfl rfl)
theorem dX0_isGood_22 : decode cX0_isGood 22 = .ok (.iload_n 1, 1) := dk_27 (dk_at dksX0_isGood_0 22 rfl rfl)
theorem dX0_isGood_23 : decode cX0_isGood 23 = .ok (.iaload, 1) := dk_46 (dk_at dksX0_isGood_0 23 rfl rfl)
theorem dX0_isGood_24 : decode cX0_isGood 24 = .ok (.iload_n 2, 1) := dk_28 (dk_at dksX0_isGood_1 0 rfl rfl)
theorem dX0_isGood_25 : decode cX0_isGood 25 = .ok (.if_icmp .ne 17, 3) := dk_160 0 17 (dk_at dksX0_isGood_1 1 rfl rfl)
theorem dX0_isGood_28 : decode cX0_isGood 28 = .ok (.aload_n 0, 1) := dk_42 (dk_at dksX0_isGood_1 4 rfl rfl)
theorem dX0_isGood_29 : decode cX0_isGood 29 = .ok (.getfield 73, 3) := dk_180 0 73 (dk_at dksX0_isGood_1 5 rfl rfl)
theorem dX0_isGood_32 : decode cX0_isGood 32 = .ok (.invokevirtual 258, 3) := dk_182 1 2 (dk_at dksX0_isGood_1 8 rfl rfl)
theorem dX0_isGood_35 : decode cX0_isGood 35 = .ok (.ifCond .eq 7, 3) := dk_153 0 7 (dk_at dksX0_isGood_1 11 rfl rfl)
theorem dX0_isGood_38 : decode cX0_isGood 38 = .ok (.iconst 1, 1) := dk_4 (dk_at dksX0_isGood_1 14 rfl rfl)
theorem dX0_isGood_39 : decode cX0_isGood 39 = .ok (.goto 4, 3) := dk_167 0 4 (dk_at dksX0_isGood_1 15 rfl rfl)
theorem dX0_isGood_42 : decode cX0_isGood 42 = .ok (.iconst 0, 1) := dk_3 (dk_at dksX0_isGood_1 18 rfl rfl)
theorem dX0_isGood_43 : decode cX0_isGood 43 = .ok (.ireturn, 1) := dk_172 (dk_at dksX0_isGood_1 19 rfl rfl)
theorem dX0_isGood_44 : decode cX0_isGood 44 = .ok (.iconst 0, 1) := dk_3 (dk_at dksX0_isGood_1 20 rfl rfl)
theorem dX0_isGood_45 : decode cX0_isGood 45 = .ok (.istore_n 3, 1) := dk_62 (dk_at dksX0_isGood_1 21 rfl rfl)
theorem dX0_isGood_46 : decode cX0_isGood 46 = .ok (.iload_n 3, 1) := dk_29 (dk_at dksX0_isGood_1 22 rfl rfl)
theorem dX0_isGood_47 : decode cX0_isGood 47 = .ok (.aload_n 0, 1) := dk_42 (dk_at dksX0_isGood_1 23 rfl rfl)
theorem dX0_isGood_48 : decode cX0_isGood 48 = .ok (.getfield 66, 3) := dk_180 0 66 (dk_at dksX0_isGood_2 0 rfl rfl)
theorem dX0_isGood_51 : decode cX0_isGood 51 = .ok (.getfield 388, 3) := dk_180 1 132 (dk_at dksX0_isGood_2 3 rfl rfl)
theorem dX0_isGood_54 : decode cX0_isGood 54 = .ok (.if_icmp .ge 74, 3) := dk_162 0 74 (dk_at dksX0_isGood_2 6 rfl rfl)
theorem dX0_isGood_57 : decode cX0_isGood 57 = .ok (.aload_n 0, 1) := dk_42 (dk_at dksX0_isGood_2 9 rfl rfl)
theorem dX0_isGood_58 : decode cX0_isGood 58 = .ok (.getfield 73, 3) := dk_180 0 73 (dk_at dksX0_isGood_2 10 rfl rfl)
theorem dX0_isGood_61 : decode cX0_isGood 61 = .ok (.iload_n 1, 1) := dk_27 (dk_at dksX0_isGood_2 13 rfl rfl)
theorem dX0_isGood_62 : decode cX0_isGood 62 = .ok (.invokevirtual 391, 3) := dk_182 1 135 (dk_at dksX0_isGood_2 14 rfl rfl)
theorem dX0_isGood_65 : decode cX0_isGood 65 = .ok (.aload_n 0, 1) := dk_42 (dk_at dksX0_isGood_2 17 rfl rfl)
theorem dX0_isGood_66 : decode cX0_isGood 66 = .ok (.getfield 66, 3) := dk_180 0 66 (dk_at dksX0_isGood_2 18 rfl rfl)
theorem dX0_isGood_69 : decode cX0_isGood 69 = .ok (.aload_n 0, 1) := dk_42 (dk_at dksX0_isGood_2 21 rfl rfl)
theorem dX0_isGood_70 : decode cX0_isGood 70 = .ok (.getfield 73, 3) := dk_180 0 73 (dk_at dksX0_isGood_3 0 rfl rfl)
theorem dX0_isGood_73 : decode cX0_isGood 73 = .ok (.iload_n 3, 1) := dk_29 (dk_at dksX0_isGood_3 3 rfl rfl)
theorem dX0_isGood_74 : decode cX0_isGood 74 = .ok (.invokevirtual 393, 3) := dk_182 1 137 (dk_at dksX0_isGood_3 4 rfl rfl)
theorem dX0_isGood_77 : decode cX0_isGood 77 = .ok (.ifCond .ne 6, 3) := dk_154 0 6 (dk_at dksX0_isGood_3 7 rfl rfl)
theorem dX0_isGood_80 : decode cX0_isGood 80 = .ok (.goto 42, 3) := dk_167 0 42 (dk_at dksX0_isGood_3 10 rfl rfl)
theorem dX0_isGood_83 : decode cX0_isGood 83 = .ok (.aload_n 0, 1) := dk_42 (dk_at dksX0_isGood_3 13 rfl rfl)
theorem dX0_isGood_84 : decode cX0_isGood 84 = .ok (.getfield 73, 3) := dk_180 0 73 (dk_at dksX0_isGood_3 14 rfl rfl)
theorem dX0_isGood_87 : decode cX0_isGood 87 = .ok (.invokevirtual 382, 3) := dk_182 1 126 (dk_at dksX0_isGood_3 17 rfl rfl)
theorem dX0_isGood_90 : decode cX0_isGood 90 = .ok (.istore 4, 2) := dk_54 4 (dk_at dksX0_isGood_3 20 rfl rfl)
theorem dX0_isGood_92 : decode cX0_isGood 92 = .ok (.aload_n 0, 1) := dk_42 (dk_at dksX0_isGood_3 22 rfl rfl)
theorem dX0_isGood_93 : decode cX0_isGood 93 = .ok (.getfield 78, 3) := dk_180 0 78 (dk_at dksX0_isGood_4 0 rfl rfl)
theorem dX0_isGood_96 : decode cX0_isGood 96 = .ok (.iload 4, 2) := dk_21 4 (dk_at dksX0_isGood_4 3 rfl rfl)
theorem dX0_isGood_98 : decode cX0_isGood 98 = .ok (.iaload, 1) := dk_46 (dk_at dksX0_isGood_4 5 rfl rfl)
theorem dX0_isGood_99 : decode cX0_isGood 99 = .ok (.aload_n 0, 1) := dk_42 (dk_at dksX0_isGood_4 6 rfl rfl)
theorem dX0_isGood_100 : decode cX0_isGood 100 = .ok (.getfield 78, 3) := dk_180 0 78 (dk_at dksX0_isGood_4 7 rfl rfl)
theorem dX0_isGood_103 : decode cX0_isGood 103 = .ok (.iload_n 1, 1) := dk_27 (dk_at dksX0_isGood_4 10 rfl rfl)
theorem dX0_isGood_104 : decode cX0_isGood 104 = .ok (.iaload, 1) := dk_46 (dk_at dksX0_isGood_4 11 rfl rfl)
theorem dX0_isGood_105 : decode cX0_isGood 105 = .ok (.iconst 1, 1) := dk_4 (dk_at dksX0_isGood_4 12 rfl rfl)
theorem dX0_isGood_106 : decode cX0_isGood 106 = .ok (.iadd, 1) := dk_96 (dk_at dksX0_isGood_4 13 rfl rfl)
theorem dX0_isGood_107 : decode cX0_isGood 107 = .ok (.if_icmp .ne 15, 3) := dk_160 0 15 (dk_at dksX0_isGood_4 14 rfl rfl)
theorem dX0_isGood_110 : decode cX0_isGood 110 = .ok (.aload_n 0, 1) := dk_42 (dk_at dksX0_isGood_4 17 rfl rfl)
theorem dX0_isGood_111 : decode cX0_isGood 111 = .ok (.getfield 84, 3) := dk_180 0 84 (dk_at dksX0_isGood_4 18 rfl rfl)
theorem dX0_isGood_114 : decode cX0_isGood 114 = .ok (.iload 4, 2) := dk_21 4 (dk_at dksX0_isGood_4 21 rfl rfl)
theorem dX0_isGood_116 : decode cX0_isGood 116 = .ok (.baload, 1) := dk_51 (dk_at dksX0_isGood_4 23 rfl rfl)
theorem dX0_isGood_117 : decode cX0_isGood 117 = .ok (.ifCond .eq 5, 3) := dk_153 0 5 (dk_at dksX0_isGood_5 0 rfl rfl)
theorem dX0_isGood_120 : decode cX0_isGood 120 = .ok (.iconst 1, 1) := dk_4 (dk_at dksX0_isGood_5 3 rfl rfl)
theorem dX0_isGood_121 : decode cX0_isGood 121 = .ok (.ireturn, 1) := dk_172 (dk_at dksX0_isGood_5 4 rfl rfl)
theorem dX0_isGood_122 : decode cX0_isGood 122 = .ok (.iinc 3 1, 3) := dk_132 3 1 (dk_at dksX0_isGood_5 5 rfl rfl)
theorem dX0_isGood_125 : decode cX0_isGood 125 = .ok (.goto (-79), 3) := dk_167 255 177 (dk_at dksX0_isGood_5 8 rfl rfl)
theorem dX0_isGood_128 : decode cX0_isGood 128 = .ok (.iconst 0, 1) := dk_3 (dk_at dksX0_isGood_5 11 rfl rfl)
theorem dX0_isGood_129 : decode cX0_isGood 129 = .ok (.ireturn, 1) := dk_172 (dk_at dksX0_isGood_5 12 rfl rfl)
abbrev cX0_step : ByteArray := prog_1_method_59_code
def yX0_step : MethodName := ⟨RX0, "step", "(II)I"⟩
def dkwX0_step_3 : List UInt8 := [154, 0, 6, 167, 0, 13, 42, 180, 0, 91, 28, 29, 79, 21, 4, 172, 132, 3, 1, 167, 255, 171, 27, 172]
abbrev dktX0_step_3 : List UInt8 := dkwX0_step_3 ++ []
def dkwX0_step_2 : List UInt8 := [54, 4, 42, 180, 0, 78, 21, 4, 46, 28, 4, 96, 160, 0, 26, 42, 180, 0, 84, 21, 4, 51]
abbrev dktX0_step_2 : List UInt8 := dkwX0_step_2 ++ dktX0_step_3
def dkwX0_step_1 : List UInt8 := [180, 0, 66, 42, 180, 0, 73, 29, 182, 1, 137, 154, 0, 6, 167, 0, 48, 42, 180, 0, 73, 182, 1, 126]
abbrev dktX0_step_1 : List UInt8 := dkwX0_step_1 ++ dktX0_step_2
def dkwX0_step_0 : List UInt8 := [3, 62, 29, 42, 180, 0, 66, 180, 1, 132, 162, 0, 80, 42, 180, 0, 73, 27, 182, 1, 135, 42]
abbrev dktX0_step_0 : List UInt8 := dkwX0_step_0 ++ dktX0_step_1
theorem dksX0_step_0 : cX0_step.data.toList.drop 0 = dktX0_step_0 := by decide +kernel
theorem dksX0_step_1 : cX0_step.data.toList.drop 22 = dktX0_step_1 := dk_seg dksX0_step_0 22 rfl rfl
theorem dksX0_step_2 : cX0_step.data.toList.drop 46 = dktX0_step_2 := dk_seg dksX0_step_1 24 rfl rfl
theorem dksX0_step_3 : cX0_step.data.toList.drop 68 = dktX0_step_3 := dk_seg dksX0_step_2 22 rfl rfl
theorem dX0_step_0 : decode cX0_step 0 = .ok (.iconst 0, 1) := dk_3 (dk_at dksX0_step_0 0 rfl rfl)
theorem dX0_step_1 : decode cX0_step 1 = .ok (.istore_n 3, 1) := dk_62 (dk_at dksX0_step_0 1 rfl rfl)
theorem dX0_step_2 : decode cX0_step 2 = .ok (.iload_n 3, 1) := dk_29 (dk_at dksX0_step_0 2 rfl rfl)
theorem dX0_step_3 : decode cX0_step 3 = .ok (.aload_n 0, 1) := dk_42 (dk_at dksX0_step_0 3 rfl rfl)
theorem dX0_step_4 : decode cX0_step 4 = .ok (.getfield 66, 3) := dk_180 0 66 (dk_at dksX0_step_0 4 rfl rfl)
theorem dX0_step_7 : decode cX0_step 7 = .ok (.getfield 388, 3) := dk_180 1 132 (dk_at dksX0_step_0 7 rfl rfl)
theorem dX0_step_10 : decode cX0_step 10 = .ok (.if_icmp .ge 80, 3) := dk_162 0 80 (dk_at dksX0_step_0 10 rfl rfl)
theorem dX0_step_13 : decode cX0_step 13 = .ok (.aload_n 0, 1) := dk_42 (dk_at dksX0_step_0 13 rfl rfl)
theorem dX0_step_14 : decode cX0_step 14 = .ok (.getfield 73, 3) := dk_180 0 73 (dk_at dksX0_step_0 14 rfl rfl)
theorem dX0_step_17 : decode cX0_step 17 = .ok (.iload_n 1, 1) := dk_27 (dk_at dksX0_step_0 17 rfl rfl)
theorem dX0_step_18 : decode cX0_step 18 = .ok (.invokevirtual 391, 3) := dk_182 1 135 (dk_at dksX0_step_0 18 rfl rfl)
theorem dX0_step_21 : decode cX0_step 21 = .ok (.aload_n 0, 1) := dk_42 (dk_at dksX0_step_0 21 rfl rfl)
theorem dX0_step_22 : decode cX0_step 22 = .ok (.getfield 66, 3) := dk_180 0 66 (dk_at dksX0_step_1 0 rfl rfl)
theorem dX0_step_25 : decode cX0_step 25 = .ok (.aload_n 0, 1) := dk_42 (dk_at dksX0_step_1 3 rfl rfl)
theorem dX0_step_26 : decode cX0_step 26 = .ok (.getfield 73, 3) := dk_180 0 73 (dk_at dksX0_step_1 4 rfl rfl)
theorem dX0_step_29 : decode cX0_step 29 = .ok (.iload_n 3, 1) := dk_29 (dk_at dksX0_step_1 7 rfl rfl)
theorem dX0_step_30 : decode cX0_step 30 = .ok (.invokevirtual 393, 3) := dk_182 1 137 (dk_at dksX0_step_1 8 rfl rfl)
theorem dX0_step_33 : decode cX0_step 33 = .ok (.ifCond .ne 6, 3) := dk_154 0 6 (dk_at dksX0_step_1 11 rfl rfl)
theorem dX0_step_36 : decode cX0_step 36 = .ok (.goto 48, 3) := dk_167 0 48 (dk_at dksX0_step_1 14 rfl rfl)
theorem dX0_step_39 : decode cX0_step 39 = .ok (.aload_n 0, 1) := dk_42 (dk_at dksX0_step_1 17 rfl rfl)
theorem dX0_step_40 : decode cX0_step 40 = .ok (.getfield 73, 3) := dk_180 0 73 (dk_at dksX0_step_1 18 rfl rfl)
theorem dX0_step_43 : decode cX0_step 43 = .ok (.invokevirtual 382, 3) := dk_182 1 126 (dk_at dksX0_step_1 21 rfl rfl)
theorem dX0_step_46 : decode cX0_step 46 = .ok (.istore 4, 2) := dk_54 4 (dk_at dksX0_step_2 0 rfl rfl)
theorem dX0_step_48 : decode cX0_step 48 = .ok (.aload_n 0, 1) := dk_42 (dk_at dksX0_step_2 2 rfl rfl)
theorem dX0_step_49 : decode cX0_step 49 = .ok (.getfield 78, 3) := dk_180 0 78 (dk_at dksX0_step_2 3 rfl rfl)
theorem dX0_step_52 : decode cX0_step 52 = .ok (.iload 4, 2) := dk_21 4 (dk_at dksX0_step_2 6 rfl rfl)
theorem dX0_step_54 : decode cX0_step 54 = .ok (.iaload, 1) := dk_46 (dk_at dksX0_step_2 8 rfl rfl)
theorem dX0_step_55 : decode cX0_step 55 = .ok (.iload_n 2, 1) := dk_28 (dk_at dksX0_step_2 9 rfl rfl)
theorem dX0_step_56 : decode cX0_step 56 = .ok (.iconst 1, 1) := dk_4 (dk_at dksX0_step_2 10 rfl rfl)
theorem dX0_step_57 : decode cX0_step 57 = .ok (.iadd, 1) := dk_96 (dk_at dksX0_step_2 11 rfl rfl)
theorem dX0_step_58 : decode cX0_step 58 = .ok (.if_icmp .ne 26, 3) := dk_160 0 26 (dk_at dksX0_step_2 12 rfl rfl)
theorem dX0_step_61 : decode cX0_step 61 = .ok (.aload_n 0, 1) := dk_42 (dk_at dksX0_step_2 15 rfl rfl)
theorem dX0_step_62 : decode cX0_step 62 = .ok (.getfield 84, 3) := dk_180 0 84 (dk_at dksX0_step_2 16 rfl rfl)
theorem dX0_step_65 : decode cX0_step 65 = .ok (.iload 4, 2) := dk_21 4 (dk_at dksX0_step_2 19 rfl rfl)
theorem dX0_step_67 : decode cX0_step 67 = .ok (.baload, 1) := dk_51 (dk_at dksX0_step_2 21 rfl rfl)
theorem dX0_step_68 : decode cX0_step 68 = .ok (.ifCond .ne 6, 3) := dk_154 0 6 (dk_at dksX0_step_3 0 rfl rfl)
theorem dX0_step_71 : decode cX0_step 71 = .ok (.goto 13, 3) := dk_167 0 13 (dk_at dksX0_step_3 3 rfl rfl)
theorem dX0_step_74 : decode cX0_step 74 = .ok (.aload_n 0, 1) := dk_42 (dk_at dksX0_step_3 6 rfl rfl)
theorem dX0_step_75 : decode cX0_step 75 = .ok (.getfield 91, 3) := dk_180 0 91 (dk_at dksX0_step_3 7 rfl rfl)
theorem dX0_step_78 : decode cX0_step 78 = .ok (.iload_n 2, 1) := dk_28 (dk_at dksX0_step_3 10 rfl rfl)
theorem dX0_step_79 : decode cX0_step 79 = .ok (.iload_n 3, 1) := dk_29 (dk_at dksX0_step_3 11 rfl rfl)
theorem dX0_step_80 : decode cX0_step 80 = .ok (.iastore, 1) := dk_79 (dk_at dksX0_step_3 12 rfl rfl)
theorem dX0_step_81 : decode cX0_step 81 = .ok (.iload 4, 2) := dk_21 4 (dk_at dksX0_step_3 13 rfl rfl)
theorem dX0_step_83 : decode cX0_step 83 = .ok (.ireturn, 1) := dk_172 (dk_at dksX0_step_3 15 rfl rfl)
theorem dX0_step_84 : decode cX0_step 84 = .ok (.iinc 3 1, 3) := dk_132 3 1 (dk_at dksX0_step_3 16 rfl rfl)
theorem dX0_step_87 : decode cX0_step 87 = .ok (.goto (-85), 3) := dk_167 255 171 (dk_at dksX0_step_3 19 rfl rfl)
theorem dX0_step_90 : decode cX0_step 90 = .ok (.iload_n 1, 1) := dk_27 (dk_at dksX0_step_3 22 rfl rfl)
theorem dX0_step_91 : decode cX0_step 91 = .ok (.ireturn, 1) := dk_172 (dk_at dksX0_step_3 23 rfl rfl)
abbrev cX0_firstAt : ByteArray := prog_1_method_60_code
def yX0_firstAt : MethodName := ⟨RX0, "firstAt", "(II)I"⟩
def dkwX0_firstAt_5 : List UInt8 := [182, 1, 65, 172]
abbrev dktX0_firstAt_5 : List UInt8 := dkwX0_firstAt_5 ++ []
def dkwX0_firstAt_4 : List UInt8 := [160, 0, 15, 42, 180, 0, 94, 180, 1, 183, 29, 46, 167, 0, 12, 42, 180, 0, 94, 180, 1, 186, 29, 46]
abbrev dktX0_firstAt_4 : List UInt8 := dkwX0_firstAt_4 ++ dktX0_firstAt_5
def dkwX0_firstAt_3 : List UInt8 := [29, 46, 167, 0, 46, 28, 4, 160, 0, 15, 42, 180, 0, 94, 180, 1, 180, 29, 46, 167, 0, 29, 28, 5]
abbrev dktX0_firstAt_3 : List UInt8 := dkwX0_firstAt_3 ++ dktX0_firstAt_4
def dkwX0_firstAt_2 : List UInt8 := [158, 0, 5, 2, 172, 42, 180, 0, 91, 27, 46, 62, 42, 28, 154, 0, 15, 42, 180, 0, 94, 180, 1, 177]
abbrev dktX0_firstAt_2 : List UInt8 := dkwX0_firstAt_2 ++ dktX0_firstAt_3
def dkwX0_firstAt_1 : List UInt8 := [4, 100, 133, 184, 0, 196, 154, 0, 8, 16, 6, 167, 0, 4, 3, 181, 0, 110, 42, 180, 0, 110]
abbrev dktX0_firstAt_1 : List UInt8 := dkwX0_firstAt_1 ++ dktX0_firstAt_2
def dkwX0_firstAt_0 : List UInt8 := [42, 28, 133, 9, 20, 1, 51, 184, 0, 196, 154, 0, 7, 4, 167, 0, 25, 27, 133, 9, 42, 180, 1, 174]
abbrev dktX0_firstAt_0 : List UInt8 := dkwX0_firstAt_0 ++ dktX0_firstAt_1
theorem dksX0_firstAt_0 : cX0_firstAt.data.toList.drop 0 = dktX0_firstAt_0 := by decide +kernel
theorem dksX0_firstAt_1 : cX0_firstAt.data.toList.drop 24 = dktX0_firstAt_1 := dk_seg dksX0_firstAt_0 24 rfl rfl
theorem dksX0_firstAt_2 : cX0_firstAt.data.toList.drop 46 = dktX0_firstAt_2 := dk_seg dksX0_firstAt_1 22 rfl rfl
theorem dksX0_firstAt_3 : cX0_firstAt.data.toList.drop 70 = dktX0_firstAt_3 := dk_seg dksX0_firstAt_2 24 rfl rfl
theorem dksX0_firstAt_4 : cX0_firstAt.data.toList.drop 94 = dktX0_firstAt_4 := dk_seg dksX0_firstAt_3 24 rfl rfl
theorem dksX0_firstAt_5 : cX0_firstAt.data.toList.drop 118 = dktX0_firstAt_5 := dk_seg dksX0_firstAt_4 24 rfl rfl
theorem dX0_firstAt_0 : decode cX0_firstAt 0 = .ok (.aload_n 0, 1) := dk_42 (dk_at dksX0_firstAt_0 0 rfl rfl)
theorem dX0_firstAt_1 : decode cX0_firstAt 1 = .ok (.iload_n 2, 1) := dk_28 (dk_at dksX0_firstAt_0 1 rfl rfl)
theorem dX0_firstAt_2 : decode cX0_firstAt 2 = .ok (.i2l, 1) := dk_133 (dk_at dksX0_firstAt_0 2 rfl rfl)
theorem dX0_firstAt_3 : decode cX0_firstAt 3 = .ok (.lconst 0, 1) := dk_9 (dk_at dksX0_firstAt_0 3 rfl rfl)
theorem dX0_firstAt_4 : decode cX0_firstAt 4 = .ok (.ldc2_w 307, 3) := dk_20 1 51 (dk_at dksX0_firstAt_0 4 rfl rfl)
theorem dX0_firstAt_7 : decode cX0_firstAt 7 = .ok (.invokestatic 196, 3) := dk_184 0 196 (dk_at dksX0_firstAt_0 7 rfl rfl)
theorem dX0_firstAt_10 : decode cX0_firstAt 10 = .ok (.ifCond .ne 7, 3) := dk_154 0 7 (dk_at dksX0_firstAt_0 10 rfl rfl)
theorem dX0_firstAt_13 : decode cX0_firstAt 13 = .ok (.iconst 1, 1) := dk_4 (dk_at dksX0_firstAt_0 13 rfl rfl)
theorem dX0_firstAt_14 : decode cX0_firstAt 14 = .ok (.goto 25, 3) := dk_167 0 25 (dk_at dksX0_firstAt_0 14 rfl rfl)
theorem dX0_firstAt_17 : decode cX0_firstAt 17 = .ok (.iload_n 1, 1) := dk_27 (dk_at dksX0_firstAt_0 17 rfl rfl)
theorem dX0_firstAt_18 : decode cX0_firstAt 18 = .ok (.i2l, 1) := dk_133 (dk_at dksX0_firstAt_0 18 rfl rfl)
theorem dX0_firstAt_19 : decode cX0_firstAt 19 = .ok (.lconst 0, 1) := dk_9 (dk_at dksX0_firstAt_0 19 rfl rfl)
theorem dX0_firstAt_20 : decode cX0_firstAt 20 = .ok (.aload_n 0, 1) := dk_42 (dk_at dksX0_firstAt_0 20 rfl rfl)
theorem dX0_firstAt_21 : decode cX0_firstAt 21 = .ok (.getfield 430, 3) := dk_180 1 174 (dk_at dksX0_firstAt_0 21 rfl rfl)
theorem dX0_firstAt_24 : decode cX0_firstAt 24 = .ok (.iconst 1, 1) := dk_4 (dk_at dksX0_firstAt_1 0 rfl rfl)
theorem dX0_firstAt_25 : decode cX0_firstAt 25 = .ok (.isub, 1) := dk_100 (dk_at dksX0_firstAt_1 1 rfl rfl)
theorem dX0_firstAt_26 : decode cX0_firstAt 26 = .ok (.i2l, 1) := dk_133 (dk_at dksX0_firstAt_1 2 rfl rfl)
theorem dX0_firstAt_27 : decode cX0_firstAt 27 = .ok (.invokestatic 196, 3) := dk_184 0 196 (dk_at dksX0_firstAt_1 3 rfl rfl)
theorem dX0_firstAt_30 : decode cX0_firstAt 30 = .ok (.ifCond .ne 8, 3) := dk_154 0 8 (dk_at dksX0_firstAt_1 6 rfl rfl)
theorem dX0_firstAt_33 : decode cX0_firstAt 33 = .ok (.bipush 6, 2) := dk_16 6 (dk_at dksX0_firstAt_1 9 rfl rfl)
theorem dX0_firstAt_35 : decode cX0_firstAt 35 = .ok (.goto 4, 3) := dk_167 0 4 (dk_at dksX0_firstAt_1 11 rfl rfl)
theorem dX0_firstAt_38 : decode cX0_firstAt 38 = .ok (.iconst 0, 1) := dk_3 (dk_at dksX0_firstAt_1 14 rfl rfl)
theorem dX0_firstAt_39 : decode cX0_firstAt 39 = .ok (.putfield 110, 3) := dk_181 0 110 (dk_at dksX0_firstAt_1 15 rfl rfl)
theorem dX0_firstAt_42 : decode cX0_firstAt 42 = .ok (.aload_n 0, 1) := dk_42 (dk_at dksX0_firstAt_1 18 rfl rfl)
theorem dX0_firstAt_43 : decode cX0_firstAt 43 = .ok (.getfield 110, 3) := dk_180 0 110 (dk_at dksX0_firstAt_1 19 rfl rfl)
theorem dX0_firstAt_46 : decode cX0_firstAt 46 = .ok (.ifCond .le 5, 3) := dk_158 0 5 (dk_at dksX0_firstAt_2 0 rfl rfl)
theorem dX0_firstAt_49 : decode cX0_firstAt 49 = .ok (.iconst (-1), 1) := dk_2 (dk_at dksX0_firstAt_2 3 rfl rfl)
theorem dX0_firstAt_50 : decode cX0_firstAt 50 = .ok (.ireturn, 1) := dk_172 (dk_at dksX0_firstAt_2 4 rfl rfl)
theorem dX0_firstAt_51 : decode cX0_firstAt 51 = .ok (.aload_n 0, 1) := dk_42 (dk_at dksX0_firstAt_2 5 rfl rfl)
theorem dX0_firstAt_52 : decode cX0_firstAt 52 = .ok (.getfield 91, 3) := dk_180 0 91 (dk_at dksX0_firstAt_2 6 rfl rfl)
theorem dX0_firstAt_55 : decode cX0_firstAt 55 = .ok (.iload_n 1, 1) := dk_27 (dk_at dksX0_firstAt_2 9 rfl rfl)
theorem dX0_firstAt_56 : decode cX0_firstAt 56 = .ok (.iaload, 1) := dk_46 (dk_at dksX0_firstAt_2 10 rfl rfl)
theorem dX0_firstAt_57 : decode cX0_firstAt 57 = .ok (.istore_n 3, 1) := dk_62 (dk_at dksX0_firstAt_2 11 rfl rfl)
theorem dX0_firstAt_58 : decode cX0_firstAt 58 = .ok (.aload_n 0, 1) := dk_42 (dk_at dksX0_firstAt_2 12 rfl rfl)
theorem dX0_firstAt_59 : decode cX0_firstAt 59 = .ok (.iload_n 2, 1) := dk_28 (dk_at dksX0_firstAt_2 13 rfl rfl)
theorem dX0_firstAt_60 : decode cX0_firstAt 60 = .ok (.ifCond .ne 15, 3) := dk_154 0 15 (dk_at dksX0_firstAt_2 14 rfl rfl)
theorem dX0_firstAt_63 : decode cX0_firstAt 63 = .ok (.aload_n 0, 1) := dk_42 (dk_at dksX0_firstAt_2 17 rfl rfl)
theorem dX0_firstAt_64 : decode cX0_firstAt 64 = .ok (.getfield 94, 3) := dk_180 0 94 (dk_at dksX0_firstAt_2 18 rfl rfl)
theorem dX0_firstAt_67 : decode cX0_firstAt 67 = .ok (.getfield 433, 3) := dk_180 1 177 (dk_at dksX0_firstAt_2 21 rfl rfl)
theorem dX0_firstAt_70 : decode cX0_firstAt 70 = .ok (.iload_n 3, 1) := dk_29 (dk_at dksX0_firstAt_3 0 rfl rfl)
theorem dX0_firstAt_71 : decode cX0_firstAt 71 = .ok (.iaload, 1) := dk_46 (dk_at dksX0_firstAt_3 1 rfl rfl)
theorem dX0_firstAt_72 : decode cX0_firstAt 72 = .ok (.goto 46, 3) := dk_167 0 46 (dk_at dksX0_firstAt_3 2 rfl rfl)
theorem dX0_firstAt_75 : decode cX0_firstAt 75 = .ok (.iload_n 2, 1) := dk_28 (dk_at dksX0_firstAt_3 5 rfl rfl)
theorem dX0_firstAt_76 : decode cX0_firstAt 76 = .ok (.iconst 1, 1) := dk_4 (dk_at dksX0_firstAt_3 6 rfl rfl)
theorem dX0_firstAt_77 : decode cX0_firstAt 77 = .ok (.if_icmp .ne 15, 3) := dk_160 0 15 (dk_at dksX0_firstAt_3 7 rfl rfl)
theorem dX0_firstAt_80 : decode cX0_firstAt 80 = .ok (.aload_n 0, 1) := dk_42 (dk_at dksX0_firstAt_3 10 rfl rfl)
theorem dX0_firstAt_81 : decode cX0_firstAt 81 = .ok (.getfield 94, 3) := dk_180 0 94 (dk_at dksX0_firstAt_3 11 rfl rfl)
theorem dX0_firstAt_84 : decode cX0_firstAt 84 = .ok (.getfield 436, 3) := dk_180 1 180 (dk_at dksX0_firstAt_3 14 rfl rfl)
theorem dX0_firstAt_87 : decode cX0_firstAt 87 = .ok (.iload_n 3, 1) := dk_29 (dk_at dksX0_firstAt_3 17 rfl rfl)
theorem dX0_firstAt_88 : decode cX0_firstAt 88 = .ok (.iaload, 1) := dk_46 (dk_at dksX0_firstAt_3 18 rfl rfl)
theorem dX0_firstAt_89 : decode cX0_firstAt 89 = .ok (.goto 29, 3) := dk_167 0 29 (dk_at dksX0_firstAt_3 19 rfl rfl)
theorem dX0_firstAt_92 : decode cX0_firstAt 92 = .ok (.iload_n 2, 1) := dk_28 (dk_at dksX0_firstAt_3 22 rfl rfl)
theorem dX0_firstAt_93 : decode cX0_firstAt 93 = .ok (.iconst 2, 1) := dk_5 (dk_at dksX0_firstAt_3 23 rfl rfl)
theorem dX0_firstAt_94 : decode cX0_firstAt 94 = .ok (.if_icmp .ne 15, 3) := dk_160 0 15 (dk_at dksX0_firstAt_4 0 rfl rfl)
theorem dX0_firstAt_97 : decode cX0_firstAt 97 = .ok (.aload_n 0, 1) := dk_42 (dk_at dksX0_firstAt_4 3 rfl rfl)
theorem dX0_firstAt_98 : decode cX0_firstAt 98 = .ok (.getfield 94, 3) := dk_180 0 94 (dk_at dksX0_firstAt_4 4 rfl rfl)
theorem dX0_firstAt_101 : decode cX0_firstAt 101 = .ok (.getfield 439, 3) := dk_180 1 183 (dk_at dksX0_firstAt_4 7 rfl rfl)
theorem dX0_firstAt_104 : decode cX0_firstAt 104 = .ok (.iload_n 3, 1) := dk_29 (dk_at dksX0_firstAt_4 10 rfl rfl)
theorem dX0_firstAt_105 : decode cX0_firstAt 105 = .ok (.iaload, 1) := dk_46 (dk_at dksX0_firstAt_4 11 rfl rfl)
theorem dX0_firstAt_106 : decode cX0_firstAt 106 = .ok (.goto 12, 3) := dk_167 0 12 (dk_at dksX0_firstAt_4 12 rfl rfl)
theorem dX0_firstAt_109 : decode cX0_firstAt 109 = .ok (.aload_n 0, 1) := dk_42 (dk_at dksX0_firstAt_4 15 rfl rfl)
theorem dX0_firstAt_110 : decode cX0_firstAt 110 = .ok (.getfield 94, 3) := dk_180 0 94 (dk_at dksX0_firstAt_4 16 rfl rfl)
theorem dX0_firstAt_113 : decode cX0_firstAt 113 = .ok (.getfield 442, 3) := dk_180 1 186 (dk_at dksX0_firstAt_4 19 rfl rfl)
theorem dX0_firstAt_116 : decode cX0_firstAt 116 = .ok (.iload_n 3, 1) := dk_29 (dk_at dksX0_firstAt_4 22 rfl rfl)
theorem dX0_firstAt_117 : decode cX0_firstAt 117 = .ok (.iaload, 1) := dk_46 (dk_at dksX0_firstAt_4 23 rfl rfl)
theorem dX0_firstAt_118 : decode cX0_firstAt 118 = .ok (.invokevirtual 321, 3) := dk_182 1 65 (dk_at dksX0_firstAt_5 0 rfl rfl)
theorem dX0_firstAt_121 : decode cX0_firstAt 121 = .ok (.ireturn, 1) := dk_172 (dk_at dksX0_firstAt_5 3 rfl rfl)
abbrev cX0_reach : ByteArray := prog_1_method_61_code
def yX0_reach : MethodName := ⟨RX0, "reach", "(I)I"⟩
def dkwX0_reach_3 : List UInt8 := [132, 3, 1, 167, 255, 218, 28, 172]
abbrev dktX0_reach_3 : List UInt8 := dkwX0_reach_3 ++ []
def dkwX0_reach_2 : List UInt8 := [180, 0, 81, 29, 46, 182, 1, 135, 28, 4, 42, 180, 0, 73, 180, 1, 82, 27, 46, 120, 128, 61]
abbrev dktX0_reach_2 : List UInt8 := dkwX0_reach_2 ++ dktX0_reach_3
def dkwX0_reach_1 : List UInt8 := [2, 172, 42, 182, 1, 146, 3, 61, 3, 62, 29, 42, 180, 1, 116, 162, 0, 36, 42, 180, 0, 73, 42]
abbrev dktX0_reach_1 : List UInt8 := dkwX0_reach_1 ++ dktX0_reach_2
def dkwX0_reach_0 : List UInt8 := [42, 42, 27, 182, 1, 48, 153, 0, 7, 3, 167, 0, 4, 4, 181, 0, 110, 42, 180, 0, 110, 158, 0, 5]
abbrev dktX0_reach_0 : List UInt8 := dkwX0_reach_0 ++ dktX0_reach_1
theorem dksX0_reach_0 : cX0_reach.data.toList.drop 0 = dktX0_reach_0 := by decide +kernel
theorem dksX0_reach_1 : cX0_reach.data.toList.drop 24 = dktX0_reach_1 := dk_seg dksX0_reach_0 24 rfl rfl
theorem dksX0_reach_2 : cX0_reach.data.toList.drop 47 = dktX0_reach_2 := dk_seg dksX0_reach_1 23 rfl rfl
theorem dksX0_reach_3 : cX0_reach.data.toList.drop 69 = dktX0_reach_3 := dk_seg dksX0_reach_2 22 rfl rfl
theorem dX0_reach_0 : decode cX0_reach 0 = .ok (.aload_n 0, 1) := dk_42 (dk_at dksX0_reach_0 0 rfl rfl)
theorem dX0_reach_1 : decode cX0_reach 1 = .ok (.aload_n 0, 1) := dk_42 (dk_at dksX0_reach_0 1 rfl rfl)
theorem dX0_reach_2 : decode cX0_reach 2 = .ok (.iload_n 1, 1) := dk_27 (dk_at dksX0_reach_0 2 rfl rfl)
theorem dX0_reach_3 : decode cX0_reach 3 = .ok (.invokevirtual 304, 3) := dk_182 1 48 (dk_at dksX0_reach_0 3 rfl rfl)
theorem dX0_reach_6 : decode cX0_reach 6 = .ok (.ifCond .eq 7, 3) := dk_153 0 7 (dk_at dksX0_reach_0 6 rfl rfl)
theorem dX0_reach_9 : decode cX0_reach 9 = .ok (.iconst 0, 1) := dk_3 (dk_at dksX0_reach_0 9 rfl rfl)
theorem dX0_reach_10 : decode cX0_reach 10 = .ok (.goto 4, 3) := dk_167 0 4 (dk_at dksX0_reach_0 10 rfl rfl)
theorem dX0_reach_13 : decode cX0_reach 13 = .ok (.iconst 1, 1) := dk_4 (dk_at dksX0_reach_0 13 rfl rfl)
theorem dX0_reach_14 : decode cX0_reach 14 = .ok (.putfield 110, 3) := dk_181 0 110 (dk_at dksX0_reach_0 14 rfl rfl)
theorem dX0_reach_17 : decode cX0_reach 17 = .ok (.aload_n 0, 1) := dk_42 (dk_at dksX0_reach_0 17 rfl rfl)
theorem dX0_reach_18 : decode cX0_reach 18 = .ok (.getfield 110, 3) := dk_180 0 110 (dk_at dksX0_reach_0 18 rfl rfl)
theorem dX0_reach_21 : decode cX0_reach 21 = .ok (.ifCond .le 5, 3) := dk_158 0 5 (dk_at dksX0_reach_0 21 rfl rfl)
theorem dX0_reach_24 : decode cX0_reach 24 = .ok (.iconst (-1), 1) := dk_2 (dk_at dksX0_reach_1 0 rfl rfl)
theorem dX0_reach_25 : decode cX0_reach 25 = .ok (.ireturn, 1) := dk_172 (dk_at dksX0_reach_1 1 rfl rfl)
theorem dX0_reach_26 : decode cX0_reach 26 = .ok (.aload_n 0, 1) := dk_42 (dk_at dksX0_reach_1 2 rfl rfl)
theorem dX0_reach_27 : decode cX0_reach 27 = .ok (.invokevirtual 402, 3) := dk_182 1 146 (dk_at dksX0_reach_1 3 rfl rfl)
theorem dX0_reach_30 : decode cX0_reach 30 = .ok (.iconst 0, 1) := dk_3 (dk_at dksX0_reach_1 6 rfl rfl)
theorem dX0_reach_31 : decode cX0_reach 31 = .ok (.istore_n 2, 1) := dk_61 (dk_at dksX0_reach_1 7 rfl rfl)
theorem dX0_reach_32 : decode cX0_reach 32 = .ok (.iconst 0, 1) := dk_3 (dk_at dksX0_reach_1 8 rfl rfl)
theorem dX0_reach_33 : decode cX0_reach 33 = .ok (.istore_n 3, 1) := dk_62 (dk_at dksX0_reach_1 9 rfl rfl)
theorem dX0_reach_34 : decode cX0_reach 34 = .ok (.iload_n 3, 1) := dk_29 (dk_at dksX0_reach_1 10 rfl rfl)
theorem dX0_reach_35 : decode cX0_reach 35 = .ok (.aload_n 0, 1) := dk_42 (dk_at dksX0_reach_1 11 rfl rfl)
theorem dX0_reach_36 : decode cX0_reach 36 = .ok (.getfield 372, 3) := dk_180 1 116 (dk_at dksX0_reach_1 12 rfl rfl)
theorem dX0_reach_39 : decode cX0_reach 39 = .ok (.if_icmp .ge 36, 3) := dk_162 0 36 (dk_at dksX0_reach_1 15 rfl rfl)
theorem dX0_reach_42 : decode cX0_reach 42 = .ok (.aload_n 0, 1) := dk_42 (dk_at dksX0_reach_1 18 rfl rfl)
theorem dX0_reach_43 : decode cX0_reach 43 = .ok (.getfield 73, 3) := dk_180 0 73 (dk_at dksX0_reach_1 19 rfl rfl)
theorem dX0_reach_46 : decode cX0_reach 46 = .ok (.aload_n 0, 1) := dk_42 (dk_at dksX0_reach_1 22 rfl rfl)
theorem dX0_reach_47 : decode cX0_reach 47 = .ok (.getfield 81, 3) := dk_180 0 81 (dk_at dksX0_reach_2 0 rfl rfl)
theorem dX0_reach_50 : decode cX0_reach 50 = .ok (.iload_n 3, 1) := dk_29 (dk_at dksX0_reach_2 3 rfl rfl)
theorem dX0_reach_51 : decode cX0_reach 51 = .ok (.iaload, 1) := dk_46 (dk_at dksX0_reach_2 4 rfl rfl)
theorem dX0_reach_52 : decode cX0_reach 52 = .ok (.invokevirtual 391, 3) := dk_182 1 135 (dk_at dksX0_reach_2 5 rfl rfl)
theorem dX0_reach_55 : decode cX0_reach 55 = .ok (.iload_n 2, 1) := dk_28 (dk_at dksX0_reach_2 8 rfl rfl)
theorem dX0_reach_56 : decode cX0_reach 56 = .ok (.iconst 1, 1) := dk_4 (dk_at dksX0_reach_2 9 rfl rfl)
theorem dX0_reach_57 : decode cX0_reach 57 = .ok (.aload_n 0, 1) := dk_42 (dk_at dksX0_reach_2 10 rfl rfl)
theorem dX0_reach_58 : decode cX0_reach 58 = .ok (.getfield 73, 3) := dk_180 0 73 (dk_at dksX0_reach_2 11 rfl rfl)
theorem dX0_reach_61 : decode cX0_reach 61 = .ok (.getfield 338, 3) := dk_180 1 82 (dk_at dksX0_reach_2 14 rfl rfl)
theorem dX0_reach_64 : decode cX0_reach 64 = .ok (.iload_n 1, 1) := dk_27 (dk_at dksX0_reach_2 17 rfl rfl)
theorem dX0_reach_65 : decode cX0_reach 65 = .ok (.iaload, 1) := dk_46 (dk_at dksX0_reach_2 18 rfl rfl)
theorem dX0_reach_66 : decode cX0_reach 66 = .ok (.ishl, 1) := dk_120 (dk_at dksX0_reach_2 19 rfl rfl)
theorem dX0_reach_67 : decode cX0_reach 67 = .ok (.ior, 1) := dk_128 (dk_at dksX0_reach_2 20 rfl rfl)
theorem dX0_reach_68 : decode cX0_reach 68 = .ok (.istore_n 2, 1) := dk_61 (dk_at dksX0_reach_2 21 rfl rfl)
theorem dX0_reach_69 : decode cX0_reach 69 = .ok (.iinc 3 1, 3) := dk_132 3 1 (dk_at dksX0_reach_3 0 rfl rfl)
theorem dX0_reach_72 : decode cX0_reach 72 = .ok (.goto (-38), 3) := dk_167 255 218 (dk_at dksX0_reach_3 3 rfl rfl)
theorem dX0_reach_75 : decode cX0_reach 75 = .ok (.iload_n 2, 1) := dk_28 (dk_at dksX0_reach_3 6 rfl rfl)
theorem dX0_reach_76 : decode cX0_reach 76 = .ok (.ireturn, 1) := dk_172 (dk_at dksX0_reach_3 7 rfl rfl)
abbrev cX0_fewest : ByteArray := prog_1_method_62_code
def yX0_fewest : MethodName := ⟨RX0, "fewest", "(II)I"⟩
def dkwX0_fewest_4 : List UInt8 := [2, 182, 1, 65, 172]
abbrev dktX0_fewest_4 : List UInt8 := dkwX0_fewest_4 ++ []
def dkwX0_fewest_3 : List UInt8 := [46, 28, 160, 0, 15, 42, 180, 0, 78, 42, 180, 0, 81, 29, 46, 46, 172, 132, 3, 1, 167, 255, 207, 42]
abbrev dktX0_fewest_3 : List UInt8 := dkwX0_fewest_3 ++ dktX0_fewest_4
def dkwX0_fewest_2 : List UInt8 := [162, 0, 47, 42, 180, 0, 73, 42, 180, 0, 81, 29, 46, 182, 1, 135, 42, 180, 0, 73, 180, 1, 82, 27]
abbrev dktX0_fewest_2 : List UInt8 := dkwX0_fewest_2 ++ dktX0_fewest_3
def dkwX0_fewest_1 : List UInt8 := [181, 0, 110, 42, 180, 0, 110, 158, 0, 5, 2, 172, 42, 182, 1, 146, 3, 62, 29, 42, 180, 1, 116]
abbrev dktX0_fewest_1 : List UInt8 := dkwX0_fewest_1 ++ dktX0_fewest_2
def dkwX0_fewest_0 : List UInt8 := [42, 42, 27, 182, 1, 48, 153, 0, 15, 42, 28, 182, 1, 76, 153, 0, 7, 3, 167, 0, 4, 4]
abbrev dktX0_fewest_0 : List UInt8 := dkwX0_fewest_0 ++ dktX0_fewest_1
theorem dksX0_fewest_0 : cX0_fewest.data.toList.drop 0 = dktX0_fewest_0 := by decide +kernel
theorem dksX0_fewest_1 : cX0_fewest.data.toList.drop 22 = dktX0_fewest_1 := dk_seg dksX0_fewest_0 22 rfl rfl
theorem dksX0_fewest_2 : cX0_fewest.data.toList.drop 45 = dktX0_fewest_2 := dk_seg dksX0_fewest_1 23 rfl rfl
theorem dksX0_fewest_3 : cX0_fewest.data.toList.drop 69 = dktX0_fewest_3 := dk_seg dksX0_fewest_2 24 rfl rfl
theorem dksX0_fewest_4 : cX0_fewest.data.toList.drop 93 = dktX0_fewest_4 := dk_seg dksX0_fewest_3 24 rfl rfl
theorem dX0_fewest_0 : decode cX0_fewest 0 = .ok (.aload_n 0, 1) := dk_42 (dk_at dksX0_fewest_0 0 rfl rfl)
theorem dX0_fewest_1 : decode cX0_fewest 1 = .ok (.aload_n 0, 1) := dk_42 (dk_at dksX0_fewest_0 1 rfl rfl)
theorem dX0_fewest_2 : decode cX0_fewest 2 = .ok (.iload_n 1, 1) := dk_27 (dk_at dksX0_fewest_0 2 rfl rfl)
theorem dX0_fewest_3 : decode cX0_fewest 3 = .ok (.invokevirtual 304, 3) := dk_182 1 48 (dk_at dksX0_fewest_0 3 rfl rfl)
theorem dX0_fewest_6 : decode cX0_fewest 6 = .ok (.ifCond .eq 15, 3) := dk_153 0 15 (dk_at dksX0_fewest_0 6 rfl rfl)
theorem dX0_fewest_9 : decode cX0_fewest 9 = .ok (.aload_n 0, 1) := dk_42 (dk_at dksX0_fewest_0 9 rfl rfl)
theorem dX0_fewest_10 : decode cX0_fewest 10 = .ok (.iload_n 2, 1) := dk_28 (dk_at dksX0_fewest_0 10 rfl rfl)
theorem dX0_fewest_11 : decode cX0_fewest 11 = .ok (.invokevirtual 332, 3) := dk_182 1 76 (dk_at dksX0_fewest_0 11 rfl rfl)
theorem dX0_fewest_14 : decode cX0_fewest 14 = .ok (.ifCond .eq 7, 3) := dk_153 0 7 (dk_at dksX0_fewest_0 14 rfl rfl)
theorem dX0_fewest_17 : decode cX0_fewest 17 = .ok (.iconst 0, 1) := dk_3 (dk_at dksX0_fewest_0 17 rfl rfl)
theorem dX0_fewest_18 : decode cX0_fewest 18 = .ok (.goto 4, 3) := dk_167 0 4 (dk_at dksX0_fewest_0 18 rfl rfl)
theorem dX0_fewest_21 : decode cX0_fewest 21 = .ok (.iconst 1, 1) := dk_4 (dk_at dksX0_fewest_0 21 rfl rfl)
theorem dX0_fewest_22 : decode cX0_fewest 22 = .ok (.putfield 110, 3) := dk_181 0 110 (dk_at dksX0_fewest_1 0 rfl rfl)
theorem dX0_fewest_25 : decode cX0_fewest 25 = .ok (.aload_n 0, 1) := dk_42 (dk_at dksX0_fewest_1 3 rfl rfl)
theorem dX0_fewest_26 : decode cX0_fewest 26 = .ok (.getfield 110, 3) := dk_180 0 110 (dk_at dksX0_fewest_1 4 rfl rfl)
theorem dX0_fewest_29 : decode cX0_fewest 29 = .ok (.ifCond .le 5, 3) := dk_158 0 5 (dk_at dksX0_fewest_1 7 rfl rfl)
theorem dX0_fewest_32 : decode cX0_fewest 32 = .ok (.iconst (-1), 1) := dk_2 (dk_at dksX0_fewest_1 10 rfl rfl)
theorem dX0_fewest_33 : decode cX0_fewest 33 = .ok (.ireturn, 1) := dk_172 (dk_at dksX0_fewest_1 11 rfl rfl)
theorem dX0_fewest_34 : decode cX0_fewest 34 = .ok (.aload_n 0, 1) := dk_42 (dk_at dksX0_fewest_1 12 rfl rfl)
theorem dX0_fewest_35 : decode cX0_fewest 35 = .ok (.invokevirtual 402, 3) := dk_182 1 146 (dk_at dksX0_fewest_1 13 rfl rfl)
theorem dX0_fewest_38 : decode cX0_fewest 38 = .ok (.iconst 0, 1) := dk_3 (dk_at dksX0_fewest_1 16 rfl rfl)
theorem dX0_fewest_39 : decode cX0_fewest 39 = .ok (.istore_n 3, 1) := dk_62 (dk_at dksX0_fewest_1 17 rfl rfl)
theorem dX0_fewest_40 : decode cX0_fewest 40 = .ok (.iload_n 3, 1) := dk_29 (dk_at dksX0_fewest_1 18 rfl rfl)
theorem dX0_fewest_41 : decode cX0_fewest 41 = .ok (.aload_n 0, 1) := dk_42 (dk_at dksX0_fewest_1 19 rfl rfl)
theorem dX0_fewest_42 : decode cX0_fewest 42 = .ok (.getfield 372, 3) := dk_180 1 116 (dk_at dksX0_fewest_1 20 rfl rfl)
theorem dX0_fewest_45 : decode cX0_fewest 45 = .ok (.if_icmp .ge 47, 3) := dk_162 0 47 (dk_at dksX0_fewest_2 0 rfl rfl)
theorem dX0_fewest_48 : decode cX0_fewest 48 = .ok (.aload_n 0, 1) := dk_42 (dk_at dksX0_fewest_2 3 rfl rfl)
theorem dX0_fewest_49 : decode cX0_fewest 49 = .ok (.getfield 73, 3) := dk_180 0 73 (dk_at dksX0_fewest_2 4 rfl rfl)
theorem dX0_fewest_52 : decode cX0_fewest 52 = .ok (.aload_n 0, 1) := dk_42 (dk_at dksX0_fewest_2 7 rfl rfl)
theorem dX0_fewest_53 : decode cX0_fewest 53 = .ok (.getfield 81, 3) := dk_180 0 81 (dk_at dksX0_fewest_2 8 rfl rfl)
theorem dX0_fewest_56 : decode cX0_fewest 56 = .ok (.iload_n 3, 1) := dk_29 (dk_at dksX0_fewest_2 11 rfl rfl)
theorem dX0_fewest_57 : decode cX0_fewest 57 = .ok (.iaload, 1) := dk_46 (dk_at dksX0_fewest_2 12 rfl rfl)
theorem dX0_fewest_58 : decode cX0_fewest 58 = .ok (.invokevirtual 391, 3) := dk_182 1 135 (dk_at dksX0_fewest_2 13 rfl rfl)
theorem dX0_fewest_61 : decode cX0_fewest 61 = .ok (.aload_n 0, 1) := dk_42 (dk_at dksX0_fewest_2 16 rfl rfl)
theorem dX0_fewest_62 : decode cX0_fewest 62 = .ok (.getfield 73, 3) := dk_180 0 73 (dk_at dksX0_fewest_2 17 rfl rfl)
theorem dX0_fewest_65 : decode cX0_fewest 65 = .ok (.getfield 338, 3) := dk_180 1 82 (dk_at dksX0_fewest_2 20 rfl rfl)
theorem dX0_fewest_68 : decode cX0_fewest 68 = .ok (.iload_n 1, 1) := dk_27 (dk_at dksX0_fewest_2 23 rfl rfl)
theorem dX0_fewest_69 : decode cX0_fewest 69 = .ok (.iaload, 1) := dk_46 (dk_at dksX0_fewest_3 0 rfl rfl)
theorem dX0_fewest_70 : decode cX0_fewest 70 = .ok (.iload_n 2, 1) := dk_28 (dk_at dksX0_fewest_3 1 rfl rfl)
theorem dX0_fewest_71 : decode cX0_fewest 71 = .ok (.if_icmp .ne 15, 3) := dk_160 0 15 (dk_at dksX0_fewest_3 2 rfl rfl)
theorem dX0_fewest_74 : decode cX0_fewest 74 = .ok (.aload_n 0, 1) := dk_42 (dk_at dksX0_fewest_3 5 rfl rfl)
theorem dX0_fewest_75 : decode cX0_fewest 75 = .ok (.getfield 78, 3) := dk_180 0 78 (dk_at dksX0_fewest_3 6 rfl rfl)
theorem dX0_fewest_78 : decode cX0_fewest 78 = .ok (.aload_n 0, 1) := dk_42 (dk_at dksX0_fewest_3 9 rfl rfl)
theorem dX0_fewest_79 : decode cX0_fewest 79 = .ok (.getfield 81, 3) := dk_180 0 81 (dk_at dksX0_fewest_3 10 rfl rfl)
theorem dX0_fewest_82 : decode cX0_fewest 82 = .ok (.iload_n 3, 1) := dk_29 (dk_at dksX0_fewest_3 13 rfl rfl)
theorem dX0_fewest_83 : decode cX0_fewest 83 = .ok (.iaload, 1) := dk_46 (dk_at dksX0_fewest_3 14 rfl rfl)
theorem dX0_fewest_84 : decode cX0_fewest 84 = .ok (.iaload, 1) := dk_46 (dk_at dksX0_fewest_3 15 rfl rfl)
theorem dX0_fewest_85 : decode cX0_fewest 85 = .ok (.ireturn, 1) := dk_172 (dk_at dksX0_fewest_3 16 rfl rfl)
theorem dX0_fewest_86 : decode cX0_fewest 86 = .ok (.iinc 3 1, 3) := dk_132 3 1 (dk_at dksX0_fewest_3 17 rfl rfl)
theorem dX0_fewest_89 : decode cX0_fewest 89 = .ok (.goto (-49), 3) := dk_167 255 207 (dk_at dksX0_fewest_3 20 rfl rfl)
theorem dX0_fewest_92 : decode cX0_fewest 92 = .ok (.aload_n 0, 1) := dk_42 (dk_at dksX0_fewest_3 23 rfl rfl)
theorem dX0_fewest_93 : decode cX0_fewest 93 = .ok (.iconst (-1), 1) := dk_2 (dk_at dksX0_fewest_4 0 rfl rfl)
theorem dX0_fewest_94 : decode cX0_fewest 94 = .ok (.invokevirtual 321, 3) := dk_182 1 65 (dk_at dksX0_fewest_4 1 rfl rfl)
theorem dX0_fewest_97 : decode cX0_fewest 97 = .ok (.ireturn, 1) := dk_172 (dk_at dksX0_fewest_4 4 rfl rfl)
abbrev cX0_states : ByteArray := prog_1_method_63_code
def yX0_states : MethodName := ⟨RX0, "states", "()I"⟩
def dkwX0_states_0 : List UInt8 := [42, 3, 181, 0, 110, 42, 182, 1, 146, 42, 180, 1, 116, 172]
abbrev dktX0_states_0 : List UInt8 := dkwX0_states_0 ++ []
theorem dksX0_states_0 : cX0_states.data.toList.drop 0 = dktX0_states_0 := by decide +kernel
theorem dX0_states_0 : decode cX0_states 0 = .ok (.aload_n 0, 1) := dk_42 (dk_at dksX0_states_0 0 rfl rfl)
theorem dX0_states_1 : decode cX0_states 1 = .ok (.iconst 0, 1) := dk_3 (dk_at dksX0_states_0 1 rfl rfl)
theorem dX0_states_2 : decode cX0_states 2 = .ok (.putfield 110, 3) := dk_181 0 110 (dk_at dksX0_states_0 2 rfl rfl)
theorem dX0_states_5 : decode cX0_states 5 = .ok (.aload_n 0, 1) := dk_42 (dk_at dksX0_states_0 5 rfl rfl)
theorem dX0_states_6 : decode cX0_states 6 = .ok (.invokevirtual 402, 3) := dk_182 1 146 (dk_at dksX0_states_0 6 rfl rfl)
theorem dX0_states_9 : decode cX0_states 9 = .ok (.aload_n 0, 1) := dk_42 (dk_at dksX0_states_0 9 rfl rfl)
theorem dX0_states_10 : decode cX0_states 10 = .ok (.getfield 372, 3) := dk_180 1 116 (dk_at dksX0_states_0 10 rfl rfl)
theorem dX0_states_13 : decode cX0_states 13 = .ok (.ireturn, 1) := dk_172 (dk_at dksX0_states_0 13 rfl rfl)
abbrev cX0_most : ByteArray := prog_1_method_64_code
def yX0_most : MethodName := ⟨RX0, "most", "(I)I"⟩
def dkwX0_most_4 : List UInt8 := [96, 54, 4, 132, 5, 1, 167, 255, 217, 28, 21, 4, 184, 1, 189, 61, 132, 3, 1, 167, 255, 177, 28, 172]
abbrev dktX0_most_4 : List UInt8 := dkwX0_most_4 ++ []
def dkwX0_most_3 : List UInt8 := [162, 0, 33, 21, 4, 42, 180, 0, 73, 180, 1, 82, 21, 5, 46, 27, 160, 0, 7, 4, 167, 0, 4, 3]
abbrev dktX0_most_3 : List UInt8 := dkwX0_most_3 ++ dktX0_most_4
def dkwX0_most_2 : List UInt8 := [180, 0, 81, 29, 46, 182, 1, 135, 3, 54, 4, 3, 54, 5, 21, 5, 42, 182, 0, 188, 180, 0, 203]
abbrev dktX0_most_2 : List UInt8 := dkwX0_most_2 ++ dktX0_most_3
def dkwX0_most_1 : List UInt8 := [2, 172, 42, 182, 1, 146, 3, 61, 3, 62, 29, 42, 180, 1, 116, 162, 0, 77, 42, 180, 0, 73, 42]
abbrev dktX0_most_1 : List UInt8 := dkwX0_most_1 ++ dktX0_most_2
def dkwX0_most_0 : List UInt8 := [42, 42, 27, 182, 1, 76, 153, 0, 7, 3, 167, 0, 4, 4, 181, 0, 110, 42, 180, 0, 110, 158, 0, 5]
abbrev dktX0_most_0 : List UInt8 := dkwX0_most_0 ++ dktX0_most_1
theorem dksX0_most_0 : cX0_most.data.toList.drop 0 = dktX0_most_0 := by decide +kernel
theorem dksX0_most_1 : cX0_most.data.toList.drop 24 = dktX0_most_1 := dk_seg dksX0_most_0 24 rfl rfl
theorem dksX0_most_2 : cX0_most.data.toList.drop 47 = dktX0_most_2 := dk_seg dksX0_most_1 23 rfl rfl
theorem dksX0_most_3 : cX0_most.data.toList.drop 70 = dktX0_most_3 := dk_seg dksX0_most_2 23 rfl rfl
theorem dksX0_most_4 : cX0_most.data.toList.drop 94 = dktX0_most_4 := dk_seg dksX0_most_3 24 rfl rfl
theorem dX0_most_0 : decode cX0_most 0 = .ok (.aload_n 0, 1) := dk_42 (dk_at dksX0_most_0 0 rfl rfl)
theorem dX0_most_1 : decode cX0_most 1 = .ok (.aload_n 0, 1) := dk_42 (dk_at dksX0_most_0 1 rfl rfl)
theorem dX0_most_2 : decode cX0_most 2 = .ok (.iload_n 1, 1) := dk_27 (dk_at dksX0_most_0 2 rfl rfl)
theorem dX0_most_3 : decode cX0_most 3 = .ok (.invokevirtual 332, 3) := dk_182 1 76 (dk_at dksX0_most_0 3 rfl rfl)
theorem dX0_most_6 : decode cX0_most 6 = .ok (.ifCond .eq 7, 3) := dk_153 0 7 (dk_at dksX0_most_0 6 rfl rfl)
theorem dX0_most_9 : decode cX0_most 9 = .ok (.iconst 0, 1) := dk_3 (dk_at dksX0_most_0 9 rfl rfl)
theorem dX0_most_10 : decode cX0_most 10 = .ok (.goto 4, 3) := dk_167 0 4 (dk_at dksX0_most_0 10 rfl rfl)
theorem dX0_most_13 : decode cX0_most 13 = .ok (.iconst 1, 1) := dk_4 (dk_at dksX0_most_0 13 rfl rfl)
theorem dX0_most_14 : decode cX0_most 14 = .ok (.putfield 110, 3) := dk_181 0 110 (dk_at dksX0_most_0 14 rfl rfl)
theorem dX0_most_17 : decode cX0_most 17 = .ok (.aload_n 0, 1) := dk_42 (dk_at dksX0_most_0 17 rfl rfl)
theorem dX0_most_18 : decode cX0_most 18 = .ok (.getfield 110, 3) := dk_180 0 110 (dk_at dksX0_most_0 18 rfl rfl)
theorem dX0_most_21 : decode cX0_most 21 = .ok (.ifCond .le 5, 3) := dk_158 0 5 (dk_at dksX0_most_0 21 rfl rfl)
theorem dX0_most_24 : decode cX0_most 24 = .ok (.iconst (-1), 1) := dk_2 (dk_at dksX0_most_1 0 rfl rfl)
theorem dX0_most_25 : decode cX0_most 25 = .ok (.ireturn, 1) := dk_172 (dk_at dksX0_most_1 1 rfl rfl)
theorem dX0_most_26 : decode cX0_most 26 = .ok (.aload_n 0, 1) := dk_42 (dk_at dksX0_most_1 2 rfl rfl)
theorem dX0_most_27 : decode cX0_most 27 = .ok (.invokevirtual 402, 3) := dk_182 1 146 (dk_at dksX0_most_1 3 rfl rfl)
theorem dX0_most_30 : decode cX0_most 30 = .ok (.iconst 0, 1) := dk_3 (dk_at dksX0_most_1 6 rfl rfl)
theorem dX0_most_31 : decode cX0_most 31 = .ok (.istore_n 2, 1) := dk_61 (dk_at dksX0_most_1 7 rfl rfl)
theorem dX0_most_32 : decode cX0_most 32 = .ok (.iconst 0, 1) := dk_3 (dk_at dksX0_most_1 8 rfl rfl)
theorem dX0_most_33 : decode cX0_most 33 = .ok (.istore_n 3, 1) := dk_62 (dk_at dksX0_most_1 9 rfl rfl)
theorem dX0_most_34 : decode cX0_most 34 = .ok (.iload_n 3, 1) := dk_29 (dk_at dksX0_most_1 10 rfl rfl)
theorem dX0_most_35 : decode cX0_most 35 = .ok (.aload_n 0, 1) := dk_42 (dk_at dksX0_most_1 11 rfl rfl)
theorem dX0_most_36 : decode cX0_most 36 = .ok (.getfield 372, 3) := dk_180 1 116 (dk_at dksX0_most_1 12 rfl rfl)
theorem dX0_most_39 : decode cX0_most 39 = .ok (.if_icmp .ge 77, 3) := dk_162 0 77 (dk_at dksX0_most_1 15 rfl rfl)
theorem dX0_most_42 : decode cX0_most 42 = .ok (.aload_n 0, 1) := dk_42 (dk_at dksX0_most_1 18 rfl rfl)
theorem dX0_most_43 : decode cX0_most 43 = .ok (.getfield 73, 3) := dk_180 0 73 (dk_at dksX0_most_1 19 rfl rfl)
theorem dX0_most_46 : decode cX0_most 46 = .ok (.aload_n 0, 1) := dk_42 (dk_at dksX0_most_1 22 rfl rfl)
theorem dX0_most_47 : decode cX0_most 47 = .ok (.getfield 81, 3) := dk_180 0 81 (dk_at dksX0_most_2 0 rfl rfl)
theorem dX0_most_50 : decode cX0_most 50 = .ok (.iload_n 3, 1) := dk_29 (dk_at dksX0_most_2 3 rfl rfl)
theorem dX0_most_51 : decode cX0_most 51 = .ok (.iaload, 1) := dk_46 (dk_at dksX0_most_2 4 rfl rfl)
theorem dX0_most_52 : decode cX0_most 52 = .ok (.invokevirtual 391, 3) := dk_182 1 135 (dk_at dksX0_most_2 5 rfl rfl)
theorem dX0_most_55 : decode cX0_most 55 = .ok (.iconst 0, 1) := dk_3 (dk_at dksX0_most_2 8 rfl rfl)
theorem dX0_most_56 : decode cX0_most 56 = .ok (.istore 4, 2) := dk_54 4 (dk_at dksX0_most_2 9 rfl rfl)
theorem dX0_most_58 : decode cX0_most 58 = .ok (.iconst 0, 1) := dk_3 (dk_at dksX0_most_2 11 rfl rfl)
theorem dX0_most_59 : decode cX0_most 59 = .ok (.istore 5, 2) := dk_54 5 (dk_at dksX0_most_2 12 rfl rfl)
theorem dX0_most_61 : decode cX0_most 61 = .ok (.iload 5, 2) := dk_21 5 (dk_at dksX0_most_2 14 rfl rfl)
theorem dX0_most_63 : decode cX0_most 63 = .ok (.aload_n 0, 1) := dk_42 (dk_at dksX0_most_2 16 rfl rfl)
theorem dX0_most_64 : decode cX0_most 64 = .ok (.invokevirtual 188, 3) := dk_182 0 188 (dk_at dksX0_most_2 17 rfl rfl)
theorem dX0_most_67 : decode cX0_most 67 = .ok (.getfield 203, 3) := dk_180 0 203 (dk_at dksX0_most_2 20 rfl rfl)
theorem dX0_most_70 : decode cX0_most 70 = .ok (.if_icmp .ge 33, 3) := dk_162 0 33 (dk_at dksX0_most_3 0 rfl rfl)
theorem dX0_most_73 : decode cX0_most 73 = .ok (.iload 4, 2) := dk_21 4 (dk_at dksX0_most_3 3 rfl rfl)
theorem dX0_most_75 : decode cX0_most 75 = .ok (.aload_n 0, 1) := dk_42 (dk_at dksX0_most_3 5 rfl rfl)
theorem dX0_most_76 : decode cX0_most 76 = .ok (.getfield 73, 3) := dk_180 0 73 (dk_at dksX0_most_3 6 rfl rfl)
theorem dX0_most_79 : decode cX0_most 79 = .ok (.getfield 338, 3) := dk_180 1 82 (dk_at dksX0_most_3 9 rfl rfl)
theorem dX0_most_82 : decode cX0_most 82 = .ok (.iload 5, 2) := dk_21 5 (dk_at dksX0_most_3 12 rfl rfl)
theorem dX0_most_84 : decode cX0_most 84 = .ok (.iaload, 1) := dk_46 (dk_at dksX0_most_3 14 rfl rfl)
theorem dX0_most_85 : decode cX0_most 85 = .ok (.iload_n 1, 1) := dk_27 (dk_at dksX0_most_3 15 rfl rfl)
theorem dX0_most_86 : decode cX0_most 86 = .ok (.if_icmp .ne 7, 3) := dk_160 0 7 (dk_at dksX0_most_3 16 rfl rfl)
theorem dX0_most_89 : decode cX0_most 89 = .ok (.iconst 1, 1) := dk_4 (dk_at dksX0_most_3 19 rfl rfl)
theorem dX0_most_90 : decode cX0_most 90 = .ok (.goto 4, 3) := dk_167 0 4 (dk_at dksX0_most_3 20 rfl rfl)
theorem dX0_most_93 : decode cX0_most 93 = .ok (.iconst 0, 1) := dk_3 (dk_at dksX0_most_3 23 rfl rfl)
theorem dX0_most_94 : decode cX0_most 94 = .ok (.iadd, 1) := dk_96 (dk_at dksX0_most_4 0 rfl rfl)
theorem dX0_most_95 : decode cX0_most 95 = .ok (.istore 4, 2) := dk_54 4 (dk_at dksX0_most_4 1 rfl rfl)
theorem dX0_most_97 : decode cX0_most 97 = .ok (.iinc 5 1, 3) := dk_132 5 1 (dk_at dksX0_most_4 3 rfl rfl)
theorem dX0_most_100 : decode cX0_most 100 = .ok (.goto (-39), 3) := dk_167 255 217 (dk_at dksX0_most_4 6 rfl rfl)
theorem dX0_most_103 : decode cX0_most 103 = .ok (.iload_n 2, 1) := dk_28 (dk_at dksX0_most_4 9 rfl rfl)
theorem dX0_most_104 : decode cX0_most 104 = .ok (.iload 4, 2) := dk_21 4 (dk_at dksX0_most_4 10 rfl rfl)
theorem dX0_most_106 : decode cX0_most 106 = .ok (.invokestatic 445, 3) := dk_184 1 189 (dk_at dksX0_most_4 12 rfl rfl)
theorem dX0_most_109 : decode cX0_most 109 = .ok (.istore_n 2, 1) := dk_61 (dk_at dksX0_most_4 15 rfl rfl)
theorem dX0_most_110 : decode cX0_most 110 = .ok (.iinc 3 1, 3) := dk_132 3 1 (dk_at dksX0_most_4 16 rfl rfl)
theorem dX0_most_113 : decode cX0_most 113 = .ok (.goto (-79), 3) := dk_167 255 177 (dk_at dksX0_most_4 19 rfl rfl)
theorem dX0_most_116 : decode cX0_most 116 = .ok (.iload_n 2, 1) := dk_28 (dk_at dksX0_most_4 22 rfl rfl)
theorem dX0_most_117 : decode cX0_most 117 = .ok (.ireturn, 1) := dk_172 (dk_at dksX0_most_4 23 rfl rfl)
abbrev cX0_lost : ByteArray := prog_1_method_67_code
def yX0_lost : MethodName := ⟨RX0, "lost", "()I"⟩
def dkwX0_lost_2 : List UInt8 := [167, 255, 223, 27, 172]
abbrev dktX0_lost_2 : List UInt8 := dkwX0_lost_2 ++ []
def dkwX0_lost_1 : List UInt8 := [180, 0, 84, 42, 180, 0, 81, 28, 46, 51, 153, 0, 7, 3, 167, 0, 4, 4, 96, 60, 132, 2, 1]
abbrev dktX0_lost_1 : List UInt8 := dkwX0_lost_1 ++ dktX0_lost_2
def dkwX0_lost_0 : List UInt8 := [42, 3, 181, 0, 110, 42, 182, 1, 195, 3, 60, 3, 61, 28, 42, 180, 1, 116, 162, 0, 31, 27, 42]
abbrev dktX0_lost_0 : List UInt8 := dkwX0_lost_0 ++ dktX0_lost_1
theorem dksX0_lost_0 : cX0_lost.data.toList.drop 0 = dktX0_lost_0 := by decide +kernel
theorem dksX0_lost_1 : cX0_lost.data.toList.drop 23 = dktX0_lost_1 := dk_seg dksX0_lost_0 23 rfl rfl
theorem dksX0_lost_2 : cX0_lost.data.toList.drop 46 = dktX0_lost_2 := dk_seg dksX0_lost_1 23 rfl rfl
theorem dX0_lost_0 : decode cX0_lost 0 = .ok (.aload_n 0, 1) := dk_42 (dk_at dksX0_lost_0 0 rfl rfl)
theorem dX0_lost_1 : decode cX0_lost 1 = .ok (.iconst 0, 1) := dk_3 (dk_at dksX0_lost_0 1 rfl rfl)
theorem dX0_lost_2 : decode cX0_lost 2 = .ok (.putfield 110, 3) := dk_181 0 110 (dk_at dksX0_lost_0 2 rfl rfl)
theorem dX0_lost_5 : decode cX0_lost 5 = .ok (.aload_n 0, 1) := dk_42 (dk_at dksX0_lost_0 5 rfl rfl)
theorem dX0_lost_6 : decode cX0_lost 6 = .ok (.invokevirtual 451, 3) := dk_182 1 195 (dk_at dksX0_lost_0 6 rfl rfl)
theorem dX0_lost_9 : decode cX0_lost 9 = .ok (.iconst 0, 1) := dk_3 (dk_at dksX0_lost_0 9 rfl rfl)
theorem dX0_lost_10 : decode cX0_lost 10 = .ok (.istore_n 1, 1) := dk_60 (dk_at dksX0_lost_0 10 rfl rfl)
theorem dX0_lost_11 : decode cX0_lost 11 = .ok (.iconst 0, 1) := dk_3 (dk_at dksX0_lost_0 11 rfl rfl)
theorem dX0_lost_12 : decode cX0_lost 12 = .ok (.istore_n 2, 1) := dk_61 (dk_at dksX0_lost_0 12 rfl rfl)
theorem dX0_lost_13 : decode cX0_lost 13 = .ok (.iload_n 2, 1) := dk_28 (dk_at dksX0_lost_0 13 rfl rfl)
theorem dX0_lost_14 : decode cX0_lost 14 = .ok (.aload_n 0, 1) := dk_42 (dk_at dksX0_lost_0 14 rfl rfl)
theorem dX0_lost_15 : decode cX0_lost 15 = .ok (.getfield 372, 3) := dk_180 1 116 (dk_at dksX0_lost_0 15 rfl rfl)
theorem dX0_lost_18 : decode cX0_lost 18 = .ok (.if_icmp .ge 31, 3) := dk_162 0 31 (dk_at dksX0_lost_0 18 rfl rfl)
theorem dX0_lost_21 : decode cX0_lost 21 = .ok (.iload_n 1, 1) := dk_27 (dk_at dksX0_lost_0 21 rfl rfl)
theorem dX0_lost_22 : decode cX0_lost 22 = .ok (.aload_n 0, 1) := dk_42 (dk_at dksX0_lost_0 22 rfl rfl)
theorem dX0_lost_23 : decode cX0_lost 23 = .ok (.getfield 84, 3) := dk_180 0 84 (dk_at dksX0_lost_1 0 rfl rfl)
theorem dX0_lost_26 : decode cX0_lost 26 = .ok (.aload_n 0, 1) := dk_42 (dk_at dksX0_lost_1 3 rfl rfl)
theorem dX0_lost_27 : decode cX0_lost 27 = .ok (.getfield 81, 3) := dk_180 0 81 (dk_at dksX0_lost_1 4 rfl rfl)
theorem dX0_lost_30 : decode cX0_lost 30 = .ok (.iload_n 2, 1) := dk_28 (dk_at dksX0_lost_1 7 rfl rfl)
theorem dX0_lost_31 : decode cX0_lost 31 = .ok (.iaload, 1) := dk_46 (dk_at dksX0_lost_1 8 rfl rfl)
theorem dX0_lost_32 : decode cX0_lost 32 = .ok (.baload, 1) := dk_51 (dk_at dksX0_lost_1 9 rfl rfl)
theorem dX0_lost_33 : decode cX0_lost 33 = .ok (.ifCond .eq 7, 3) := dk_153 0 7 (dk_at dksX0_lost_1 10 rfl rfl)
theorem dX0_lost_36 : decode cX0_lost 36 = .ok (.iconst 0, 1) := dk_3 (dk_at dksX0_lost_1 13 rfl rfl)
theorem dX0_lost_37 : decode cX0_lost 37 = .ok (.goto 4, 3) := dk_167 0 4 (dk_at dksX0_lost_1 14 rfl rfl)
theorem dX0_lost_40 : decode cX0_lost 40 = .ok (.iconst 1, 1) := dk_4 (dk_at dksX0_lost_1 17 rfl rfl)
theorem dX0_lost_41 : decode cX0_lost 41 = .ok (.iadd, 1) := dk_96 (dk_at dksX0_lost_1 18 rfl rfl)
theorem dX0_lost_42 : decode cX0_lost 42 = .ok (.istore_n 1, 1) := dk_60 (dk_at dksX0_lost_1 19 rfl rfl)
theorem dX0_lost_43 : decode cX0_lost 43 = .ok (.iinc 2 1, 3) := dk_132 2 1 (dk_at dksX0_lost_1 20 rfl rfl)
theorem dX0_lost_46 : decode cX0_lost 46 = .ok (.goto (-33), 3) := dk_167 255 223 (dk_at dksX0_lost_2 0 rfl rfl)
theorem dX0_lost_49 : decode cX0_lost 49 = .ok (.iload_n 1, 1) := dk_27 (dk_at dksX0_lost_2 3 rfl rfl)
theorem dX0_lost_50 : decode cX0_lost 50 = .ok (.ireturn, 1) := dk_172 (dk_at dksX0_lost_2 4 rfl rfl)
abbrev cX0_findGood : ByteArray := prog_1_method_65_code
def yX0_findGood : MethodName := ⟨RX0, "findGood", "()V"⟩
def dkwX0_findGood_5 : List UInt8 := [167, 255, 205, 167, 255, 189, 177]
abbrev dktX0_findGood_5 : List UInt8 := dkwX0_findGood_5 ++ []
def dkwX0_findGood_4 : List UInt8 := [154, 0, 6, 167, 0, 17, 42, 180, 0, 84, 42, 180, 0, 81, 28, 46, 4, 84, 4, 60, 132, 2, 255]
abbrev dktX0_findGood_4 : List UInt8 := dkwX0_findGood_4 ++ dktX0_findGood_5
def dkwX0_findGood_3 : List UInt8 := [180, 0, 84, 42, 180, 0, 81, 28, 46, 51, 154, 0, 33, 42, 42, 180, 0, 81, 28, 46, 182, 1, 192]
abbrev dktX0_findGood_3 : List UInt8 := dkwX0_findGood_3 ++ dktX0_findGood_4
def dkwX0_findGood_2 : List UInt8 := [167, 255, 214, 4, 60, 27, 153, 0, 69, 3, 60, 42, 180, 1, 116, 4, 100, 61, 28, 155, 0, 53, 42]
abbrev dktX0_findGood_2 : List UInt8 := dkwX0_findGood_2 ++ dktX0_findGood_3
def dkwX0_findGood_1 : List UInt8 := [182, 1, 135, 42, 180, 0, 84, 42, 180, 0, 81, 27, 46, 42, 180, 0, 73, 182, 1, 2, 84, 132, 1, 1]
abbrev dktX0_findGood_1 : List UInt8 := dkwX0_findGood_1 ++ dktX0_findGood_2
def dkwX0_findGood_0 : List UInt8 := [42, 182, 1, 146, 3, 60, 27, 42, 180, 1, 116, 162, 0, 40, 42, 180, 0, 73, 42, 180, 0, 81, 27, 46]
abbrev dktX0_findGood_0 : List UInt8 := dkwX0_findGood_0 ++ dktX0_findGood_1
theorem dksX0_findGood_0 : cX0_findGood.data.toList.drop 0 = dktX0_findGood_0 := by decide +kernel
theorem dksX0_findGood_1 : cX0_findGood.data.toList.drop 24 = dktX0_findGood_1 := dk_seg dksX0_findGood_0 24 rfl rfl
theorem dksX0_findGood_2 : cX0_findGood.data.toList.drop 48 = dktX0_findGood_2 := dk_seg dksX0_findGood_1 24 rfl rfl
theorem dksX0_findGood_3 : cX0_findGood.data.toList.drop 71 = dktX0_findGood_3 := dk_seg dksX0_findGood_2 23 rfl rfl
theorem dksX0_findGood_4 : cX0_findGood.data.toList.drop 94 = dktX0_findGood_4 := dk_seg dksX0_findGood_3 23 rfl rfl
theorem dksX0_findGood_5 : cX0_findGood.data.toList.drop 117 = dktX0_findGood_5 := dk_seg dksX0_findGood_4 23 rfl rfl
theorem dX0_findGood_0 : decode cX0_findGood 0 = .ok (.aload_n 0, 1) := dk_42 (dk_at dksX0_findGood_0 0 rfl rfl)
theorem dX0_findGood_1 : decode cX0_findGood 1 = .ok (.invokevirtual 402, 3) := dk_182 1 146 (dk_at dksX0_findGood_0 1 rfl rfl)
theorem dX0_findGood_4 : decode cX0_findGood 4 = .ok (.iconst 0, 1) := dk_3 (dk_at dksX0_findGood_0 4 rfl rfl)
theorem dX0_findGood_5 : decode cX0_findGood 5 = .ok (.istore_n 1, 1) := dk_60 (dk_at dksX0_findGood_0 5 rfl rfl)
theorem dX0_findGood_6 : decode cX0_findGood 6 = .ok (.iload_n 1, 1) := dk_27 (dk_at dksX0_findGood_0 6 rfl rfl)
theorem dX0_findGood_7 : decode cX0_findGood 7 = .ok (.aload_n 0, 1) := dk_42 (dk_at dksX0_findGood_0 7 rfl rfl)
theorem dX0_findGood_8 : decode cX0_findGood 8 = .ok (.getfield 372, 3) := dk_180 1 116 (dk_at dksX0_findGood_0 8 rfl rfl)
theorem dX0_findGood_11 : decode cX0_findGood 11 = .ok (.if_icmp .ge 40, 3) := dk_162 0 40 (dk_at dksX0_findGood_0 11 rfl rfl)
theorem dX0_findGood_14 : decode cX0_findGood 14 = .ok (.aload_n 0, 1) := dk_42 (dk_at dksX0_findGood_0 14 rfl rfl)
theorem dX0_findGood_15 : decode cX0_findGood 15 = .ok (.getfield 73, 3) := dk_180 0 73 (dk_at dksX0_findGood_0 15 rfl rfl)
theorem dX0_findGood_18 : decode cX0_findGood 18 = .ok (.aload_n 0, 1) := dk_42 (dk_at dksX0_findGood_0 18 rfl rfl)
theorem dX0_findGood_19 : decode cX0_findGood 19 = .ok (.getfield 81, 3) := dk_180 0 81 (dk_at dksX0_findGood_0 19 rfl rfl)
theorem dX0_findGood_22 : decode cX0_findGood 22 = .ok (.iload_n 1, 1) := dk_27 (dk_at dksX0_findGood_0 22 rfl rfl)
theorem dX0_findGood_23 : decode cX0_findGood 23 = .ok (.iaload, 1) := dk_46 (dk_at dksX0_findGood_0 23 rfl rfl)
theorem dX0_findGood_24 : decode cX0_findGood 24 = .ok (.invokevirtual 391, 3) := dk_182 1 135 (dk_at dksX0_findGood_1 0 rfl rfl)
theorem dX0_findGood_27 : decode cX0_findGood 27 = .ok (.aload_n 0, 1) := dk_42 (dk_at dksX0_findGood_1 3 rfl rfl)
theorem dX0_findGood_28 : decode cX0_findGood 28 = .ok (.getfield 84, 3) := dk_180 0 84 (dk_at dksX0_findGood_1 4 rfl rfl)
theorem dX0_findGood_31 : decode cX0_findGood 31 = .ok (.aload_n 0, 1) := dk_42 (dk_at dksX0_findGood_1 7 rfl rfl)
theorem dX0_findGood_32 : decode cX0_findGood 32 = .ok (.getfield 81, 3) := dk_180 0 81 (dk_at dksX0_findGood_1 8 rfl rfl)
theorem dX0_findGood_35 : decode cX0_findGood 35 = .ok (.iload_n 1, 1) := dk_27 (dk_at dksX0_findGood_1 11 rfl rfl)
theorem dX0_findGood_36 : decode cX0_findGood 36 = .ok (.iaload, 1) := dk_46 (dk_at dksX0_findGood_1 12 rfl rfl)
theorem dX0_findGood_37 : decode cX0_findGood 37 = .ok (.aload_n 0, 1) := dk_42 (dk_at dksX0_findGood_1 13 rfl rfl)
theorem dX0_findGood_38 : decode cX0_findGood 38 = .ok (.getfield 73, 3) := dk_180 0 73 (dk_at dksX0_findGood_1 14 rfl rfl)
theorem dX0_findGood_41 : decode cX0_findGood 41 = .ok (.invokevirtual 258, 3) := dk_182 1 2 (dk_at dksX0_findGood_1 17 rfl rfl)
theorem dX0_findGood_44 : decode cX0_findGood 44 = .ok (.bastore, 1) := dk_84 (dk_at dksX0_findGood_1 20 rfl rfl)
theorem dX0_findGood_45 : decode cX0_findGood 45 = .ok (.iinc 1 1, 3) := dk_132 1 1 (dk_at dksX0_findGood_1 21 rfl rfl)
theorem dX0_findGood_48 : decode cX0_findGood 48 = .ok (.goto (-42), 3) := dk_167 255 214 (dk_at dksX0_findGood_2 0 rfl rfl)
theorem dX0_findGood_51 : decode cX0_findGood 51 = .ok (.iconst 1, 1) := dk_4 (dk_at dksX0_findGood_2 3 rfl rfl)
theorem dX0_findGood_52 : decode cX0_findGood 52 = .ok (.istore_n 1, 1) := dk_60 (dk_at dksX0_findGood_2 4 rfl rfl)
theorem dX0_findGood_53 : decode cX0_findGood 53 = .ok (.iload_n 1, 1) := dk_27 (dk_at dksX0_findGood_2 5 rfl rfl)
theorem dX0_findGood_54 : decode cX0_findGood 54 = .ok (.ifCond .eq 69, 3) := dk_153 0 69 (dk_at dksX0_findGood_2 6 rfl rfl)
theorem dX0_findGood_57 : decode cX0_findGood 57 = .ok (.iconst 0, 1) := dk_3 (dk_at dksX0_findGood_2 9 rfl rfl)
theorem dX0_findGood_58 : decode cX0_findGood 58 = .ok (.istore_n 1, 1) := dk_60 (dk_at dksX0_findGood_2 10 rfl rfl)
theorem dX0_findGood_59 : decode cX0_findGood 59 = .ok (.aload_n 0, 1) := dk_42 (dk_at dksX0_findGood_2 11 rfl rfl)
theorem dX0_findGood_60 : decode cX0_findGood 60 = .ok (.getfield 372, 3) := dk_180 1 116 (dk_at dksX0_findGood_2 12 rfl rfl)
theorem dX0_findGood_63 : decode cX0_findGood 63 = .ok (.iconst 1, 1) := dk_4 (dk_at dksX0_findGood_2 15 rfl rfl)
theorem dX0_findGood_64 : decode cX0_findGood 64 = .ok (.isub, 1) := dk_100 (dk_at dksX0_findGood_2 16 rfl rfl)
theorem dX0_findGood_65 : decode cX0_findGood 65 = .ok (.istore_n 2, 1) := dk_61 (dk_at dksX0_findGood_2 17 rfl rfl)
theorem dX0_findGood_66 : decode cX0_findGood 66 = .ok (.iload_n 2, 1) := dk_28 (dk_at dksX0_findGood_2 18 rfl rfl)
theorem dX0_findGood_67 : decode cX0_findGood 67 = .ok (.ifCond .lt 53, 3) := dk_155 0 53 (dk_at dksX0_findGood_2 19 rfl rfl)
theorem dX0_findGood_70 : decode cX0_findGood 70 = .ok (.aload_n 0, 1) := dk_42 (dk_at dksX0_findGood_2 22 rfl rfl)
theorem dX0_findGood_71 : decode cX0_findGood 71 = .ok (.getfield 84, 3) := dk_180 0 84 (dk_at dksX0_findGood_3 0 rfl rfl)
theorem dX0_findGood_74 : decode cX0_findGood 74 = .ok (.aload_n 0, 1) := dk_42 (dk_at dksX0_findGood_3 3 rfl rfl)
theorem dX0_findGood_75 : decode cX0_findGood 75 = .ok (.getfield 81, 3) := dk_180 0 81 (dk_at dksX0_findGood_3 4 rfl rfl)
theorem dX0_findGood_78 : decode cX0_findGood 78 = .ok (.iload_n 2, 1) := dk_28 (dk_at dksX0_findGood_3 7 rfl rfl)
theorem dX0_findGood_79 : decode cX0_findGood 79 = .ok (.iaload, 1) := dk_46 (dk_at dksX0_findGood_3 8 rfl rfl)
theorem dX0_findGood_80 : decode cX0_findGood 80 = .ok (.baload, 1) := dk_51 (dk_at dksX0_findGood_3 9 rfl rfl)
theorem dX0_findGood_81 : decode cX0_findGood 81 = .ok (.ifCond .ne 33, 3) := dk_154 0 33 (dk_at dksX0_findGood_3 10 rfl rfl)
theorem dX0_findGood_84 : decode cX0_findGood 84 = .ok (.aload_n 0, 1) := dk_42 (dk_at dksX0_findGood_3 13 rfl rfl)
theorem dX0_findGood_85 : decode cX0_findGood 85 = .ok (.aload_n 0, 1) := dk_42 (dk_at dksX0_findGood_3 14 rfl rfl)
theorem dX0_findGood_86 : decode cX0_findGood 86 = .ok (.getfield 81, 3) := dk_180 0 81 (dk_at dksX0_findGood_3 15 rfl rfl)
theorem dX0_findGood_89 : decode cX0_findGood 89 = .ok (.iload_n 2, 1) := dk_28 (dk_at dksX0_findGood_3 18 rfl rfl)
theorem dX0_findGood_90 : decode cX0_findGood 90 = .ok (.iaload, 1) := dk_46 (dk_at dksX0_findGood_3 19 rfl rfl)
theorem dX0_findGood_91 : decode cX0_findGood 91 = .ok (.invokevirtual 448, 3) := dk_182 1 192 (dk_at dksX0_findGood_3 20 rfl rfl)
theorem dX0_findGood_94 : decode cX0_findGood 94 = .ok (.ifCond .ne 6, 3) := dk_154 0 6 (dk_at dksX0_findGood_4 0 rfl rfl)
theorem dX0_findGood_97 : decode cX0_findGood 97 = .ok (.goto 17, 3) := dk_167 0 17 (dk_at dksX0_findGood_4 3 rfl rfl)
theorem dX0_findGood_100 : decode cX0_findGood 100 = .ok (.aload_n 0, 1) := dk_42 (dk_at dksX0_findGood_4 6 rfl rfl)
theorem dX0_findGood_101 : decode cX0_findGood 101 = .ok (.getfield 84, 3) := dk_180 0 84 (dk_at dksX0_findGood_4 7 rfl rfl)
theorem dX0_findGood_104 : decode cX0_findGood 104 = .ok (.aload_n 0, 1) := dk_42 (dk_at dksX0_findGood_4 10 rfl rfl)
theorem dX0_findGood_105 : decode cX0_findGood 105 = .ok (.getfield 81, 3) := dk_180 0 81 (dk_at dksX0_findGood_4 11 rfl rfl)
theorem dX0_findGood_108 : decode cX0_findGood 108 = .ok (.iload_n 2, 1) := dk_28 (dk_at dksX0_findGood_4 14 rfl rfl)
theorem dX0_findGood_109 : decode cX0_findGood 109 = .ok (.iaload, 1) := dk_46 (dk_at dksX0_findGood_4 15 rfl rfl)
theorem dX0_findGood_110 : decode cX0_findGood 110 = .ok (.iconst 1, 1) := dk_4 (dk_at dksX0_findGood_4 16 rfl rfl)
theorem dX0_findGood_111 : decode cX0_findGood 111 = .ok (.bastore, 1) := dk_84 (dk_at dksX0_findGood_4 17 rfl rfl)
theorem dX0_findGood_112 : decode cX0_findGood 112 = .ok (.iconst 1, 1) := dk_4 (dk_at dksX0_findGood_4 18 rfl rfl)
theorem dX0_findGood_113 : decode cX0_findGood 113 = .ok (.istore_n 1, 1) := dk_60 (dk_at dksX0_findGood_4 19 rfl rfl)
theorem dX0_findGood_114 : decode cX0_findGood 114 = .ok (.iinc 2 (-1), 3) := dk_132 2 255 (dk_at dksX0_findGood_4 20 rfl rfl)
theorem dX0_findGood_117 : decode cX0_findGood 117 = .ok (.goto (-51), 3) := dk_167 255 205 (dk_at dksX0_findGood_5 0 rfl rfl)
theorem dX0_findGood_120 : decode cX0_findGood 120 = .ok (.goto (-67), 3) := dk_167 255 189 (dk_at dksX0_findGood_5 3 rfl rfl)
theorem dX0_findGood_123 : decode cX0_findGood 123 = .ok (.return_, 1) := dk_177 (dk_at dksX0_findGood_5 6 rfl rfl)
abbrev cX0_leadsToGood : ByteArray := prog_1_method_66_code
def yX0_leadsToGood : MethodName := ⟨RX0, "leadsToGood", "(I)Z"⟩
def dkwX0_leadsToGood_2 : List UInt8 := [182, 1, 126, 51, 153, 0, 5, 4, 172, 132, 2, 1, 167, 255, 202, 3, 172]
abbrev dktX0_leadsToGood_2 : List UInt8 := dkwX0_leadsToGood_2 ++ []
def dkwX0_leadsToGood_1 : List UInt8 := [180, 0, 66, 42, 180, 0, 73, 28, 182, 1, 137, 153, 0, 20, 42, 180, 0, 84, 42, 180, 0, 73]
abbrev dktX0_leadsToGood_1 : List UInt8 := dkwX0_leadsToGood_1 ++ dktX0_leadsToGood_2
def dkwX0_leadsToGood_0 : List UInt8 := [3, 61, 28, 42, 180, 0, 66, 180, 1, 132, 162, 0, 49, 42, 180, 0, 73, 27, 182, 1, 135, 42]
abbrev dktX0_leadsToGood_0 : List UInt8 := dkwX0_leadsToGood_0 ++ dktX0_leadsToGood_1
theorem dksX0_leadsToGood_0 : cX0_leadsToGood.data.toList.drop 0 = dktX0_leadsToGood_0 := by decide +kernel
theorem dksX0_leadsToGood_1 : cX0_leadsToGood.data.toList.drop 22 = dktX0_leadsToGood_1 := dk_seg dksX0_leadsToGood_0 22 rfl rfl
theorem dksX0_leadsToGood_2 : cX0_leadsToGood.data.toList.drop 44 = dktX0_leadsToGood_2 := dk_seg dksX0_leadsToGood_1 22 rfl rfl
theorem dX0_leadsToGood_0 : decode cX0_leadsToGood 0 = .ok (.iconst 0, 1) := dk_3 (dk_at dksX0_leadsToGood_0 0 rfl rfl)
theorem dX0_leadsToGood_1 : decode cX0_leadsToGood 1 = .ok (.istore_n 2, 1) := dk_61 (dk_at dksX0_leadsToGood_0 1 rfl rfl)
theorem dX0_leadsToGood_2 : decode cX0_leadsToGood 2 = .ok (.iload_n 2, 1) := dk_28 (dk_at dksX0_leadsToGood_0 2 rfl rfl)
theorem dX0_leadsToGood_3 : decode cX0_leadsToGood 3 = .ok (.aload_n 0, 1) := dk_42 (dk_at dksX0_leadsToGood_0 3 rfl rfl)
theorem dX0_leadsToGood_4 : decode cX0_leadsToGood 4 = .ok (.getfield 66, 3) := dk_180 0 66 (dk_at dksX0_leadsToGood_0 4 rfl rfl)
theorem dX0_leadsToGood_7 : decode cX0_leadsToGood 7 = .ok (.getfield 388, 3) := dk_180 1 132 (dk_at dksX0_leadsToGood_0 7 rfl rfl)
theorem dX0_leadsToGood_10 : decode cX0_leadsToGood 10 = .ok (.if_icmp .ge 49, 3) := dk_162 0 49 (dk_at dksX0_leadsToGood_0 10 rfl rfl)
theorem dX0_leadsToGood_13 : decode cX0_leadsToGood 13 = .ok (.aload_n 0, 1) := dk_42 (dk_at dksX0_leadsToGood_0 13 rfl rfl)
theorem dX0_leadsToGood_14 : decode cX0_leadsToGood 14 = .ok (.getfield 73, 3) := dk_180 0 73 (dk_at dksX0_leadsToGood_0 14 rfl rfl)
theorem dX0_leadsToGood_17 : decode cX0_leadsToGood 17 = .ok (.iload_n 1, 1) := dk_27 (dk_at dksX0_leadsToGood_0 17 rfl rfl)
theorem dX0_leadsToGood_18 : decode cX0_leadsToGood 18 = .ok (.invokevirtual 391, 3) := dk_182 1 135 (dk_at dksX0_leadsToGood_0 18 rfl rfl)
theorem dX0_leadsToGood_21 : decode cX0_leadsToGood 21 = .ok (.aload_n 0, 1) := dk_42 (dk_at dksX0_leadsToGood_0 21 rfl rfl)
theorem dX0_leadsToGood_22 : decode cX0_leadsToGood 22 = .ok (.getfield 66, 3) := dk_180 0 66 (dk_at dksX0_leadsToGood_1 0 rfl rfl)
theorem dX0_leadsToGood_25 : decode cX0_leadsToGood 25 = .ok (.aload_n 0, 1) := dk_42 (dk_at dksX0_leadsToGood_1 3 rfl rfl)
theorem dX0_leadsToGood_26 : decode cX0_leadsToGood 26 = .ok (.getfield 73, 3) := dk_180 0 73 (dk_at dksX0_leadsToGood_1 4 rfl rfl)
theorem dX0_leadsToGood_29 : decode cX0_leadsToGood 29 = .ok (.iload_n 2, 1) := dk_28 (dk_at dksX0_leadsToGood_1 7 rfl rfl)
theorem dX0_leadsToGood_30 : decode cX0_leadsToGood 30 = .ok (.invokevirtual 393, 3) := dk_182 1 137 (dk_at dksX0_leadsToGood_1 8 rfl rfl)
theorem dX0_leadsToGood_33 : decode cX0_leadsToGood 33 = .ok (.ifCond .eq 20, 3) := dk_153 0 20 (dk_at dksX0_leadsToGood_1 11 rfl rfl)
theorem dX0_leadsToGood_36 : decode cX0_leadsToGood 36 = .ok (.aload_n 0, 1) := dk_42 (dk_at dksX0_leadsToGood_1 14 rfl rfl)
theorem dX0_leadsToGood_37 : decode cX0_leadsToGood 37 = .ok (.getfield 84, 3) := dk_180 0 84 (dk_at dksX0_leadsToGood_1 15 rfl rfl)
theorem dX0_leadsToGood_40 : decode cX0_leadsToGood 40 = .ok (.aload_n 0, 1) := dk_42 (dk_at dksX0_leadsToGood_1 18 rfl rfl)
theorem dX0_leadsToGood_41 : decode cX0_leadsToGood 41 = .ok (.getfield 73, 3) := dk_180 0 73 (dk_at dksX0_leadsToGood_1 19 rfl rfl)
theorem dX0_leadsToGood_44 : decode cX0_leadsToGood 44 = .ok (.invokevirtual 382, 3) := dk_182 1 126 (dk_at dksX0_leadsToGood_2 0 rfl rfl)
theorem dX0_leadsToGood_47 : decode cX0_leadsToGood 47 = .ok (.baload, 1) := dk_51 (dk_at dksX0_leadsToGood_2 3 rfl rfl)
theorem dX0_leadsToGood_48 : decode cX0_leadsToGood 48 = .ok (.ifCond .eq 5, 3) := dk_153 0 5 (dk_at dksX0_leadsToGood_2 4 rfl rfl)
theorem dX0_leadsToGood_51 : decode cX0_leadsToGood 51 = .ok (.iconst 1, 1) := dk_4 (dk_at dksX0_leadsToGood_2 7 rfl rfl)
theorem dX0_leadsToGood_52 : decode cX0_leadsToGood 52 = .ok (.ireturn, 1) := dk_172 (dk_at dksX0_leadsToGood_2 8 rfl rfl)
theorem dX0_leadsToGood_53 : decode cX0_leadsToGood 53 = .ok (.iinc 2 1, 3) := dk_132 2 1 (dk_at dksX0_leadsToGood_2 9 rfl rfl)
theorem dX0_leadsToGood_56 : decode cX0_leadsToGood 56 = .ok (.goto (-54), 3) := dk_167 255 202 (dk_at dksX0_leadsToGood_2 12 rfl rfl)
theorem dX0_leadsToGood_59 : decode cX0_leadsToGood 59 = .ok (.iconst 0, 1) := dk_3 (dk_at dksX0_leadsToGood_2 15 rfl rfl)
theorem dX0_leadsToGood_60 : decode cX0_leadsToGood 60 = .ok (.ireturn, 1) := dk_172 (dk_at dksX0_leadsToGood_2 16 rfl rfl)
abbrev cX0_safe : ByteArray := prog_1_method_68_code
def yX0_safe : MethodName := ⟨RX0, "safe", "()I"⟩
def dkwX0_safe_3 : List UInt8 := [167, 0, 4, 3, 96, 60, 132, 2, 1, 167, 255, 191, 27, 172]
abbrev dktX0_safe_3 : List UInt8 := dkwX0_safe_3 ++ []
def dkwX0_safe_2 : List UInt8 := [182, 1, 137, 153, 0, 22, 42, 180, 0, 84, 42, 180, 0, 73, 182, 1, 126, 51, 153, 0, 7, 4]
abbrev dktX0_safe_2 : List UInt8 := dkwX0_safe_2 ++ dktX0_safe_3
def dkwX0_safe_1 : List UInt8 := [42, 180, 0, 73, 42, 180, 0, 81, 3, 46, 182, 1, 135, 27, 42, 180, 0, 66, 42, 180, 0, 73, 28]
abbrev dktX0_safe_1 : List UInt8 := dkwX0_safe_1 ++ dktX0_safe_2
def dkwX0_safe_0 : List UInt8 := [42, 3, 181, 0, 110, 42, 182, 1, 195, 3, 60, 3, 61, 28, 42, 180, 0, 66, 180, 1, 132, 162, 0, 60]
abbrev dktX0_safe_0 : List UInt8 := dkwX0_safe_0 ++ dktX0_safe_1
theorem dksX0_safe_0 : cX0_safe.data.toList.drop 0 = dktX0_safe_0 := by decide +kernel
theorem dksX0_safe_1 : cX0_safe.data.toList.drop 24 = dktX0_safe_1 := dk_seg dksX0_safe_0 24 rfl rfl
theorem dksX0_safe_2 : cX0_safe.data.toList.drop 47 = dktX0_safe_2 := dk_seg dksX0_safe_1 23 rfl rfl
theorem dksX0_safe_3 : cX0_safe.data.toList.drop 69 = dktX0_safe_3 := dk_seg dksX0_safe_2 22 rfl rfl
theorem dX0_safe_0 : decode cX0_safe 0 = .ok (.aload_n 0, 1) := dk_42 (dk_at dksX0_safe_0 0 rfl rfl)
theorem dX0_safe_1 : decode cX0_safe 1 = .ok (.iconst 0, 1) := dk_3 (dk_at dksX0_safe_0 1 rfl rfl)
theorem dX0_safe_2 : decode cX0_safe 2 = .ok (.putfield 110, 3) := dk_181 0 110 (dk_at dksX0_safe_0 2 rfl rfl)
theorem dX0_safe_5 : decode cX0_safe 5 = .ok (.aload_n 0, 1) := dk_42 (dk_at dksX0_safe_0 5 rfl rfl)
theorem dX0_safe_6 : decode cX0_safe 6 = .ok (.invokevirtual 451, 3) := dk_182 1 195 (dk_at dksX0_safe_0 6 rfl rfl)
theorem dX0_safe_9 : decode cX0_safe 9 = .ok (.iconst 0, 1) := dk_3 (dk_at dksX0_safe_0 9 rfl rfl)
theorem dX0_safe_10 : decode cX0_safe 10 = .ok (.istore_n 1, 1) := dk_60 (dk_at dksX0_safe_0 10 rfl rfl)
theorem dX0_safe_11 : decode cX0_safe 11 = .ok (.iconst 0, 1) := dk_3 (dk_at dksX0_safe_0 11 rfl rfl)
theorem dX0_safe_12 : decode cX0_safe 12 = .ok (.istore_n 2, 1) := dk_61 (dk_at dksX0_safe_0 12 rfl rfl)
theorem dX0_safe_13 : decode cX0_safe 13 = .ok (.iload_n 2, 1) := dk_28 (dk_at dksX0_safe_0 13 rfl rfl)
theorem dX0_safe_14 : decode cX0_safe 14 = .ok (.aload_n 0, 1) := dk_42 (dk_at dksX0_safe_0 14 rfl rfl)
theorem dX0_safe_15 : decode cX0_safe 15 = .ok (.getfield 66, 3) := dk_180 0 66 (dk_at dksX0_safe_0 15 rfl rfl)
theorem dX0_safe_18 : decode cX0_safe 18 = .ok (.getfield 388, 3) := dk_180 1 132 (dk_at dksX0_safe_0 18 rfl rfl)
theorem dX0_safe_21 : decode cX0_safe 21 = .ok (.if_icmp .ge 60, 3) := dk_162 0 60 (dk_at dksX0_safe_0 21 rfl rfl)
theorem dX0_safe_24 : decode cX0_safe 24 = .ok (.aload_n 0, 1) := dk_42 (dk_at dksX0_safe_1 0 rfl rfl)
theorem dX0_safe_25 : decode cX0_safe 25 = .ok (.getfield 73, 3) := dk_180 0 73 (dk_at dksX0_safe_1 1 rfl rfl)
theorem dX0_safe_28 : decode cX0_safe 28 = .ok (.aload_n 0, 1) := dk_42 (dk_at dksX0_safe_1 4 rfl rfl)
theorem dX0_safe_29 : decode cX0_safe 29 = .ok (.getfield 81, 3) := dk_180 0 81 (dk_at dksX0_safe_1 5 rfl rfl)
theorem dX0_safe_32 : decode cX0_safe 32 = .ok (.iconst 0, 1) := dk_3 (dk_at dksX0_safe_1 8 rfl rfl)
theorem dX0_safe_33 : decode cX0_safe 33 = .ok (.iaload, 1) := dk_46 (dk_at dksX0_safe_1 9 rfl rfl)
theorem dX0_safe_34 : decode cX0_safe 34 = .ok (.invokevirtual 391, 3) := dk_182 1 135 (dk_at dksX0_safe_1 10 rfl rfl)
theorem dX0_safe_37 : decode cX0_safe 37 = .ok (.iload_n 1, 1) := dk_27 (dk_at dksX0_safe_1 13 rfl rfl)
theorem dX0_safe_38 : decode cX0_safe 38 = .ok (.aload_n 0, 1) := dk_42 (dk_at dksX0_safe_1 14 rfl rfl)
theorem dX0_safe_39 : decode cX0_safe 39 = .ok (.getfield 66, 3) := dk_180 0 66 (dk_at dksX0_safe_1 15 rfl rfl)
theorem dX0_safe_42 : decode cX0_safe 42 = .ok (.aload_n 0, 1) := dk_42 (dk_at dksX0_safe_1 18 rfl rfl)
theorem dX0_safe_43 : decode cX0_safe 43 = .ok (.getfield 73, 3) := dk_180 0 73 (dk_at dksX0_safe_1 19 rfl rfl)
theorem dX0_safe_46 : decode cX0_safe 46 = .ok (.iload_n 2, 1) := dk_28 (dk_at dksX0_safe_1 22 rfl rfl)
theorem dX0_safe_47 : decode cX0_safe 47 = .ok (.invokevirtual 393, 3) := dk_182 1 137 (dk_at dksX0_safe_2 0 rfl rfl)
theorem dX0_safe_50 : decode cX0_safe 50 = .ok (.ifCond .eq 22, 3) := dk_153 0 22 (dk_at dksX0_safe_2 3 rfl rfl)
theorem dX0_safe_53 : decode cX0_safe 53 = .ok (.aload_n 0, 1) := dk_42 (dk_at dksX0_safe_2 6 rfl rfl)
theorem dX0_safe_54 : decode cX0_safe 54 = .ok (.getfield 84, 3) := dk_180 0 84 (dk_at dksX0_safe_2 7 rfl rfl)
theorem dX0_safe_57 : decode cX0_safe 57 = .ok (.aload_n 0, 1) := dk_42 (dk_at dksX0_safe_2 10 rfl rfl)
theorem dX0_safe_58 : decode cX0_safe 58 = .ok (.getfield 73, 3) := dk_180 0 73 (dk_at dksX0_safe_2 11 rfl rfl)
theorem dX0_safe_61 : decode cX0_safe 61 = .ok (.invokevirtual 382, 3) := dk_182 1 126 (dk_at dksX0_safe_2 14 rfl rfl)
theorem dX0_safe_64 : decode cX0_safe 64 = .ok (.baload, 1) := dk_51 (dk_at dksX0_safe_2 17 rfl rfl)
theorem dX0_safe_65 : decode cX0_safe 65 = .ok (.ifCond .eq 7, 3) := dk_153 0 7 (dk_at dksX0_safe_2 18 rfl rfl)
theorem dX0_safe_68 : decode cX0_safe 68 = .ok (.iconst 1, 1) := dk_4 (dk_at dksX0_safe_2 21 rfl rfl)
theorem dX0_safe_69 : decode cX0_safe 69 = .ok (.goto 4, 3) := dk_167 0 4 (dk_at dksX0_safe_3 0 rfl rfl)
theorem dX0_safe_72 : decode cX0_safe 72 = .ok (.iconst 0, 1) := dk_3 (dk_at dksX0_safe_3 3 rfl rfl)
theorem dX0_safe_73 : decode cX0_safe 73 = .ok (.iadd, 1) := dk_96 (dk_at dksX0_safe_3 4 rfl rfl)
theorem dX0_safe_74 : decode cX0_safe 74 = .ok (.istore_n 1, 1) := dk_60 (dk_at dksX0_safe_3 5 rfl rfl)
theorem dX0_safe_75 : decode cX0_safe 75 = .ok (.iinc 2 1, 3) := dk_132 2 1 (dk_at dksX0_safe_3 6 rfl rfl)
theorem dX0_safe_78 : decode cX0_safe 78 = .ok (.goto (-65), 3) := dk_167 255 191 (dk_at dksX0_safe_3 9 rfl rfl)
theorem dX0_safe_81 : decode cX0_safe 81 = .ok (.iload_n 1, 1) := dk_27 (dk_at dksX0_safe_3 12 rfl rfl)
theorem dX0_safe_82 : decode cX0_safe 82 = .ok (.ireturn, 1) := dk_172 (dk_at dksX0_safe_3 13 rfl rfl)
abbrev cX0_free : ByteArray := prog_1_method_69_code
def yX0_free : MethodName := ⟨RX0, "free", "()I"⟩
def dkwX0_free_4 : List UInt8 := [167, 0, 4, 3, 128, 60, 132, 3, 1, 167, 255, 193, 132, 2, 1, 167, 255, 164, 27, 172]
abbrev dktX0_free_4 : List UInt8 := dkwX0_free_4 ++ []
def dkwX0_free_3 : List UInt8 := [180, 1, 53, 29, 50, 180, 1, 62, 42, 180, 0, 73, 180, 1, 82, 29, 46, 160, 0, 9, 4, 29, 120]
abbrev dktX0_free_3 : List UInt8 := dkwX0_free_3 ++ dktX0_free_4
def dkwX0_free_2 : List UInt8 := [162, 0, 58, 27, 42, 182, 0, 188, 180, 1, 53, 29, 50, 180, 1, 62, 155, 0, 27, 42, 182, 0, 188]
abbrev dktX0_free_2 : List UInt8 := dkwX0_free_2 ++ dktX0_free_3
def dkwX0_free_1 : List UInt8 := [180, 0, 73, 42, 180, 0, 81, 28, 46, 182, 1, 135, 3, 62, 29, 42, 182, 0, 188, 180, 0, 203]
abbrev dktX0_free_1 : List UInt8 := dkwX0_free_1 ++ dktX0_free_2
def dkwX0_free_0 : List UInt8 := [42, 3, 181, 0, 110, 42, 182, 1, 146, 3, 60, 3, 61, 28, 42, 180, 1, 116, 162, 0, 90, 42]
abbrev dktX0_free_0 : List UInt8 := dkwX0_free_0 ++ dktX0_free_1
theorem dksX0_free_0 : cX0_free.data.toList.drop 0 = dktX0_free_0 := by decide +kernel
theorem dksX0_free_1 : cX0_free.data.toList.drop 22 = dktX0_free_1 := dk_seg dksX0_free_0 22 rfl rfl
theorem dksX0_free_2 : cX0_free.data.toList.drop 44 = dktX0_free_2 := dk_seg dksX0_free_1 22 rfl rfl
theorem dksX0_free_3 : cX0_free.data.toList.drop 67 = dktX0_free_3 := dk_seg dksX0_free_2 23 rfl rfl
theorem dksX0_free_4 : cX0_free.data.toList.drop 90 = dktX0_free_4 := dk_seg dksX0_free_3 23 rfl rfl
theorem dX0_free_0 : decode cX0_free 0 = .ok (.aload_n 0, 1) := dk_42 (dk_at dksX0_free_0 0 rfl rfl)
theorem dX0_free_1 : decode cX0_free 1 = .ok (.iconst 0, 1) := dk_3 (dk_at dksX0_free_0 1 rfl rfl)
theorem dX0_free_2 : decode cX0_free 2 = .ok (.putfield 110, 3) := dk_181 0 110 (dk_at dksX0_free_0 2 rfl rfl)
theorem dX0_free_5 : decode cX0_free 5 = .ok (.aload_n 0, 1) := dk_42 (dk_at dksX0_free_0 5 rfl rfl)
theorem dX0_free_6 : decode cX0_free 6 = .ok (.invokevirtual 402, 3) := dk_182 1 146 (dk_at dksX0_free_0 6 rfl rfl)
theorem dX0_free_9 : decode cX0_free 9 = .ok (.iconst 0, 1) := dk_3 (dk_at dksX0_free_0 9 rfl rfl)
theorem dX0_free_10 : decode cX0_free 10 = .ok (.istore_n 1, 1) := dk_60 (dk_at dksX0_free_0 10 rfl rfl)
theorem dX0_free_11 : decode cX0_free 11 = .ok (.iconst 0, 1) := dk_3 (dk_at dksX0_free_0 11 rfl rfl)
theorem dX0_free_12 : decode cX0_free 12 = .ok (.istore_n 2, 1) := dk_61 (dk_at dksX0_free_0 12 rfl rfl)
theorem dX0_free_13 : decode cX0_free 13 = .ok (.iload_n 2, 1) := dk_28 (dk_at dksX0_free_0 13 rfl rfl)
theorem dX0_free_14 : decode cX0_free 14 = .ok (.aload_n 0, 1) := dk_42 (dk_at dksX0_free_0 14 rfl rfl)
theorem dX0_free_15 : decode cX0_free 15 = .ok (.getfield 372, 3) := dk_180 1 116 (dk_at dksX0_free_0 15 rfl rfl)
theorem dX0_free_18 : decode cX0_free 18 = .ok (.if_icmp .ge 90, 3) := dk_162 0 90 (dk_at dksX0_free_0 18 rfl rfl)
theorem dX0_free_21 : decode cX0_free 21 = .ok (.aload_n 0, 1) := dk_42 (dk_at dksX0_free_0 21 rfl rfl)
theorem dX0_free_22 : decode cX0_free 22 = .ok (.getfield 73, 3) := dk_180 0 73 (dk_at dksX0_free_1 0 rfl rfl)
theorem dX0_free_25 : decode cX0_free 25 = .ok (.aload_n 0, 1) := dk_42 (dk_at dksX0_free_1 3 rfl rfl)
theorem dX0_free_26 : decode cX0_free 26 = .ok (.getfield 81, 3) := dk_180 0 81 (dk_at dksX0_free_1 4 rfl rfl)
theorem dX0_free_29 : decode cX0_free 29 = .ok (.iload_n 2, 1) := dk_28 (dk_at dksX0_free_1 7 rfl rfl)
theorem dX0_free_30 : decode cX0_free 30 = .ok (.iaload, 1) := dk_46 (dk_at dksX0_free_1 8 rfl rfl)
theorem dX0_free_31 : decode cX0_free 31 = .ok (.invokevirtual 391, 3) := dk_182 1 135 (dk_at dksX0_free_1 9 rfl rfl)
theorem dX0_free_34 : decode cX0_free 34 = .ok (.iconst 0, 1) := dk_3 (dk_at dksX0_free_1 12 rfl rfl)
theorem dX0_free_35 : decode cX0_free 35 = .ok (.istore_n 3, 1) := dk_62 (dk_at dksX0_free_1 13 rfl rfl)
theorem dX0_free_36 : decode cX0_free 36 = .ok (.iload_n 3, 1) := dk_29 (dk_at dksX0_free_1 14 rfl rfl)
theorem dX0_free_37 : decode cX0_free 37 = .ok (.aload_n 0, 1) := dk_42 (dk_at dksX0_free_1 15 rfl rfl)
theorem dX0_free_38 : decode cX0_free 38 = .ok (.invokevirtual 188, 3) := dk_182 0 188 (dk_at dksX0_free_1 16 rfl rfl)
theorem dX0_free_41 : decode cX0_free 41 = .ok (.getfield 203, 3) := dk_180 0 203 (dk_at dksX0_free_1 19 rfl rfl)
theorem dX0_free_44 : decode cX0_free 44 = .ok (.if_icmp .ge 58, 3) := dk_162 0 58 (dk_at dksX0_free_2 0 rfl rfl)
theorem dX0_free_47 : decode cX0_free 47 = .ok (.iload_n 1, 1) := dk_27 (dk_at dksX0_free_2 3 rfl rfl)
theorem dX0_free_48 : decode cX0_free 48 = .ok (.aload_n 0, 1) := dk_42 (dk_at dksX0_free_2 4 rfl rfl)
theorem dX0_free_49 : decode cX0_free 49 = .ok (.invokevirtual 188, 3) := dk_182 0 188 (dk_at dksX0_free_2 5 rfl rfl)
theorem dX0_free_52 : decode cX0_free 52 = .ok (.getfield 309, 3) := dk_180 1 53 (dk_at dksX0_free_2 8 rfl rfl)
theorem dX0_free_55 : decode cX0_free 55 = .ok (.iload_n 3, 1) := dk_29 (dk_at dksX0_free_2 11 rfl rfl)
theorem dX0_free_56 : decode cX0_free 56 = .ok (.aaload, 1) := dk_50 (dk_at dksX0_free_2 12 rfl rfl)
theorem dX0_free_57 : decode cX0_free 57 = .ok (.getfield 318, 3) := dk_180 1 62 (dk_at dksX0_free_2 13 rfl rfl)
theorem dX0_free_60 : decode cX0_free 60 = .ok (.ifCond .lt 27, 3) := dk_155 0 27 (dk_at dksX0_free_2 16 rfl rfl)
theorem dX0_free_63 : decode cX0_free 63 = .ok (.aload_n 0, 1) := dk_42 (dk_at dksX0_free_2 19 rfl rfl)
theorem dX0_free_64 : decode cX0_free 64 = .ok (.invokevirtual 188, 3) := dk_182 0 188 (dk_at dksX0_free_2 20 rfl rfl)
theorem dX0_free_67 : decode cX0_free 67 = .ok (.getfield 309, 3) := dk_180 1 53 (dk_at dksX0_free_3 0 rfl rfl)
theorem dX0_free_70 : decode cX0_free 70 = .ok (.iload_n 3, 1) := dk_29 (dk_at dksX0_free_3 3 rfl rfl)
theorem dX0_free_71 : decode cX0_free 71 = .ok (.aaload, 1) := dk_50 (dk_at dksX0_free_3 4 rfl rfl)
theorem dX0_free_72 : decode cX0_free 72 = .ok (.getfield 318, 3) := dk_180 1 62 (dk_at dksX0_free_3 5 rfl rfl)
theorem dX0_free_75 : decode cX0_free 75 = .ok (.aload_n 0, 1) := dk_42 (dk_at dksX0_free_3 8 rfl rfl)
theorem dX0_free_76 : decode cX0_free 76 = .ok (.getfield 73, 3) := dk_180 0 73 (dk_at dksX0_free_3 9 rfl rfl)
theorem dX0_free_79 : decode cX0_free 79 = .ok (.getfield 338, 3) := dk_180 1 82 (dk_at dksX0_free_3 12 rfl rfl)
theorem dX0_free_82 : decode cX0_free 82 = .ok (.iload_n 3, 1) := dk_29 (dk_at dksX0_free_3 15 rfl rfl)
theorem dX0_free_83 : decode cX0_free 83 = .ok (.iaload, 1) := dk_46 (dk_at dksX0_free_3 16 rfl rfl)
theorem dX0_free_84 : decode cX0_free 84 = .ok (.if_icmp .ne 9, 3) := dk_160 0 9 (dk_at dksX0_free_3 17 rfl rfl)
theorem dX0_free_87 : decode cX0_free 87 = .ok (.iconst 1, 1) := dk_4 (dk_at dksX0_free_3 20 rfl rfl)
theorem dX0_free_88 : decode cX0_free 88 = .ok (.iload_n 3, 1) := dk_29 (dk_at dksX0_free_3 21 rfl rfl)
theorem dX0_free_89 : decode cX0_free 89 = .ok (.ishl, 1) := dk_120 (dk_at dksX0_free_3 22 rfl rfl)
theorem dX0_free_90 : decode cX0_free 90 = .ok (.goto 4, 3) := dk_167 0 4 (dk_at dksX0_free_4 0 rfl rfl)
theorem dX0_free_93 : decode cX0_free 93 = .ok (.iconst 0, 1) := dk_3 (dk_at dksX0_free_4 3 rfl rfl)
theorem dX0_free_94 : decode cX0_free 94 = .ok (.ior, 1) := dk_128 (dk_at dksX0_free_4 4 rfl rfl)
theorem dX0_free_95 : decode cX0_free 95 = .ok (.istore_n 1, 1) := dk_60 (dk_at dksX0_free_4 5 rfl rfl)
theorem dX0_free_96 : decode cX0_free 96 = .ok (.iinc 3 1, 3) := dk_132 3 1 (dk_at dksX0_free_4 6 rfl rfl)
theorem dX0_free_99 : decode cX0_free 99 = .ok (.goto (-63), 3) := dk_167 255 193 (dk_at dksX0_free_4 9 rfl rfl)
theorem dX0_free_102 : decode cX0_free 102 = .ok (.iinc 2 1, 3) := dk_132 2 1 (dk_at dksX0_free_4 12 rfl rfl)
theorem dX0_free_105 : decode cX0_free 105 = .ok (.goto (-92), 3) := dk_167 255 164 (dk_at dksX0_free_4 15 rfl rfl)
theorem dX0_free_108 : decode cX0_free 108 = .ok (.iload_n 1, 1) := dk_27 (dk_at dksX0_free_4 18 rfl rfl)
theorem dX0_free_109 : decode cX0_free 109 = .ok (.ireturn, 1) := dk_172 (dk_at dksX0_free_4 19 rfl rfl)
abbrev cX0_needed : ByteArray := prog_1_method_71_code
def yX0_needed : MethodName := ⟨RX0, "needed", "()I"⟩
def dkwX0_needed_2 : List UInt8 := [3, 182, 1, 207, 153, 0, 7, 3, 167, 0, 6, 4, 28, 120, 128, 60, 132, 2, 1, 167, 255, 222, 27, 172]
abbrev dktX0_needed_2 : List UInt8 := dkwX0_needed_2 ++ []
def dkwX0_needed_1 : List UInt8 := [158, 0, 5, 2, 172, 3, 60, 3, 61, 28, 42, 182, 0, 188, 180, 0, 200, 162, 0, 29, 27, 42, 28, 2]
abbrev dktX0_needed_1 : List UInt8 := dkwX0_needed_1 ++ dktX0_needed_2
def dkwX0_needed_0 : List UInt8 := [42, 42, 2, 2, 3, 182, 1, 207, 153, 0, 7, 3, 167, 0, 5, 16, 6, 181, 0, 110, 42, 180, 0, 110]
abbrev dktX0_needed_0 : List UInt8 := dkwX0_needed_0 ++ dktX0_needed_1
theorem dksX0_needed_0 : cX0_needed.data.toList.drop 0 = dktX0_needed_0 := by decide +kernel
theorem dksX0_needed_1 : cX0_needed.data.toList.drop 24 = dktX0_needed_1 := dk_seg dksX0_needed_0 24 rfl rfl
theorem dksX0_needed_2 : cX0_needed.data.toList.drop 48 = dktX0_needed_2 := dk_seg dksX0_needed_1 24 rfl rfl
theorem dX0_needed_0 : decode cX0_needed 0 = .ok (.aload_n 0, 1) := dk_42 (dk_at dksX0_needed_0 0 rfl rfl)
theorem dX0_needed_1 : decode cX0_needed 1 = .ok (.aload_n 0, 1) := dk_42 (dk_at dksX0_needed_0 1 rfl rfl)
theorem dX0_needed_2 : decode cX0_needed 2 = .ok (.iconst (-1), 1) := dk_2 (dk_at dksX0_needed_0 2 rfl rfl)
theorem dX0_needed_3 : decode cX0_needed 3 = .ok (.iconst (-1), 1) := dk_2 (dk_at dksX0_needed_0 3 rfl rfl)
theorem dX0_needed_4 : decode cX0_needed 4 = .ok (.iconst 0, 1) := dk_3 (dk_at dksX0_needed_0 4 rfl rfl)
theorem dX0_needed_5 : decode cX0_needed 5 = .ok (.invokevirtual 463, 3) := dk_182 1 207 (dk_at dksX0_needed_0 5 rfl rfl)
theorem dX0_needed_8 : decode cX0_needed 8 = .ok (.ifCond .eq 7, 3) := dk_153 0 7 (dk_at dksX0_needed_0 8 rfl rfl)
theorem dX0_needed_11 : decode cX0_needed 11 = .ok (.iconst 0, 1) := dk_3 (dk_at dksX0_needed_0 11 rfl rfl)
theorem dX0_needed_12 : decode cX0_needed 12 = .ok (.goto 5, 3) := dk_167 0 5 (dk_at dksX0_needed_0 12 rfl rfl)
theorem dX0_needed_15 : decode cX0_needed 15 = .ok (.bipush 6, 2) := dk_16 6 (dk_at dksX0_needed_0 15 rfl rfl)
theorem dX0_needed_17 : decode cX0_needed 17 = .ok (.putfield 110, 3) := dk_181 0 110 (dk_at dksX0_needed_0 17 rfl rfl)
theorem dX0_needed_20 : decode cX0_needed 20 = .ok (.aload_n 0, 1) := dk_42 (dk_at dksX0_needed_0 20 rfl rfl)
theorem dX0_needed_21 : decode cX0_needed 21 = .ok (.getfield 110, 3) := dk_180 0 110 (dk_at dksX0_needed_0 21 rfl rfl)
theorem dX0_needed_24 : decode cX0_needed 24 = .ok (.ifCond .le 5, 3) := dk_158 0 5 (dk_at dksX0_needed_1 0 rfl rfl)
theorem dX0_needed_27 : decode cX0_needed 27 = .ok (.iconst (-1), 1) := dk_2 (dk_at dksX0_needed_1 3 rfl rfl)
theorem dX0_needed_28 : decode cX0_needed 28 = .ok (.ireturn, 1) := dk_172 (dk_at dksX0_needed_1 4 rfl rfl)
theorem dX0_needed_29 : decode cX0_needed 29 = .ok (.iconst 0, 1) := dk_3 (dk_at dksX0_needed_1 5 rfl rfl)
theorem dX0_needed_30 : decode cX0_needed 30 = .ok (.istore_n 1, 1) := dk_60 (dk_at dksX0_needed_1 6 rfl rfl)
theorem dX0_needed_31 : decode cX0_needed 31 = .ok (.iconst 0, 1) := dk_3 (dk_at dksX0_needed_1 7 rfl rfl)
theorem dX0_needed_32 : decode cX0_needed 32 = .ok (.istore_n 2, 1) := dk_61 (dk_at dksX0_needed_1 8 rfl rfl)
theorem dX0_needed_33 : decode cX0_needed 33 = .ok (.iload_n 2, 1) := dk_28 (dk_at dksX0_needed_1 9 rfl rfl)
theorem dX0_needed_34 : decode cX0_needed 34 = .ok (.aload_n 0, 1) := dk_42 (dk_at dksX0_needed_1 10 rfl rfl)
theorem dX0_needed_35 : decode cX0_needed 35 = .ok (.invokevirtual 188, 3) := dk_182 0 188 (dk_at dksX0_needed_1 11 rfl rfl)
theorem dX0_needed_38 : decode cX0_needed 38 = .ok (.getfield 200, 3) := dk_180 0 200 (dk_at dksX0_needed_1 14 rfl rfl)
theorem dX0_needed_41 : decode cX0_needed 41 = .ok (.if_icmp .ge 29, 3) := dk_162 0 29 (dk_at dksX0_needed_1 17 rfl rfl)
theorem dX0_needed_44 : decode cX0_needed 44 = .ok (.iload_n 1, 1) := dk_27 (dk_at dksX0_needed_1 20 rfl rfl)
theorem dX0_needed_45 : decode cX0_needed 45 = .ok (.aload_n 0, 1) := dk_42 (dk_at dksX0_needed_1 21 rfl rfl)
theorem dX0_needed_46 : decode cX0_needed 46 = .ok (.iload_n 2, 1) := dk_28 (dk_at dksX0_needed_1 22 rfl rfl)
theorem dX0_needed_47 : decode cX0_needed 47 = .ok (.iconst (-1), 1) := dk_2 (dk_at dksX0_needed_1 23 rfl rfl)
theorem dX0_needed_48 : decode cX0_needed 48 = .ok (.iconst 0, 1) := dk_3 (dk_at dksX0_needed_2 0 rfl rfl)
theorem dX0_needed_49 : decode cX0_needed 49 = .ok (.invokevirtual 463, 3) := dk_182 1 207 (dk_at dksX0_needed_2 1 rfl rfl)
theorem dX0_needed_52 : decode cX0_needed 52 = .ok (.ifCond .eq 7, 3) := dk_153 0 7 (dk_at dksX0_needed_2 4 rfl rfl)
theorem dX0_needed_55 : decode cX0_needed 55 = .ok (.iconst 0, 1) := dk_3 (dk_at dksX0_needed_2 7 rfl rfl)
theorem dX0_needed_56 : decode cX0_needed 56 = .ok (.goto 6, 3) := dk_167 0 6 (dk_at dksX0_needed_2 8 rfl rfl)
theorem dX0_needed_59 : decode cX0_needed 59 = .ok (.iconst 1, 1) := dk_4 (dk_at dksX0_needed_2 11 rfl rfl)
theorem dX0_needed_60 : decode cX0_needed 60 = .ok (.iload_n 2, 1) := dk_28 (dk_at dksX0_needed_2 12 rfl rfl)
theorem dX0_needed_61 : decode cX0_needed 61 = .ok (.ishl, 1) := dk_120 (dk_at dksX0_needed_2 13 rfl rfl)
theorem dX0_needed_62 : decode cX0_needed 62 = .ok (.ior, 1) := dk_128 (dk_at dksX0_needed_2 14 rfl rfl)
theorem dX0_needed_63 : decode cX0_needed 63 = .ok (.istore_n 1, 1) := dk_60 (dk_at dksX0_needed_2 15 rfl rfl)
theorem dX0_needed_64 : decode cX0_needed 64 = .ok (.iinc 2 1, 3) := dk_132 2 1 (dk_at dksX0_needed_2 16 rfl rfl)
theorem dX0_needed_67 : decode cX0_needed 67 = .ok (.goto (-34), 3) := dk_167 255 222 (dk_at dksX0_needed_2 19 rfl rfl)
theorem dX0_needed_70 : decode cX0_needed 70 = .ok (.iload_n 1, 1) := dk_27 (dk_at dksX0_needed_2 22 rfl rfl)
theorem dX0_needed_71 : decode cX0_needed 71 = .ok (.ireturn, 1) := dk_172 (dk_at dksX0_needed_2 23 rfl rfl)
abbrev cX0_canBe : ByteArray := prog_1_method_70_code
def yX0_canBe : MethodName := ⟨RX0, "canBe", "(III)Z"⟩
def dkwX0_canBe_2 : List UInt8 := [180, 0, 73, 2, 181, 1, 201, 21, 4, 172]
abbrev dktX0_canBe_2 : List UInt8 := dkwX0_canBe_2 ++ []
def dkwX0_canBe_1 : List UInt8 := [42, 182, 1, 164, 155, 0, 7, 4, 167, 0, 4, 3, 54, 4, 42, 180, 0, 73, 2, 181, 1, 198, 42]
abbrev dktX0_canBe_1 : List UInt8 := dkwX0_canBe_1 ++ dktX0_canBe_2
def dkwX0_canBe_0 : List UInt8 := [42, 180, 0, 73, 27, 181, 1, 198, 42, 180, 0, 73, 28, 181, 1, 201, 42, 180, 0, 73, 29, 181, 1, 204]
abbrev dktX0_canBe_0 : List UInt8 := dkwX0_canBe_0 ++ dktX0_canBe_1
theorem dksX0_canBe_0 : cX0_canBe.data.toList.drop 0 = dktX0_canBe_0 := by decide +kernel
theorem dksX0_canBe_1 : cX0_canBe.data.toList.drop 24 = dktX0_canBe_1 := dk_seg dksX0_canBe_0 24 rfl rfl
theorem dksX0_canBe_2 : cX0_canBe.data.toList.drop 47 = dktX0_canBe_2 := dk_seg dksX0_canBe_1 23 rfl rfl
theorem dX0_canBe_0 : decode cX0_canBe 0 = .ok (.aload_n 0, 1) := dk_42 (dk_at dksX0_canBe_0 0 rfl rfl)
theorem dX0_canBe_1 : decode cX0_canBe 1 = .ok (.getfield 73, 3) := dk_180 0 73 (dk_at dksX0_canBe_0 1 rfl rfl)
theorem dX0_canBe_4 : decode cX0_canBe 4 = .ok (.iload_n 1, 1) := dk_27 (dk_at dksX0_canBe_0 4 rfl rfl)
theorem dX0_canBe_5 : decode cX0_canBe 5 = .ok (.putfield 454, 3) := dk_181 1 198 (dk_at dksX0_canBe_0 5 rfl rfl)
theorem dX0_canBe_8 : decode cX0_canBe 8 = .ok (.aload_n 0, 1) := dk_42 (dk_at dksX0_canBe_0 8 rfl rfl)
theorem dX0_canBe_9 : decode cX0_canBe 9 = .ok (.getfield 73, 3) := dk_180 0 73 (dk_at dksX0_canBe_0 9 rfl rfl)
theorem dX0_canBe_12 : decode cX0_canBe 12 = .ok (.iload_n 2, 1) := dk_28 (dk_at dksX0_canBe_0 12 rfl rfl)
theorem dX0_canBe_13 : decode cX0_canBe 13 = .ok (.putfield 457, 3) := dk_181 1 201 (dk_at dksX0_canBe_0 13 rfl rfl)
theorem dX0_canBe_16 : decode cX0_canBe 16 = .ok (.aload_n 0, 1) := dk_42 (dk_at dksX0_canBe_0 16 rfl rfl)
theorem dX0_canBe_17 : decode cX0_canBe 17 = .ok (.getfield 73, 3) := dk_180 0 73 (dk_at dksX0_canBe_0 17 rfl rfl)
theorem dX0_canBe_20 : decode cX0_canBe 20 = .ok (.iload_n 3, 1) := dk_29 (dk_at dksX0_canBe_0 20 rfl rfl)
theorem dX0_canBe_21 : decode cX0_canBe 21 = .ok (.putfield 460, 3) := dk_181 1 204 (dk_at dksX0_canBe_0 21 rfl rfl)
theorem dX0_canBe_24 : decode cX0_canBe 24 = .ok (.aload_n 0, 1) := dk_42 (dk_at dksX0_canBe_1 0 rfl rfl)
theorem dX0_canBe_25 : decode cX0_canBe 25 = .ok (.invokevirtual 420, 3) := dk_182 1 164 (dk_at dksX0_canBe_1 1 rfl rfl)
theorem dX0_canBe_28 : decode cX0_canBe 28 = .ok (.ifCond .lt 7, 3) := dk_155 0 7 (dk_at dksX0_canBe_1 4 rfl rfl)
theorem dX0_canBe_31 : decode cX0_canBe 31 = .ok (.iconst 1, 1) := dk_4 (dk_at dksX0_canBe_1 7 rfl rfl)
theorem dX0_canBe_32 : decode cX0_canBe 32 = .ok (.goto 4, 3) := dk_167 0 4 (dk_at dksX0_canBe_1 8 rfl rfl)
theorem dX0_canBe_35 : decode cX0_canBe 35 = .ok (.iconst 0, 1) := dk_3 (dk_at dksX0_canBe_1 11 rfl rfl)
theorem dX0_canBe_36 : decode cX0_canBe 36 = .ok (.istore 4, 2) := dk_54 4 (dk_at dksX0_canBe_1 12 rfl rfl)
theorem dX0_canBe_38 : decode cX0_canBe 38 = .ok (.aload_n 0, 1) := dk_42 (dk_at dksX0_canBe_1 14 rfl rfl)
theorem dX0_canBe_39 : decode cX0_canBe 39 = .ok (.getfield 73, 3) := dk_180 0 73 (dk_at dksX0_canBe_1 15 rfl rfl)
theorem dX0_canBe_42 : decode cX0_canBe 42 = .ok (.iconst (-1), 1) := dk_2 (dk_at dksX0_canBe_1 18 rfl rfl)
theorem dX0_canBe_43 : decode cX0_canBe 43 = .ok (.putfield 454, 3) := dk_181 1 198 (dk_at dksX0_canBe_1 19 rfl rfl)
theorem dX0_canBe_46 : decode cX0_canBe 46 = .ok (.aload_n 0, 1) := dk_42 (dk_at dksX0_canBe_1 22 rfl rfl)
theorem dX0_canBe_47 : decode cX0_canBe 47 = .ok (.getfield 73, 3) := dk_180 0 73 (dk_at dksX0_canBe_2 0 rfl rfl)
theorem dX0_canBe_50 : decode cX0_canBe 50 = .ok (.iconst (-1), 1) := dk_2 (dk_at dksX0_canBe_2 3 rfl rfl)
theorem dX0_canBe_51 : decode cX0_canBe 51 = .ok (.putfield 457, 3) := dk_181 1 201 (dk_at dksX0_canBe_2 4 rfl rfl)
theorem dX0_canBe_54 : decode cX0_canBe 54 = .ok (.iload 4, 2) := dk_21 4 (dk_at dksX0_canBe_2 7 rfl rfl)
theorem dX0_canBe_56 : decode cX0_canBe 56 = .ok (.ireturn, 1) := dk_172 (dk_at dksX0_canBe_2 9 rfl rfl)
abbrev cX0_stone : ByteArray := prog_1_method_73_code
def yX0_stone : MethodName := ⟨RX0, "stone", "(I)I"⟩
def dkwX0_stone_1 : List UInt8 := [2, 167, 0, 12, 42, 42, 27, 182, 1, 211, 182, 1, 65, 172]
abbrev dktX0_stone_1 : List UInt8 := dkwX0_stone_1 ++ []
def dkwX0_stone_0 : List UInt8 := [42, 42, 27, 182, 1, 76, 153, 0, 7, 3, 167, 0, 4, 4, 181, 0, 110, 42, 180, 0, 110, 158, 0, 7]
abbrev dktX0_stone_0 : List UInt8 := dkwX0_stone_0 ++ dktX0_stone_1
theorem dksX0_stone_0 : cX0_stone.data.toList.drop 0 = dktX0_stone_0 := by decide +kernel
theorem dksX0_stone_1 : cX0_stone.data.toList.drop 24 = dktX0_stone_1 := dk_seg dksX0_stone_0 24 rfl rfl
theorem dX0_stone_0 : decode cX0_stone 0 = .ok (.aload_n 0, 1) := dk_42 (dk_at dksX0_stone_0 0 rfl rfl)
theorem dX0_stone_1 : decode cX0_stone 1 = .ok (.aload_n 0, 1) := dk_42 (dk_at dksX0_stone_0 1 rfl rfl)
theorem dX0_stone_2 : decode cX0_stone 2 = .ok (.iload_n 1, 1) := dk_27 (dk_at dksX0_stone_0 2 rfl rfl)
theorem dX0_stone_3 : decode cX0_stone 3 = .ok (.invokevirtual 332, 3) := dk_182 1 76 (dk_at dksX0_stone_0 3 rfl rfl)
theorem dX0_stone_6 : decode cX0_stone 6 = .ok (.ifCond .eq 7, 3) := dk_153 0 7 (dk_at dksX0_stone_0 6 rfl rfl)
theorem dX0_stone_9 : decode cX0_stone 9 = .ok (.iconst 0, 1) := dk_3 (dk_at dksX0_stone_0 9 rfl rfl)
theorem dX0_stone_10 : decode cX0_stone 10 = .ok (.goto 4, 3) := dk_167 0 4 (dk_at dksX0_stone_0 10 rfl rfl)
theorem dX0_stone_13 : decode cX0_stone 13 = .ok (.iconst 1, 1) := dk_4 (dk_at dksX0_stone_0 13 rfl rfl)
theorem dX0_stone_14 : decode cX0_stone 14 = .ok (.putfield 110, 3) := dk_181 0 110 (dk_at dksX0_stone_0 14 rfl rfl)
theorem dX0_stone_17 : decode cX0_stone 17 = .ok (.aload_n 0, 1) := dk_42 (dk_at dksX0_stone_0 17 rfl rfl)
theorem dX0_stone_18 : decode cX0_stone 18 = .ok (.getfield 110, 3) := dk_180 0 110 (dk_at dksX0_stone_0 18 rfl rfl)
theorem dX0_stone_21 : decode cX0_stone 21 = .ok (.ifCond .le 7, 3) := dk_158 0 7 (dk_at dksX0_stone_0 21 rfl rfl)
theorem dX0_stone_24 : decode cX0_stone 24 = .ok (.iconst (-1), 1) := dk_2 (dk_at dksX0_stone_1 0 rfl rfl)
theorem dX0_stone_25 : decode cX0_stone 25 = .ok (.goto 12, 3) := dk_167 0 12 (dk_at dksX0_stone_1 1 rfl rfl)
theorem dX0_stone_28 : decode cX0_stone 28 = .ok (.aload_n 0, 1) := dk_42 (dk_at dksX0_stone_1 4 rfl rfl)
theorem dX0_stone_29 : decode cX0_stone 29 = .ok (.aload_n 0, 1) := dk_42 (dk_at dksX0_stone_1 5 rfl rfl)
theorem dX0_stone_30 : decode cX0_stone 30 = .ok (.iload_n 1, 1) := dk_27 (dk_at dksX0_stone_1 6 rfl rfl)
theorem dX0_stone_31 : decode cX0_stone 31 = .ok (.invokevirtual 467, 3) := dk_182 1 211 (dk_at dksX0_stone_1 7 rfl rfl)
theorem dX0_stone_34 : decode cX0_stone 34 = .ok (.invokevirtual 321, 3) := dk_182 1 65 (dk_at dksX0_stone_1 10 rfl rfl)
theorem dX0_stone_37 : decode cX0_stone 37 = .ok (.ireturn, 1) := dk_172 (dk_at dksX0_stone_1 13 rfl rfl)
abbrev cX0_leastStone : ByteArray := prog_1_method_72_code
def yX0_leastStone : MethodName := ⟨RX0, "leastStone", "(I)I"⟩
def dkwX0_leastStone_2 : List UInt8 := [167, 0, 8, 21, 4, 4, 96, 61, 167, 255, 222, 28, 172]
abbrev dktX0_leastStone_2 : List UInt8 := dkwX0_leastStone_2 ++ []
def dkwX0_leastStone_1 : List UInt8 := [162, 0, 35, 28, 29, 96, 5, 108, 54, 4, 42, 2, 27, 21, 4, 182, 1, 207, 153, 0, 9, 21, 4, 62]
abbrev dktX0_leastStone_1 : List UInt8 := dkwX0_leastStone_1 ++ dktX0_leastStone_2
def dkwX0_leastStone_0 : List UInt8 := [42, 2, 27, 17, 3, 231, 182, 1, 207, 154, 0, 5, 2, 172, 3, 61, 17, 3, 231, 62, 28, 29]
abbrev dktX0_leastStone_0 : List UInt8 := dkwX0_leastStone_0 ++ dktX0_leastStone_1
theorem dksX0_leastStone_0 : cX0_leastStone.data.toList.drop 0 = dktX0_leastStone_0 := by decide +kernel
theorem dksX0_leastStone_1 : cX0_leastStone.data.toList.drop 22 = dktX0_leastStone_1 := dk_seg dksX0_leastStone_0 22 rfl rfl
theorem dksX0_leastStone_2 : cX0_leastStone.data.toList.drop 46 = dktX0_leastStone_2 := dk_seg dksX0_leastStone_1 24 rfl rfl
theorem dX0_leastStone_0 : decode cX0_leastStone 0 = .ok (.aload_n 0, 1) := dk_42 (dk_at dksX0_leastStone_0 0 rfl rfl)
theorem dX0_leastStone_1 : decode cX0_leastStone 1 = .ok (.iconst (-1), 1) := dk_2 (dk_at dksX0_leastStone_0 1 rfl rfl)
theorem dX0_leastStone_2 : decode cX0_leastStone 2 = .ok (.iload_n 1, 1) := dk_27 (dk_at dksX0_leastStone_0 2 rfl rfl)
theorem dX0_leastStone_3 : decode cX0_leastStone 3 = .ok (.sipush 999, 3) := dk_17 3 231 (dk_at dksX0_leastStone_0 3 rfl rfl)
theorem dX0_leastStone_6 : decode cX0_leastStone 6 = .ok (.invokevirtual 463, 3) := dk_182 1 207 (dk_at dksX0_leastStone_0 6 rfl rfl)
theorem dX0_leastStone_9 : decode cX0_leastStone 9 = .ok (.ifCond .ne 5, 3) := dk_154 0 5 (dk_at dksX0_leastStone_0 9 rfl rfl)
theorem dX0_leastStone_12 : decode cX0_leastStone 12 = .ok (.iconst (-1), 1) := dk_2 (dk_at dksX0_leastStone_0 12 rfl rfl)
theorem dX0_leastStone_13 : decode cX0_leastStone 13 = .ok (.ireturn, 1) := dk_172 (dk_at dksX0_leastStone_0 13 rfl rfl)
theorem dX0_leastStone_14 : decode cX0_leastStone 14 = .ok (.iconst 0, 1) := dk_3 (dk_at dksX0_leastStone_0 14 rfl rfl)
theorem dX0_leastStone_15 : decode cX0_leastStone 15 = .ok (.istore_n 2, 1) := dk_61 (dk_at dksX0_leastStone_0 15 rfl rfl)
theorem dX0_leastStone_16 : decode cX0_leastStone 16 = .ok (.sipush 999, 3) := dk_17 3 231 (dk_at dksX0_leastStone_0 16 rfl rfl)
theorem dX0_leastStone_19 : decode cX0_leastStone 19 = .ok (.istore_n 3, 1) := dk_62 (dk_at dksX0_leastStone_0 19 rfl rfl)
theorem dX0_leastStone_20 : decode cX0_leastStone 20 = .ok (.iload_n 2, 1) := dk_28 (dk_at dksX0_leastStone_0 20 rfl rfl)
theorem dX0_leastStone_21 : decode cX0_leastStone 21 = .ok (.iload_n 3, 1) := dk_29 (dk_at dksX0_leastStone_0 21 rfl rfl)
theorem dX0_leastStone_22 : decode cX0_leastStone 22 = .ok (.if_icmp .ge 35, 3) := dk_162 0 35 (dk_at dksX0_leastStone_1 0 rfl rfl)
theorem dX0_leastStone_25 : decode cX0_leastStone 25 = .ok (.iload_n 2, 1) := dk_28 (dk_at dksX0_leastStone_1 3 rfl rfl)
theorem dX0_leastStone_26 : decode cX0_leastStone 26 = .ok (.iload_n 3, 1) := dk_29 (dk_at dksX0_leastStone_1 4 rfl rfl)
theorem dX0_leastStone_27 : decode cX0_leastStone 27 = .ok (.iadd, 1) := dk_96 (dk_at dksX0_leastStone_1 5 rfl rfl)
theorem dX0_leastStone_28 : decode cX0_leastStone 28 = .ok (.iconst 2, 1) := dk_5 (dk_at dksX0_leastStone_1 6 rfl rfl)
theorem dX0_leastStone_29 : decode cX0_leastStone 29 = .ok (.idiv, 1) := dk_108 (dk_at dksX0_leastStone_1 7 rfl rfl)
theorem dX0_leastStone_30 : decode cX0_leastStone 30 = .ok (.istore 4, 2) := dk_54 4 (dk_at dksX0_leastStone_1 8 rfl rfl)
theorem dX0_leastStone_32 : decode cX0_leastStone 32 = .ok (.aload_n 0, 1) := dk_42 (dk_at dksX0_leastStone_1 10 rfl rfl)
theorem dX0_leastStone_33 : decode cX0_leastStone 33 = .ok (.iconst (-1), 1) := dk_2 (dk_at dksX0_leastStone_1 11 rfl rfl)
theorem dX0_leastStone_34 : decode cX0_leastStone 34 = .ok (.iload_n 1, 1) := dk_27 (dk_at dksX0_leastStone_1 12 rfl rfl)
theorem dX0_leastStone_35 : decode cX0_leastStone 35 = .ok (.iload 4, 2) := dk_21 4 (dk_at dksX0_leastStone_1 13 rfl rfl)
theorem dX0_leastStone_37 : decode cX0_leastStone 37 = .ok (.invokevirtual 463, 3) := dk_182 1 207 (dk_at dksX0_leastStone_1 15 rfl rfl)
theorem dX0_leastStone_40 : decode cX0_leastStone 40 = .ok (.ifCond .eq 9, 3) := dk_153 0 9 (dk_at dksX0_leastStone_1 18 rfl rfl)
theorem dX0_leastStone_43 : decode cX0_leastStone 43 = .ok (.iload 4, 2) := dk_21 4 (dk_at dksX0_leastStone_1 21 rfl rfl)
theorem dX0_leastStone_45 : decode cX0_leastStone 45 = .ok (.istore_n 3, 1) := dk_62 (dk_at dksX0_leastStone_1 23 rfl rfl)
theorem dX0_leastStone_46 : decode cX0_leastStone 46 = .ok (.goto 8, 3) := dk_167 0 8 (dk_at dksX0_leastStone_2 0 rfl rfl)
theorem dX0_leastStone_49 : decode cX0_leastStone 49 = .ok (.iload 4, 2) := dk_21 4 (dk_at dksX0_leastStone_2 3 rfl rfl)
theorem dX0_leastStone_51 : decode cX0_leastStone 51 = .ok (.iconst 1, 1) := dk_4 (dk_at dksX0_leastStone_2 5 rfl rfl)
theorem dX0_leastStone_52 : decode cX0_leastStone 52 = .ok (.iadd, 1) := dk_96 (dk_at dksX0_leastStone_2 6 rfl rfl)
theorem dX0_leastStone_53 : decode cX0_leastStone 53 = .ok (.istore_n 2, 1) := dk_61 (dk_at dksX0_leastStone_2 7 rfl rfl)
theorem dX0_leastStone_54 : decode cX0_leastStone 54 = .ok (.goto (-34), 3) := dk_167 255 222 (dk_at dksX0_leastStone_2 8 rfl rfl)
theorem dX0_leastStone_57 : decode cX0_leastStone 57 = .ok (.iload_n 2, 1) := dk_28 (dk_at dksX0_leastStone_2 11 rfl rfl)
theorem dX0_leastStone_58 : decode cX0_leastStone 58 = .ok (.ireturn, 1) := dk_172 (dk_at dksX0_leastStone_2 12 rfl rfl)
abbrev cX0_bestStone : ByteArray := prog_1_method_74_code
def yX0_bestStone : MethodName := ⟨RX0, "bestStone", "(I)I"⟩
def dkwX0_bestStone_4 : List UInt8 := [27, 154, 0, 7, 28, 167, 0, 4, 29, 182, 1, 65, 172]
abbrev dktX0_bestStone_4 : List UInt8 := dkwX0_bestStone_4 ++ []
def dkwX0_bestStone_3 : List UInt8 := [167, 0, 9, 21, 4, 61, 21, 5, 62, 132, 4, 1, 167, 255, 209, 42, 28, 156, 0, 7, 2, 167, 0, 12]
abbrev dktX0_bestStone_3 : List UInt8 := dkwX0_bestStone_3 ++ dktX0_bestStone_4
def dkwX0_bestStone_2 : List UInt8 := [42, 21, 4, 182, 1, 211, 54, 5, 21, 5, 155, 0, 22, 28, 155, 0, 12, 21, 5, 29, 161, 0, 6]
abbrev dktX0_bestStone_2 : List UInt8 := dkwX0_bestStone_2 ++ dktX0_bestStone_3
def dkwX0_bestStone_1 : List UInt8 := [158, 0, 5, 2, 172, 2, 61, 3, 62, 3, 54, 4, 21, 4, 42, 182, 0, 188, 180, 0, 191, 162, 0, 41]
abbrev dktX0_bestStone_1 : List UInt8 := dkwX0_bestStone_1 ++ dktX0_bestStone_2
def dkwX0_bestStone_0 : List UInt8 := [42, 27, 133, 9, 10, 184, 0, 196, 153, 0, 7, 3, 167, 0, 4, 4, 181, 0, 110, 42, 180, 0, 110]
abbrev dktX0_bestStone_0 : List UInt8 := dkwX0_bestStone_0 ++ dktX0_bestStone_1
theorem dksX0_bestStone_0 : cX0_bestStone.data.toList.drop 0 = dktX0_bestStone_0 := by decide +kernel
theorem dksX0_bestStone_1 : cX0_bestStone.data.toList.drop 23 = dktX0_bestStone_1 := dk_seg dksX0_bestStone_0 23 rfl rfl
theorem dksX0_bestStone_2 : cX0_bestStone.data.toList.drop 47 = dktX0_bestStone_2 := dk_seg dksX0_bestStone_1 24 rfl rfl
theorem dksX0_bestStone_3 : cX0_bestStone.data.toList.drop 70 = dktX0_bestStone_3 := dk_seg dksX0_bestStone_2 23 rfl rfl
theorem dksX0_bestStone_4 : cX0_bestStone.data.toList.drop 94 = dktX0_bestStone_4 := dk_seg dksX0_bestStone_3 24 rfl rfl
theorem dX0_bestStone_0 : decode cX0_bestStone 0 = .ok (.aload_n 0, 1) := dk_42 (dk_at dksX0_bestStone_0 0 rfl rfl)
theorem dX0_bestStone_1 : decode cX0_bestStone 1 = .ok (.iload_n 1, 1) := dk_27 (dk_at dksX0_bestStone_0 1 rfl rfl)
theorem dX0_bestStone_2 : decode cX0_bestStone 2 = .ok (.i2l, 1) := dk_133 (dk_at dksX0_bestStone_0 2 rfl rfl)
theorem dX0_bestStone_3 : decode cX0_bestStone 3 = .ok (.lconst 0, 1) := dk_9 (dk_at dksX0_bestStone_0 3 rfl rfl)
theorem dX0_bestStone_4 : decode cX0_bestStone 4 = .ok (.lconst 1, 1) := dk_10 (dk_at dksX0_bestStone_0 4 rfl rfl)
theorem dX0_bestStone_5 : decode cX0_bestStone 5 = .ok (.invokestatic 196, 3) := dk_184 0 196 (dk_at dksX0_bestStone_0 5 rfl rfl)
theorem dX0_bestStone_8 : decode cX0_bestStone 8 = .ok (.ifCond .eq 7, 3) := dk_153 0 7 (dk_at dksX0_bestStone_0 8 rfl rfl)
theorem dX0_bestStone_11 : decode cX0_bestStone 11 = .ok (.iconst 0, 1) := dk_3 (dk_at dksX0_bestStone_0 11 rfl rfl)
theorem dX0_bestStone_12 : decode cX0_bestStone 12 = .ok (.goto 4, 3) := dk_167 0 4 (dk_at dksX0_bestStone_0 12 rfl rfl)
theorem dX0_bestStone_15 : decode cX0_bestStone 15 = .ok (.iconst 1, 1) := dk_4 (dk_at dksX0_bestStone_0 15 rfl rfl)
theorem dX0_bestStone_16 : decode cX0_bestStone 16 = .ok (.putfield 110, 3) := dk_181 0 110 (dk_at dksX0_bestStone_0 16 rfl rfl)
theorem dX0_bestStone_19 : decode cX0_bestStone 19 = .ok (.aload_n 0, 1) := dk_42 (dk_at dksX0_bestStone_0 19 rfl rfl)
theorem dX0_bestStone_20 : decode cX0_bestStone 20 = .ok (.getfield 110, 3) := dk_180 0 110 (dk_at dksX0_bestStone_0 20 rfl rfl)
theorem dX0_bestStone_23 : decode cX0_bestStone 23 = .ok (.ifCond .le 5, 3) := dk_158 0 5 (dk_at dksX0_bestStone_1 0 rfl rfl)
theorem dX0_bestStone_26 : decode cX0_bestStone 26 = .ok (.iconst (-1), 1) := dk_2 (dk_at dksX0_bestStone_1 3 rfl rfl)
theorem dX0_bestStone_27 : decode cX0_bestStone 27 = .ok (.ireturn, 1) := dk_172 (dk_at dksX0_bestStone_1 4 rfl rfl)
theorem dX0_bestStone_28 : decode cX0_bestStone 28 = .ok (.iconst (-1), 1) := dk_2 (dk_at dksX0_bestStone_1 5 rfl rfl)
theorem dX0_bestStone_29 : decode cX0_bestStone 29 = .ok (.istore_n 2, 1) := dk_61 (dk_at dksX0_bestStone_1 6 rfl rfl)
theorem dX0_bestStone_30 : decode cX0_bestStone 30 = .ok (.iconst 0, 1) := dk_3 (dk_at dksX0_bestStone_1 7 rfl rfl)
theorem dX0_bestStone_31 : decode cX0_bestStone 31 = .ok (.istore_n 3, 1) := dk_62 (dk_at dksX0_bestStone_1 8 rfl rfl)
theorem dX0_bestStone_32 : decode cX0_bestStone 32 = .ok (.iconst 0, 1) := dk_3 (dk_at dksX0_bestStone_1 9 rfl rfl)
theorem dX0_bestStone_33 : decode cX0_bestStone 33 = .ok (.istore 4, 2) := dk_54 4 (dk_at dksX0_bestStone_1 10 rfl rfl)
theorem dX0_bestStone_35 : decode cX0_bestStone 35 = .ok (.iload 4, 2) := dk_21 4 (dk_at dksX0_bestStone_1 12 rfl rfl)
theorem dX0_bestStone_37 : decode cX0_bestStone 37 = .ok (.aload_n 0, 1) := dk_42 (dk_at dksX0_bestStone_1 14 rfl rfl)
theorem dX0_bestStone_38 : decode cX0_bestStone 38 = .ok (.invokevirtual 188, 3) := dk_182 0 188 (dk_at dksX0_bestStone_1 15 rfl rfl)
theorem dX0_bestStone_41 : decode cX0_bestStone 41 = .ok (.getfield 191, 3) := dk_180 0 191 (dk_at dksX0_bestStone_1 18 rfl rfl)
theorem dX0_bestStone_44 : decode cX0_bestStone 44 = .ok (.if_icmp .ge 41, 3) := dk_162 0 41 (dk_at dksX0_bestStone_1 21 rfl rfl)
theorem dX0_bestStone_47 : decode cX0_bestStone 47 = .ok (.aload_n 0, 1) := dk_42 (dk_at dksX0_bestStone_2 0 rfl rfl)
theorem dX0_bestStone_48 : decode cX0_bestStone 48 = .ok (.iload 4, 2) := dk_21 4 (dk_at dksX0_bestStone_2 1 rfl rfl)
theorem dX0_bestStone_50 : decode cX0_bestStone 50 = .ok (.invokevirtual 467, 3) := dk_182 1 211 (dk_at dksX0_bestStone_2 3 rfl rfl)
theorem dX0_bestStone_53 : decode cX0_bestStone 53 = .ok (.istore 5, 2) := dk_54 5 (dk_at dksX0_bestStone_2 6 rfl rfl)
theorem dX0_bestStone_55 : decode cX0_bestStone 55 = .ok (.iload 5, 2) := dk_21 5 (dk_at dksX0_bestStone_2 8 rfl rfl)
theorem dX0_bestStone_57 : decode cX0_bestStone 57 = .ok (.ifCond .lt 22, 3) := dk_155 0 22 (dk_at dksX0_bestStone_2 10 rfl rfl)
theorem dX0_bestStone_60 : decode cX0_bestStone 60 = .ok (.iload_n 2, 1) := dk_28 (dk_at dksX0_bestStone_2 13 rfl rfl)
theorem dX0_bestStone_61 : decode cX0_bestStone 61 = .ok (.ifCond .lt 12, 3) := dk_155 0 12 (dk_at dksX0_bestStone_2 14 rfl rfl)
theorem dX0_bestStone_64 : decode cX0_bestStone 64 = .ok (.iload 5, 2) := dk_21 5 (dk_at dksX0_bestStone_2 17 rfl rfl)
theorem dX0_bestStone_66 : decode cX0_bestStone 66 = .ok (.iload_n 3, 1) := dk_29 (dk_at dksX0_bestStone_2 19 rfl rfl)
theorem dX0_bestStone_67 : decode cX0_bestStone 67 = .ok (.if_icmp .lt 6, 3) := dk_161 0 6 (dk_at dksX0_bestStone_2 20 rfl rfl)
theorem dX0_bestStone_70 : decode cX0_bestStone 70 = .ok (.goto 9, 3) := dk_167 0 9 (dk_at dksX0_bestStone_3 0 rfl rfl)
theorem dX0_bestStone_73 : decode cX0_bestStone 73 = .ok (.iload 4, 2) := dk_21 4 (dk_at dksX0_bestStone_3 3 rfl rfl)
theorem dX0_bestStone_75 : decode cX0_bestStone 75 = .ok (.istore_n 2, 1) := dk_61 (dk_at dksX0_bestStone_3 5 rfl rfl)
theorem dX0_bestStone_76 : decode cX0_bestStone 76 = .ok (.iload 5, 2) := dk_21 5 (dk_at dksX0_bestStone_3 6 rfl rfl)
theorem dX0_bestStone_78 : decode cX0_bestStone 78 = .ok (.istore_n 3, 1) := dk_62 (dk_at dksX0_bestStone_3 8 rfl rfl)
theorem dX0_bestStone_79 : decode cX0_bestStone 79 = .ok (.iinc 4 1, 3) := dk_132 4 1 (dk_at dksX0_bestStone_3 9 rfl rfl)
theorem dX0_bestStone_82 : decode cX0_bestStone 82 = .ok (.goto (-47), 3) := dk_167 255 209 (dk_at dksX0_bestStone_3 12 rfl rfl)
theorem dX0_bestStone_85 : decode cX0_bestStone 85 = .ok (.aload_n 0, 1) := dk_42 (dk_at dksX0_bestStone_3 15 rfl rfl)
theorem dX0_bestStone_86 : decode cX0_bestStone 86 = .ok (.iload_n 2, 1) := dk_28 (dk_at dksX0_bestStone_3 16 rfl rfl)
theorem dX0_bestStone_87 : decode cX0_bestStone 87 = .ok (.ifCond .ge 7, 3) := dk_156 0 7 (dk_at dksX0_bestStone_3 17 rfl rfl)
theorem dX0_bestStone_90 : decode cX0_bestStone 90 = .ok (.iconst (-1), 1) := dk_2 (dk_at dksX0_bestStone_3 20 rfl rfl)
theorem dX0_bestStone_91 : decode cX0_bestStone 91 = .ok (.goto 12, 3) := dk_167 0 12 (dk_at dksX0_bestStone_3 21 rfl rfl)
theorem dX0_bestStone_94 : decode cX0_bestStone 94 = .ok (.iload_n 1, 1) := dk_27 (dk_at dksX0_bestStone_4 0 rfl rfl)
theorem dX0_bestStone_95 : decode cX0_bestStone 95 = .ok (.ifCond .ne 7, 3) := dk_154 0 7 (dk_at dksX0_bestStone_4 1 rfl rfl)
theorem dX0_bestStone_98 : decode cX0_bestStone 98 = .ok (.iload_n 2, 1) := dk_28 (dk_at dksX0_bestStone_4 4 rfl rfl)
theorem dX0_bestStone_99 : decode cX0_bestStone 99 = .ok (.goto 4, 3) := dk_167 0 4 (dk_at dksX0_bestStone_4 5 rfl rfl)
theorem dX0_bestStone_102 : decode cX0_bestStone 102 = .ok (.iload_n 3, 1) := dk_29 (dk_at dksX0_bestStone_4 8 rfl rfl)
theorem dX0_bestStone_103 : decode cX0_bestStone 103 = .ok (.invokevirtual 321, 3) := dk_182 1 65 (dk_at dksX0_bestStone_4 9 rfl rfl)
theorem dX0_bestStone_106 : decode cX0_bestStone 106 = .ok (.ireturn, 1) := dk_172 (dk_at dksX0_bestStone_4 12 rfl rfl)
abbrev cX0_rope : ByteArray := prog_1_method_75_code
def yX0_rope : MethodName := ⟨RX0, "rope", "(III)I"⟩
def dkwX0_rope_10 : List UInt8 := [154, 0, 8, 21, 5, 167, 0, 5, 21, 6, 172, 58, 4, 42, 25, 4, 182, 0, 167, 172]
abbrev dktX0_rope_10 : List UInt8 := dkwX0_rope_10 ++ []
def dkwX0_rope_9 : List UInt8 := [167, 255, 196, 42, 21, 5, 21, 6, 163, 0, 7, 4, 167, 0, 4, 3, 16, 7, 182, 0, 135, 29]
abbrev dktX0_rope_9 : List UInt8 := dkwX0_rope_9 ++ dktX0_rope_10
def dkwX0_rope_8 : List UInt8 := [21, 8, 184, 1, 221, 54, 6, 167, 0, 14, 21, 5, 21, 8, 4, 96, 184, 1, 189, 54, 5, 132, 7, 1]
abbrev dktX0_rope_8 : List UInt8 := dkwX0_rope_8 ++ dktX0_rope_9
def dkwX0_rope_7 : List UInt8 := [184, 0, 161, 136, 54, 8, 25, 4, 5, 21, 7, 104, 4, 96, 184, 0, 161, 10, 148, 154, 0, 15, 21, 6]
abbrev dktX0_rope_7 : List UInt8 := dkwX0_rope_7 ++ dktX0_rope_8
def dkwX0_rope_6 : List UInt8 := [54, 5, 17, 39, 15, 54, 6, 3, 54, 7, 21, 7, 28, 162, 0, 60, 25, 4, 5, 21, 7, 104]
abbrev dktX0_rope_6 : List UInt8 := dkwX0_rope_6 ++ dktX0_rope_7
def dkwX0_rope_5 : List UInt8 := [9, 10, 184, 0, 196, 153, 0, 7, 4, 167, 0, 4, 3, 8, 182, 0, 135, 132, 5, 1, 167, 255, 199, 3]
abbrev dktX0_rope_5 : List UInt8 := dkwX0_rope_5 ++ dktX0_rope_6
def dkwX0_rope_4 : List UInt8 := [184, 0, 161, 9, 20, 1, 219, 184, 0, 196, 153, 0, 26, 25, 4, 5, 21, 5, 104, 4, 96, 184, 0, 161]
abbrev dktX0_rope_4 : List UInt8 := dkwX0_rope_4 ++ dktX0_rope_5
def dkwX0_rope_3 : List UInt8 := [167, 0, 4, 3, 6, 182, 0, 135, 3, 54, 5, 21, 5, 28, 162, 0, 57, 42, 25, 4, 5, 21, 5, 104]
abbrev dktX0_rope_3 : List UInt8 := dkwX0_rope_3 ++ dktX0_rope_4
def dkwX0_rope_2 : List UInt8 := [182, 0, 135, 42, 27, 182, 0, 151, 58, 4, 42, 5, 28, 104, 25, 4, 184, 1, 216, 163, 0, 7, 4]
abbrev dktX0_rope_2 : List UInt8 := dkwX0_rope_2 ++ dktX0_rope_3
def dkwX0_rope_1 : List UInt8 := [184, 0, 196, 153, 0, 17, 29, 133, 9, 10, 184, 0, 196, 153, 0, 7, 4, 167, 0, 4, 3, 4]
abbrev dktX0_rope_1 : List UInt8 := dkwX0_rope_1 ++ dktX0_rope_2
def dkwX0_rope_0 : List UInt8 := [42, 3, 181, 0, 110, 42, 27, 133, 9, 20, 1, 51, 184, 0, 196, 153, 0, 29, 28, 133, 10, 20, 1, 214]
abbrev dktX0_rope_0 : List UInt8 := dkwX0_rope_0 ++ dktX0_rope_1
theorem dksX0_rope_0 : cX0_rope.data.toList.drop 0 = dktX0_rope_0 := by decide +kernel
theorem dksX0_rope_1 : cX0_rope.data.toList.drop 24 = dktX0_rope_1 := dk_seg dksX0_rope_0 24 rfl rfl
theorem dksX0_rope_2 : cX0_rope.data.toList.drop 46 = dktX0_rope_2 := dk_seg dksX0_rope_1 22 rfl rfl
theorem dksX0_rope_3 : cX0_rope.data.toList.drop 69 = dktX0_rope_3 := dk_seg dksX0_rope_2 23 rfl rfl
theorem dksX0_rope_4 : cX0_rope.data.toList.drop 93 = dktX0_rope_4 := dk_seg dksX0_rope_3 24 rfl rfl
theorem dksX0_rope_5 : cX0_rope.data.toList.drop 117 = dktX0_rope_5 := dk_seg dksX0_rope_4 24 rfl rfl
theorem dksX0_rope_6 : cX0_rope.data.toList.drop 141 = dktX0_rope_6 := dk_seg dksX0_rope_5 24 rfl rfl
theorem dksX0_rope_7 : cX0_rope.data.toList.drop 163 = dktX0_rope_7 := dk_seg dksX0_rope_6 22 rfl rfl
theorem dksX0_rope_8 : cX0_rope.data.toList.drop 187 = dktX0_rope_8 := dk_seg dksX0_rope_7 24 rfl rfl
theorem dksX0_rope_9 : cX0_rope.data.toList.drop 211 = dktX0_rope_9 := dk_seg dksX0_rope_8 24 rfl rfl
theorem dksX0_rope_10 : cX0_rope.data.toList.drop 233 = dktX0_rope_10 := dk_seg dksX0_rope_9 22 rfl rfl
theorem dX0_rope_0 : decode cX0_rope 0 = .ok (.aload_n 0, 1) := dk_42 (dk_at dksX0_rope_0 0 rfl rfl)
theorem dX0_rope_1 : decode cX0_rope 1 = .ok (.iconst 0, 1) := dk_3 (dk_at dksX0_rope_0 1 rfl rfl)
theorem dX0_rope_2 : decode cX0_rope 2 = .ok (.putfield 110, 3) := dk_181 0 110 (dk_at dksX0_rope_0 2 rfl rfl)
theorem dX0_rope_5 : decode cX0_rope 5 = .ok (.aload_n 0, 1) := dk_42 (dk_at dksX0_rope_0 5 rfl rfl)
theorem dX0_rope_6 : decode cX0_rope 6 = .ok (.iload_n 1, 1) := dk_27 (dk_at dksX0_rope_0 6 rfl rfl)
theorem dX0_rope_7 : decode cX0_rope 7 = .ok (.i2l, 1) := dk_133 (dk_at dksX0_rope_0 7 rfl rfl)
theorem dX0_rope_8 : decode cX0_rope 8 = .ok (.lconst 0, 1) := dk_9 (dk_at dksX0_rope_0 8 rfl rfl)
theorem dX0_rope_9 : decode cX0_rope 9 = .ok (.ldc2_w 307, 3) := dk_20 1 51 (dk_at dksX0_rope_0 9 rfl rfl)
theorem dX0_rope_12 : decode cX0_rope 12 = .ok (.invokestatic 196, 3) := dk_184 0 196 (dk_at dksX0_rope_0 12 rfl rfl)
theorem dX0_rope_15 : decode cX0_rope 15 = .ok (.ifCond .eq 29, 3) := dk_153 0 29 (dk_at dksX0_rope_0 15 rfl rfl)
theorem dX0_rope_18 : decode cX0_rope 18 = .ok (.iload_n 2, 1) := dk_28 (dk_at dksX0_rope_0 18 rfl rfl)
theorem dX0_rope_19 : decode cX0_rope 19 = .ok (.i2l, 1) := dk_133 (dk_at dksX0_rope_0 19 rfl rfl)
theorem dX0_rope_20 : decode cX0_rope 20 = .ok (.lconst 1, 1) := dk_10 (dk_at dksX0_rope_0 20 rfl rfl)
theorem dX0_rope_21 : decode cX0_rope 21 = .ok (.ldc2_w 470, 3) := dk_20 1 214 (dk_at dksX0_rope_0 21 rfl rfl)
theorem dX0_rope_24 : decode cX0_rope 24 = .ok (.invokestatic 196, 3) := dk_184 0 196 (dk_at dksX0_rope_1 0 rfl rfl)
theorem dX0_rope_27 : decode cX0_rope 27 = .ok (.ifCond .eq 17, 3) := dk_153 0 17 (dk_at dksX0_rope_1 3 rfl rfl)
theorem dX0_rope_30 : decode cX0_rope 30 = .ok (.iload_n 3, 1) := dk_29 (dk_at dksX0_rope_1 6 rfl rfl)
theorem dX0_rope_31 : decode cX0_rope 31 = .ok (.i2l, 1) := dk_133 (dk_at dksX0_rope_1 7 rfl rfl)
theorem dX0_rope_32 : decode cX0_rope 32 = .ok (.lconst 0, 1) := dk_9 (dk_at dksX0_rope_1 8 rfl rfl)
theorem dX0_rope_33 : decode cX0_rope 33 = .ok (.lconst 1, 1) := dk_10 (dk_at dksX0_rope_1 9 rfl rfl)
theorem dX0_rope_34 : decode cX0_rope 34 = .ok (.invokestatic 196, 3) := dk_184 0 196 (dk_at dksX0_rope_1 10 rfl rfl)
theorem dX0_rope_37 : decode cX0_rope 37 = .ok (.ifCond .eq 7, 3) := dk_153 0 7 (dk_at dksX0_rope_1 13 rfl rfl)
theorem dX0_rope_40 : decode cX0_rope 40 = .ok (.iconst 1, 1) := dk_4 (dk_at dksX0_rope_1 16 rfl rfl)
theorem dX0_rope_41 : decode cX0_rope 41 = .ok (.goto 4, 3) := dk_167 0 4 (dk_at dksX0_rope_1 17 rfl rfl)
theorem dX0_rope_44 : decode cX0_rope 44 = .ok (.iconst 0, 1) := dk_3 (dk_at dksX0_rope_1 20 rfl rfl)
theorem dX0_rope_45 : decode cX0_rope 45 = .ok (.iconst 1, 1) := dk_4 (dk_at dksX0_rope_1 21 rfl rfl)
theorem dX0_rope_46 : decode cX0_rope 46 = .ok (.invokevirtual 135, 3) := dk_182 0 135 (dk_at dksX0_rope_2 0 rfl rfl)
theorem dX0_rope_49 : decode cX0_rope 49 = .ok (.aload_n 0, 1) := dk_42 (dk_at dksX0_rope_2 3 rfl rfl)
theorem dX0_rope_50 : decode cX0_rope 50 = .ok (.iload_n 1, 1) := dk_27 (dk_at dksX0_rope_2 4 rfl rfl)
theorem dX0_rope_51 : decode cX0_rope 51 = .ok (.invokevirtual 151, 3) := dk_182 0 151 (dk_at dksX0_rope_2 5 rfl rfl)
theorem dX0_rope_54 : decode cX0_rope 54 = .ok (.astore 4, 2) := dk_58 4 (dk_at dksX0_rope_2 8 rfl rfl)
theorem dX0_rope_56 : decode cX0_rope 56 = .ok (.aload_n 0, 1) := dk_42 (dk_at dksX0_rope_2 10 rfl rfl)
theorem dX0_rope_57 : decode cX0_rope 57 = .ok (.iconst 2, 1) := dk_5 (dk_at dksX0_rope_2 11 rfl rfl)
theorem dX0_rope_58 : decode cX0_rope 58 = .ok (.iload_n 2, 1) := dk_28 (dk_at dksX0_rope_2 12 rfl rfl)
theorem dX0_rope_59 : decode cX0_rope 59 = .ok (.imul, 1) := dk_104 (dk_at dksX0_rope_2 13 rfl rfl)
theorem dX0_rope_60 : decode cX0_rope 60 = .ok (.aload 4, 2) := dk_25 4 (dk_at dksX0_rope_2 14 rfl rfl)
theorem dX0_rope_62 : decode cX0_rope 62 = .ok (.invokestatic 472, 3) := dk_184 1 216 (dk_at dksX0_rope_2 16 rfl rfl)
theorem dX0_rope_65 : decode cX0_rope 65 = .ok (.if_icmp .gt 7, 3) := dk_163 0 7 (dk_at dksX0_rope_2 19 rfl rfl)
theorem dX0_rope_68 : decode cX0_rope 68 = .ok (.iconst 1, 1) := dk_4 (dk_at dksX0_rope_2 22 rfl rfl)
theorem dX0_rope_69 : decode cX0_rope 69 = .ok (.goto 4, 3) := dk_167 0 4 (dk_at dksX0_rope_3 0 rfl rfl)
theorem dX0_rope_72 : decode cX0_rope 72 = .ok (.iconst 0, 1) := dk_3 (dk_at dksX0_rope_3 3 rfl rfl)
theorem dX0_rope_73 : decode cX0_rope 73 = .ok (.iconst 3, 1) := dk_6 (dk_at dksX0_rope_3 4 rfl rfl)
theorem dX0_rope_74 : decode cX0_rope 74 = .ok (.invokevirtual 135, 3) := dk_182 0 135 (dk_at dksX0_rope_3 5 rfl rfl)
theorem dX0_rope_77 : decode cX0_rope 77 = .ok (.iconst 0, 1) := dk_3 (dk_at dksX0_rope_3 8 rfl rfl)
theorem dX0_rope_78 : decode cX0_rope 78 = .ok (.istore 5, 2) := dk_54 5 (dk_at dksX0_rope_3 9 rfl rfl)
theorem dX0_rope_80 : decode cX0_rope 80 = .ok (.iload 5, 2) := dk_21 5 (dk_at dksX0_rope_3 11 rfl rfl)
theorem dX0_rope_82 : decode cX0_rope 82 = .ok (.iload_n 2, 1) := dk_28 (dk_at dksX0_rope_3 13 rfl rfl)
theorem dX0_rope_83 : decode cX0_rope 83 = .ok (.if_icmp .ge 57, 3) := dk_162 0 57 (dk_at dksX0_rope_3 14 rfl rfl)
theorem dX0_rope_86 : decode cX0_rope 86 = .ok (.aload_n 0, 1) := dk_42 (dk_at dksX0_rope_3 17 rfl rfl)
theorem dX0_rope_87 : decode cX0_rope 87 = .ok (.aload 4, 2) := dk_25 4 (dk_at dksX0_rope_3 18 rfl rfl)
theorem dX0_rope_89 : decode cX0_rope 89 = .ok (.iconst 2, 1) := dk_5 (dk_at dksX0_rope_3 20 rfl rfl)
theorem dX0_rope_90 : decode cX0_rope 90 = .ok (.iload 5, 2) := dk_21 5 (dk_at dksX0_rope_3 21 rfl rfl)
theorem dX0_rope_92 : decode cX0_rope 92 = .ok (.imul, 1) := dk_104 (dk_at dksX0_rope_3 23 rfl rfl)
theorem dX0_rope_93 : decode cX0_rope 93 = .ok (.invokestatic 161, 3) := dk_184 0 161 (dk_at dksX0_rope_4 0 rfl rfl)
theorem dX0_rope_96 : decode cX0_rope 96 = .ok (.lconst 0, 1) := dk_9 (dk_at dksX0_rope_4 3 rfl rfl)
theorem dX0_rope_97 : decode cX0_rope 97 = .ok (.ldc2_w 475, 3) := dk_20 1 219 (dk_at dksX0_rope_4 4 rfl rfl)
theorem dX0_rope_100 : decode cX0_rope 100 = .ok (.invokestatic 196, 3) := dk_184 0 196 (dk_at dksX0_rope_4 7 rfl rfl)
theorem dX0_rope_103 : decode cX0_rope 103 = .ok (.ifCond .eq 26, 3) := dk_153 0 26 (dk_at dksX0_rope_4 10 rfl rfl)
theorem dX0_rope_106 : decode cX0_rope 106 = .ok (.aload 4, 2) := dk_25 4 (dk_at dksX0_rope_4 13 rfl rfl)
theorem dX0_rope_108 : decode cX0_rope 108 = .ok (.iconst 2, 1) := dk_5 (dk_at dksX0_rope_4 15 rfl rfl)
theorem dX0_rope_109 : decode cX0_rope 109 = .ok (.iload 5, 2) := dk_21 5 (dk_at dksX0_rope_4 16 rfl rfl)
theorem dX0_rope_111 : decode cX0_rope 111 = .ok (.imul, 1) := dk_104 (dk_at dksX0_rope_4 18 rfl rfl)
theorem dX0_rope_112 : decode cX0_rope 112 = .ok (.iconst 1, 1) := dk_4 (dk_at dksX0_rope_4 19 rfl rfl)
theorem dX0_rope_113 : decode cX0_rope 113 = .ok (.iadd, 1) := dk_96 (dk_at dksX0_rope_4 20 rfl rfl)
theorem dX0_rope_114 : decode cX0_rope 114 = .ok (.invokestatic 161, 3) := dk_184 0 161 (dk_at dksX0_rope_4 21 rfl rfl)
theorem dX0_rope_117 : decode cX0_rope 117 = .ok (.lconst 0, 1) := dk_9 (dk_at dksX0_rope_5 0 rfl rfl)
theorem dX0_rope_118 : decode cX0_rope 118 = .ok (.lconst 1, 1) := dk_10 (dk_at dksX0_rope_5 1 rfl rfl)
theorem dX0_rope_119 : decode cX0_rope 119 = .ok (.invokestatic 196, 3) := dk_184 0 196 (dk_at dksX0_rope_5 2 rfl rfl)
theorem dX0_rope_122 : decode cX0_rope 122 = .ok (.ifCond .eq 7, 3) := dk_153 0 7 (dk_at dksX0_rope_5 5 rfl rfl)
theorem dX0_rope_125 : decode cX0_rope 125 = .ok (.iconst 1, 1) := dk_4 (dk_at dksX0_rope_5 8 rfl rfl)
theorem dX0_rope_126 : decode cX0_rope 126 = .ok (.goto 4, 3) := dk_167 0 4 (dk_at dksX0_rope_5 9 rfl rfl)
theorem dX0_rope_129 : decode cX0_rope 129 = .ok (.iconst 0, 1) := dk_3 (dk_at dksX0_rope_5 12 rfl rfl)
theorem dX0_rope_130 : decode cX0_rope 130 = .ok (.iconst 5, 1) := dk_8 (dk_at dksX0_rope_5 13 rfl rfl)
theorem dX0_rope_131 : decode cX0_rope 131 = .ok (.invokevirtual 135, 3) := dk_182 0 135 (dk_at dksX0_rope_5 14 rfl rfl)
theorem dX0_rope_134 : decode cX0_rope 134 = .ok (.iinc 5 1, 3) := dk_132 5 1 (dk_at dksX0_rope_5 17 rfl rfl)
theorem dX0_rope_137 : decode cX0_rope 137 = .ok (.goto (-57), 3) := dk_167 255 199 (dk_at dksX0_rope_5 20 rfl rfl)
theorem dX0_rope_140 : decode cX0_rope 140 = .ok (.iconst 0, 1) := dk_3 (dk_at dksX0_rope_5 23 rfl rfl)
theorem dX0_rope_141 : decode cX0_rope 141 = .ok (.istore 5, 2) := dk_54 5 (dk_at dksX0_rope_6 0 rfl rfl)
theorem dX0_rope_143 : decode cX0_rope 143 = .ok (.sipush 9999, 3) := dk_17 39 15 (dk_at dksX0_rope_6 2 rfl rfl)
theorem dX0_rope_146 : decode cX0_rope 146 = .ok (.istore 6, 2) := dk_54 6 (dk_at dksX0_rope_6 5 rfl rfl)
theorem dX0_rope_148 : decode cX0_rope 148 = .ok (.iconst 0, 1) := dk_3 (dk_at dksX0_rope_6 7 rfl rfl)
theorem dX0_rope_149 : decode cX0_rope 149 = .ok (.istore 7, 2) := dk_54 7 (dk_at dksX0_rope_6 8 rfl rfl)
theorem dX0_rope_151 : decode cX0_rope 151 = .ok (.iload 7, 2) := dk_21 7 (dk_at dksX0_rope_6 10 rfl rfl)
theorem dX0_rope_153 : decode cX0_rope 153 = .ok (.iload_n 2, 1) := dk_28 (dk_at dksX0_rope_6 12 rfl rfl)
theorem dX0_rope_154 : decode cX0_rope 154 = .ok (.if_icmp .ge 60, 3) := dk_162 0 60 (dk_at dksX0_rope_6 13 rfl rfl)
theorem dX0_rope_157 : decode cX0_rope 157 = .ok (.aload 4, 2) := dk_25 4 (dk_at dksX0_rope_6 16 rfl rfl)
theorem dX0_rope_159 : decode cX0_rope 159 = .ok (.iconst 2, 1) := dk_5 (dk_at dksX0_rope_6 18 rfl rfl)
theorem dX0_rope_160 : decode cX0_rope 160 = .ok (.iload 7, 2) := dk_21 7 (dk_at dksX0_rope_6 19 rfl rfl)
theorem dX0_rope_162 : decode cX0_rope 162 = .ok (.imul, 1) := dk_104 (dk_at dksX0_rope_6 21 rfl rfl)
theorem dX0_rope_163 : decode cX0_rope 163 = .ok (.invokestatic 161, 3) := dk_184 0 161 (dk_at dksX0_rope_7 0 rfl rfl)
theorem dX0_rope_166 : decode cX0_rope 166 = .ok (.l2i, 1) := dk_136 (dk_at dksX0_rope_7 3 rfl rfl)
theorem dX0_rope_167 : decode cX0_rope 167 = .ok (.istore 8, 2) := dk_54 8 (dk_at dksX0_rope_7 4 rfl rfl)
theorem dX0_rope_169 : decode cX0_rope 169 = .ok (.aload 4, 2) := dk_25 4 (dk_at dksX0_rope_7 6 rfl rfl)
theorem dX0_rope_171 : decode cX0_rope 171 = .ok (.iconst 2, 1) := dk_5 (dk_at dksX0_rope_7 8 rfl rfl)
theorem dX0_rope_172 : decode cX0_rope 172 = .ok (.iload 7, 2) := dk_21 7 (dk_at dksX0_rope_7 9 rfl rfl)
theorem dX0_rope_174 : decode cX0_rope 174 = .ok (.imul, 1) := dk_104 (dk_at dksX0_rope_7 11 rfl rfl)
theorem dX0_rope_175 : decode cX0_rope 175 = .ok (.iconst 1, 1) := dk_4 (dk_at dksX0_rope_7 12 rfl rfl)
theorem dX0_rope_176 : decode cX0_rope 176 = .ok (.iadd, 1) := dk_96 (dk_at dksX0_rope_7 13 rfl rfl)
theorem dX0_rope_177 : decode cX0_rope 177 = .ok (.invokestatic 161, 3) := dk_184 0 161 (dk_at dksX0_rope_7 14 rfl rfl)
theorem dX0_rope_180 : decode cX0_rope 180 = .ok (.lconst 1, 1) := dk_10 (dk_at dksX0_rope_7 17 rfl rfl)
theorem dX0_rope_181 : decode cX0_rope 181 = .ok (.lcmp, 1) := dk_148 (dk_at dksX0_rope_7 18 rfl rfl)
theorem dX0_rope_182 : decode cX0_rope 182 = .ok (.ifCond .ne 15, 3) := dk_154 0 15 (dk_at dksX0_rope_7 19 rfl rfl)
theorem dX0_rope_185 : decode cX0_rope 185 = .ok (.iload 6, 2) := dk_21 6 (dk_at dksX0_rope_7 22 rfl rfl)
theorem dX0_rope_187 : decode cX0_rope 187 = .ok (.iload 8, 2) := dk_21 8 (dk_at dksX0_rope_8 0 rfl rfl)
theorem dX0_rope_189 : decode cX0_rope 189 = .ok (.invokestatic 477, 3) := dk_184 1 221 (dk_at dksX0_rope_8 2 rfl rfl)
theorem dX0_rope_192 : decode cX0_rope 192 = .ok (.istore 6, 2) := dk_54 6 (dk_at dksX0_rope_8 5 rfl rfl)
theorem dX0_rope_194 : decode cX0_rope 194 = .ok (.goto 14, 3) := dk_167 0 14 (dk_at dksX0_rope_8 7 rfl rfl)
theorem dX0_rope_197 : decode cX0_rope 197 = .ok (.iload 5, 2) := dk_21 5 (dk_at dksX0_rope_8 10 rfl rfl)
theorem dX0_rope_199 : decode cX0_rope 199 = .ok (.iload 8, 2) := dk_21 8 (dk_at dksX0_rope_8 12 rfl rfl)
theorem dX0_rope_201 : decode cX0_rope 201 = .ok (.iconst 1, 1) := dk_4 (dk_at dksX0_rope_8 14 rfl rfl)
theorem dX0_rope_202 : decode cX0_rope 202 = .ok (.iadd, 1) := dk_96 (dk_at dksX0_rope_8 15 rfl rfl)
theorem dX0_rope_203 : decode cX0_rope 203 = .ok (.invokestatic 445, 3) := dk_184 1 189 (dk_at dksX0_rope_8 16 rfl rfl)
theorem dX0_rope_206 : decode cX0_rope 206 = .ok (.istore 5, 2) := dk_54 5 (dk_at dksX0_rope_8 19 rfl rfl)
theorem dX0_rope_208 : decode cX0_rope 208 = .ok (.iinc 7 1, 3) := dk_132 7 1 (dk_at dksX0_rope_8 21 rfl rfl)
theorem dX0_rope_211 : decode cX0_rope 211 = .ok (.goto (-60), 3) := dk_167 255 196 (dk_at dksX0_rope_9 0 rfl rfl)
theorem dX0_rope_214 : decode cX0_rope 214 = .ok (.aload_n 0, 1) := dk_42 (dk_at dksX0_rope_9 3 rfl rfl)
theorem dX0_rope_215 : decode cX0_rope 215 = .ok (.iload 5, 2) := dk_21 5 (dk_at dksX0_rope_9 4 rfl rfl)
theorem dX0_rope_217 : decode cX0_rope 217 = .ok (.iload 6, 2) := dk_21 6 (dk_at dksX0_rope_9 6 rfl rfl)
theorem dX0_rope_219 : decode cX0_rope 219 = .ok (.if_icmp .gt 7, 3) := dk_163 0 7 (dk_at dksX0_rope_9 8 rfl rfl)
theorem dX0_rope_222 : decode cX0_rope 222 = .ok (.iconst 1, 1) := dk_4 (dk_at dksX0_rope_9 11 rfl rfl)
theorem dX0_rope_223 : decode cX0_rope 223 = .ok (.goto 4, 3) := dk_167 0 4 (dk_at dksX0_rope_9 12 rfl rfl)
theorem dX0_rope_226 : decode cX0_rope 226 = .ok (.iconst 0, 1) := dk_3 (dk_at dksX0_rope_9 15 rfl rfl)
theorem dX0_rope_227 : decode cX0_rope 227 = .ok (.bipush 7, 2) := dk_16 7 (dk_at dksX0_rope_9 16 rfl rfl)
theorem dX0_rope_229 : decode cX0_rope 229 = .ok (.invokevirtual 135, 3) := dk_182 0 135 (dk_at dksX0_rope_9 18 rfl rfl)
theorem dX0_rope_232 : decode cX0_rope 232 = .ok (.iload_n 3, 1) := dk_29 (dk_at dksX0_rope_9 21 rfl rfl)
theorem dX0_rope_233 : decode cX0_rope 233 = .ok (.ifCond .ne 8, 3) := dk_154 0 8 (dk_at dksX0_rope_10 0 rfl rfl)
theorem dX0_rope_236 : decode cX0_rope 236 = .ok (.iload 5, 2) := dk_21 5 (dk_at dksX0_rope_10 3 rfl rfl)
theorem dX0_rope_238 : decode cX0_rope 238 = .ok (.goto 5, 3) := dk_167 0 5 (dk_at dksX0_rope_10 5 rfl rfl)
theorem dX0_rope_241 : decode cX0_rope 241 = .ok (.iload 6, 2) := dk_21 6 (dk_at dksX0_rope_10 8 rfl rfl)
theorem dX0_rope_243 : decode cX0_rope 243 = .ok (.ireturn, 1) := dk_172 (dk_at dksX0_rope_10 10 rfl rfl)
theorem dX0_rope_244 : decode cX0_rope 244 = .ok (.astore 4, 2) := dk_58 4 (dk_at dksX0_rope_10 11 rfl rfl)
theorem dX0_rope_246 : decode cX0_rope 246 = .ok (.aload_n 0, 1) := dk_42 (dk_at dksX0_rope_10 13 rfl rfl)
theorem dX0_rope_247 : decode cX0_rope 247 = .ok (.aload 4, 2) := dk_25 4 (dk_at dksX0_rope_10 14 rfl rfl)
theorem dX0_rope_249 : decode cX0_rope 249 = .ok (.invokevirtual 167, 3) := dk_182 0 167 (dk_at dksX0_rope_10 16 rfl rfl)
theorem dX0_rope_252 : decode cX0_rope 252 = .ok (.ireturn, 1) := dk_172 (dk_at dksX0_rope_10 19 rfl rfl)
abbrev cX0_sizeOf : ByteArray := prog_1_method_3_code
def yX0_sizeOf : MethodName := ⟨RX0, "sizeOf", "(Ljava/lang/Object;)I"⟩
def dkwX0_sizeOf_2 : List UInt8 := [42, 192, 0, 9, 190, 172]
abbrev dktX0_sizeOf_2 : List UInt8 := dkwX0_sizeOf_2 ++ []
def dkwX0_sizeOf_1 : List UInt8 := [192, 0, 5, 76, 43, 190, 172, 42, 193, 0, 7, 153, 0, 13, 42, 192, 0, 7, 76, 43, 190, 167, 0, 8]
abbrev dktX0_sizeOf_1 : List UInt8 := dkwX0_sizeOf_1 ++ dktX0_sizeOf_2
def dkwX0_sizeOf_0 : List UInt8 := [42, 193, 0, 3, 153, 0, 11, 42, 192, 0, 3, 76, 43, 190, 172, 42, 193, 0, 5, 153, 0, 11, 42]
abbrev dktX0_sizeOf_0 : List UInt8 := dkwX0_sizeOf_0 ++ dktX0_sizeOf_1
theorem dksX0_sizeOf_0 : cX0_sizeOf.data.toList.drop 0 = dktX0_sizeOf_0 := by decide +kernel
theorem dksX0_sizeOf_1 : cX0_sizeOf.data.toList.drop 23 = dktX0_sizeOf_1 := dk_seg dksX0_sizeOf_0 23 rfl rfl
theorem dksX0_sizeOf_2 : cX0_sizeOf.data.toList.drop 47 = dktX0_sizeOf_2 := dk_seg dksX0_sizeOf_1 24 rfl rfl
theorem dX0_sizeOf_0 : decode cX0_sizeOf 0 = .ok (.aload_n 0, 1) := dk_42 (dk_at dksX0_sizeOf_0 0 rfl rfl)
theorem dX0_sizeOf_1 : decode cX0_sizeOf 1 = .ok (.instanceof 3, 3) := dk_193 0 3 (dk_at dksX0_sizeOf_0 1 rfl rfl)
theorem dX0_sizeOf_4 : decode cX0_sizeOf 4 = .ok (.ifCond .eq 11, 3) := dk_153 0 11 (dk_at dksX0_sizeOf_0 4 rfl rfl)
theorem dX0_sizeOf_7 : decode cX0_sizeOf 7 = .ok (.aload_n 0, 1) := dk_42 (dk_at dksX0_sizeOf_0 7 rfl rfl)
theorem dX0_sizeOf_8 : decode cX0_sizeOf 8 = .ok (.checkcast 3, 3) := dk_192 0 3 (dk_at dksX0_sizeOf_0 8 rfl rfl)
theorem dX0_sizeOf_11 : decode cX0_sizeOf 11 = .ok (.astore_n 1, 1) := dk_76 (dk_at dksX0_sizeOf_0 11 rfl rfl)
theorem dX0_sizeOf_12 : decode cX0_sizeOf 12 = .ok (.aload_n 1, 1) := dk_43 (dk_at dksX0_sizeOf_0 12 rfl rfl)
theorem dX0_sizeOf_13 : decode cX0_sizeOf 13 = .ok (.arraylength, 1) := dk_190 (dk_at dksX0_sizeOf_0 13 rfl rfl)
theorem dX0_sizeOf_14 : decode cX0_sizeOf 14 = .ok (.ireturn, 1) := dk_172 (dk_at dksX0_sizeOf_0 14 rfl rfl)
theorem dX0_sizeOf_15 : decode cX0_sizeOf 15 = .ok (.aload_n 0, 1) := dk_42 (dk_at dksX0_sizeOf_0 15 rfl rfl)
theorem dX0_sizeOf_16 : decode cX0_sizeOf 16 = .ok (.instanceof 5, 3) := dk_193 0 5 (dk_at dksX0_sizeOf_0 16 rfl rfl)
theorem dX0_sizeOf_19 : decode cX0_sizeOf 19 = .ok (.ifCond .eq 11, 3) := dk_153 0 11 (dk_at dksX0_sizeOf_0 19 rfl rfl)
theorem dX0_sizeOf_22 : decode cX0_sizeOf 22 = .ok (.aload_n 0, 1) := dk_42 (dk_at dksX0_sizeOf_0 22 rfl rfl)
theorem dX0_sizeOf_23 : decode cX0_sizeOf 23 = .ok (.checkcast 5, 3) := dk_192 0 5 (dk_at dksX0_sizeOf_1 0 rfl rfl)
theorem dX0_sizeOf_26 : decode cX0_sizeOf 26 = .ok (.astore_n 1, 1) := dk_76 (dk_at dksX0_sizeOf_1 3 rfl rfl)
theorem dX0_sizeOf_27 : decode cX0_sizeOf 27 = .ok (.aload_n 1, 1) := dk_43 (dk_at dksX0_sizeOf_1 4 rfl rfl)
theorem dX0_sizeOf_28 : decode cX0_sizeOf 28 = .ok (.arraylength, 1) := dk_190 (dk_at dksX0_sizeOf_1 5 rfl rfl)
theorem dX0_sizeOf_29 : decode cX0_sizeOf 29 = .ok (.ireturn, 1) := dk_172 (dk_at dksX0_sizeOf_1 6 rfl rfl)
theorem dX0_sizeOf_30 : decode cX0_sizeOf 30 = .ok (.aload_n 0, 1) := dk_42 (dk_at dksX0_sizeOf_1 7 rfl rfl)
theorem dX0_sizeOf_31 : decode cX0_sizeOf 31 = .ok (.instanceof 7, 3) := dk_193 0 7 (dk_at dksX0_sizeOf_1 8 rfl rfl)
theorem dX0_sizeOf_34 : decode cX0_sizeOf 34 = .ok (.ifCond .eq 13, 3) := dk_153 0 13 (dk_at dksX0_sizeOf_1 11 rfl rfl)
theorem dX0_sizeOf_37 : decode cX0_sizeOf 37 = .ok (.aload_n 0, 1) := dk_42 (dk_at dksX0_sizeOf_1 14 rfl rfl)
theorem dX0_sizeOf_38 : decode cX0_sizeOf 38 = .ok (.checkcast 7, 3) := dk_192 0 7 (dk_at dksX0_sizeOf_1 15 rfl rfl)
theorem dX0_sizeOf_41 : decode cX0_sizeOf 41 = .ok (.astore_n 1, 1) := dk_76 (dk_at dksX0_sizeOf_1 18 rfl rfl)
theorem dX0_sizeOf_42 : decode cX0_sizeOf 42 = .ok (.aload_n 1, 1) := dk_43 (dk_at dksX0_sizeOf_1 19 rfl rfl)
theorem dX0_sizeOf_43 : decode cX0_sizeOf 43 = .ok (.arraylength, 1) := dk_190 (dk_at dksX0_sizeOf_1 20 rfl rfl)
theorem dX0_sizeOf_44 : decode cX0_sizeOf 44 = .ok (.goto 8, 3) := dk_167 0 8 (dk_at dksX0_sizeOf_1 21 rfl rfl)
theorem dX0_sizeOf_47 : decode cX0_sizeOf 47 = .ok (.aload_n 0, 1) := dk_42 (dk_at dksX0_sizeOf_2 0 rfl rfl)
theorem dX0_sizeOf_48 : decode cX0_sizeOf 48 = .ok (.checkcast 9, 3) := dk_192 0 9 (dk_at dksX0_sizeOf_2 1 rfl rfl)
theorem dX0_sizeOf_51 : decode cX0_sizeOf 51 = .ok (.arraylength, 1) := dk_190 (dk_at dksX0_sizeOf_2 4 rfl rfl)
theorem dX0_sizeOf_52 : decode cX0_sizeOf 52 = .ok (.ireturn, 1) := dk_172 (dk_at dksX0_sizeOf_2 5 rfl rfl)
abbrev cX0_run : ByteArray := prog_1_method_77_code
def yX0_run : MethodName := ⟨RX0, "run", "(I)I"⟩
def dkwX0_run_7 : List UInt8 := [180, 0, 107, 3, 7, 184, 0, 175, 42, 4, 181, 1, 250, 42, 180, 0, 100, 180, 1, 253, 172]
abbrev dktX0_run_7 : List UInt8 := dkwX0_run_7 ++ []
def dkwX0_run_6 : List UInt8 := [42, 182, 0, 188, 180, 0, 203, 181, 1, 247, 42, 180, 0, 100, 180, 1, 246, 180, 1, 82, 3, 42]
abbrev dktX0_run_6 : List UInt8 := dkwX0_run_6 ++ dktX0_run_7
def dkwX0_run_5 : List UInt8 := [180, 0, 104, 8, 42, 180, 0, 100, 180, 1, 246, 182, 1, 2, 153, 0, 7, 4, 167, 0, 4, 3, 79, 42]
abbrev dktX0_run_5 : List UInt8 := dkwX0_run_5 ++ dktX0_run_6
def dkwX0_run_4 : List UInt8 := [6, 42, 180, 0, 100, 180, 1, 243, 79, 42, 180, 0, 104, 7, 42, 180, 0, 100, 180, 1, 244, 79, 42]
abbrev dktX0_run_4 : List UInt8 := dkwX0_run_4 ++ dktX0_run_5
def dkwX0_run_3 : List UInt8 := [180, 0, 100, 180, 1, 237, 79, 42, 180, 0, 104, 5, 42, 180, 0, 100, 180, 1, 240, 79, 42, 180, 0, 104]
abbrev dktX0_run_3 : List UInt8 := dkwX0_run_3 ++ dktX0_run_4
def dkwX0_run_2 : List UInt8 := [42, 27, 182, 1, 231, 42, 180, 0, 104, 3, 42, 180, 0, 100, 180, 1, 234, 79, 42, 180, 0, 104, 4, 42]
abbrev dktX0_run_2 : List UInt8 := dkwX0_run_2 ++ dktX0_run_3
def dkwX0_run_1 : List UInt8 := [180, 0, 238, 199, 0, 8, 16, 6, 167, 0, 4, 3, 181, 0, 110, 42, 180, 0, 110, 158, 0, 5, 2, 172]
abbrev dktX0_run_1 : List UInt8 := dkwX0_run_1 ++ dktX0_run_2
def dkwX0_run_0 : List UInt8 := [42, 27, 133, 20, 0, 165, 20, 1, 219, 184, 0, 196, 154, 0, 7, 4, 167, 0, 19, 42, 180, 0, 55]
abbrev dktX0_run_0 : List UInt8 := dkwX0_run_0 ++ dktX0_run_1
theorem dksX0_run_0 : cX0_run.data.toList.drop 0 = dktX0_run_0 := by decide +kernel
theorem dksX0_run_1 : cX0_run.data.toList.drop 23 = dktX0_run_1 := dk_seg dksX0_run_0 23 rfl rfl
theorem dksX0_run_2 : cX0_run.data.toList.drop 47 = dktX0_run_2 := dk_seg dksX0_run_1 24 rfl rfl
theorem dksX0_run_3 : cX0_run.data.toList.drop 71 = dktX0_run_3 := dk_seg dksX0_run_2 24 rfl rfl
theorem dksX0_run_4 : cX0_run.data.toList.drop 95 = dktX0_run_4 := dk_seg dksX0_run_3 24 rfl rfl
theorem dksX0_run_5 : cX0_run.data.toList.drop 118 = dktX0_run_5 := dk_seg dksX0_run_4 23 rfl rfl
theorem dksX0_run_6 : cX0_run.data.toList.drop 142 = dktX0_run_6 := dk_seg dksX0_run_5 24 rfl rfl
theorem dksX0_run_7 : cX0_run.data.toList.drop 164 = dktX0_run_7 := dk_seg dksX0_run_6 22 rfl rfl
theorem dX0_run_0 : decode cX0_run 0 = .ok (.aload_n 0, 1) := dk_42 (dk_at dksX0_run_0 0 rfl rfl)
theorem dX0_run_1 : decode cX0_run 1 = .ok (.iload_n 1, 1) := dk_27 (dk_at dksX0_run_0 1 rfl rfl)
theorem dX0_run_2 : decode cX0_run 2 = .ok (.i2l, 1) := dk_133 (dk_at dksX0_run_0 2 rfl rfl)
theorem dX0_run_3 : decode cX0_run 3 = .ok (.ldc2_w 165, 3) := dk_20 0 165 (dk_at dksX0_run_0 3 rfl rfl)
theorem dX0_run_6 : decode cX0_run 6 = .ok (.ldc2_w 475, 3) := dk_20 1 219 (dk_at dksX0_run_0 6 rfl rfl)
theorem dX0_run_9 : decode cX0_run 9 = .ok (.invokestatic 196, 3) := dk_184 0 196 (dk_at dksX0_run_0 9 rfl rfl)
theorem dX0_run_12 : decode cX0_run 12 = .ok (.ifCond .ne 7, 3) := dk_154 0 7 (dk_at dksX0_run_0 12 rfl rfl)
theorem dX0_run_15 : decode cX0_run 15 = .ok (.iconst 1, 1) := dk_4 (dk_at dksX0_run_0 15 rfl rfl)
theorem dX0_run_16 : decode cX0_run 16 = .ok (.goto 19, 3) := dk_167 0 19 (dk_at dksX0_run_0 16 rfl rfl)
theorem dX0_run_19 : decode cX0_run 19 = .ok (.aload_n 0, 1) := dk_42 (dk_at dksX0_run_0 19 rfl rfl)
theorem dX0_run_20 : decode cX0_run 20 = .ok (.getfield 55, 3) := dk_180 0 55 (dk_at dksX0_run_0 20 rfl rfl)
theorem dX0_run_23 : decode cX0_run 23 = .ok (.getfield 238, 3) := dk_180 0 238 (dk_at dksX0_run_1 0 rfl rfl)
theorem dX0_run_26 : decode cX0_run 26 = .ok (.ifnonnull 8, 3) := dk_199 0 8 (dk_at dksX0_run_1 3 rfl rfl)
theorem dX0_run_29 : decode cX0_run 29 = .ok (.bipush 6, 2) := dk_16 6 (dk_at dksX0_run_1 6 rfl rfl)
theorem dX0_run_31 : decode cX0_run 31 = .ok (.goto 4, 3) := dk_167 0 4 (dk_at dksX0_run_1 8 rfl rfl)
theorem dX0_run_34 : decode cX0_run 34 = .ok (.iconst 0, 1) := dk_3 (dk_at dksX0_run_1 11 rfl rfl)
theorem dX0_run_35 : decode cX0_run 35 = .ok (.putfield 110, 3) := dk_181 0 110 (dk_at dksX0_run_1 12 rfl rfl)
theorem dX0_run_38 : decode cX0_run 38 = .ok (.aload_n 0, 1) := dk_42 (dk_at dksX0_run_1 15 rfl rfl)
theorem dX0_run_39 : decode cX0_run 39 = .ok (.getfield 110, 3) := dk_180 0 110 (dk_at dksX0_run_1 16 rfl rfl)
theorem dX0_run_42 : decode cX0_run 42 = .ok (.ifCond .le 5, 3) := dk_158 0 5 (dk_at dksX0_run_1 19 rfl rfl)
theorem dX0_run_45 : decode cX0_run 45 = .ok (.iconst (-1), 1) := dk_2 (dk_at dksX0_run_1 22 rfl rfl)
theorem dX0_run_46 : decode cX0_run 46 = .ok (.ireturn, 1) := dk_172 (dk_at dksX0_run_1 23 rfl rfl)
theorem dX0_run_47 : decode cX0_run 47 = .ok (.aload_n 0, 1) := dk_42 (dk_at dksX0_run_2 0 rfl rfl)
theorem dX0_run_48 : decode cX0_run 48 = .ok (.iload_n 1, 1) := dk_27 (dk_at dksX0_run_2 1 rfl rfl)
theorem dX0_run_49 : decode cX0_run 49 = .ok (.invokevirtual 487, 3) := dk_182 1 231 (dk_at dksX0_run_2 2 rfl rfl)
theorem dX0_run_52 : decode cX0_run 52 = .ok (.aload_n 0, 1) := dk_42 (dk_at dksX0_run_2 5 rfl rfl)
theorem dX0_run_53 : decode cX0_run 53 = .ok (.getfield 104, 3) := dk_180 0 104 (dk_at dksX0_run_2 6 rfl rfl)
theorem dX0_run_56 : decode cX0_run 56 = .ok (.iconst 0, 1) := dk_3 (dk_at dksX0_run_2 9 rfl rfl)
theorem dX0_run_57 : decode cX0_run 57 = .ok (.aload_n 0, 1) := dk_42 (dk_at dksX0_run_2 10 rfl rfl)
theorem dX0_run_58 : decode cX0_run 58 = .ok (.getfield 100, 3) := dk_180 0 100 (dk_at dksX0_run_2 11 rfl rfl)
theorem dX0_run_61 : decode cX0_run 61 = .ok (.getfield 490, 3) := dk_180 1 234 (dk_at dksX0_run_2 14 rfl rfl)
theorem dX0_run_64 : decode cX0_run 64 = .ok (.iastore, 1) := dk_79 (dk_at dksX0_run_2 17 rfl rfl)
theorem dX0_run_65 : decode cX0_run 65 = .ok (.aload_n 0, 1) := dk_42 (dk_at dksX0_run_2 18 rfl rfl)
theorem dX0_run_66 : decode cX0_run 66 = .ok (.getfield 104, 3) := dk_180 0 104 (dk_at dksX0_run_2 19 rfl rfl)
theorem dX0_run_69 : decode cX0_run 69 = .ok (.iconst 1, 1) := dk_4 (dk_at dksX0_run_2 22 rfl rfl)
theorem dX0_run_70 : decode cX0_run 70 = .ok (.aload_n 0, 1) := dk_42 (dk_at dksX0_run_2 23 rfl rfl)
theorem dX0_run_71 : decode cX0_run 71 = .ok (.getfield 100, 3) := dk_180 0 100 (dk_at dksX0_run_3 0 rfl rfl)
theorem dX0_run_74 : decode cX0_run 74 = .ok (.getfield 493, 3) := dk_180 1 237 (dk_at dksX0_run_3 3 rfl rfl)
theorem dX0_run_77 : decode cX0_run 77 = .ok (.iastore, 1) := dk_79 (dk_at dksX0_run_3 6 rfl rfl)
theorem dX0_run_78 : decode cX0_run 78 = .ok (.aload_n 0, 1) := dk_42 (dk_at dksX0_run_3 7 rfl rfl)
theorem dX0_run_79 : decode cX0_run 79 = .ok (.getfield 104, 3) := dk_180 0 104 (dk_at dksX0_run_3 8 rfl rfl)
theorem dX0_run_82 : decode cX0_run 82 = .ok (.iconst 2, 1) := dk_5 (dk_at dksX0_run_3 11 rfl rfl)
theorem dX0_run_83 : decode cX0_run 83 = .ok (.aload_n 0, 1) := dk_42 (dk_at dksX0_run_3 12 rfl rfl)
theorem dX0_run_84 : decode cX0_run 84 = .ok (.getfield 100, 3) := dk_180 0 100 (dk_at dksX0_run_3 13 rfl rfl)
theorem dX0_run_87 : decode cX0_run 87 = .ok (.getfield 496, 3) := dk_180 1 240 (dk_at dksX0_run_3 16 rfl rfl)
theorem dX0_run_90 : decode cX0_run 90 = .ok (.iastore, 1) := dk_79 (dk_at dksX0_run_3 19 rfl rfl)
theorem dX0_run_91 : decode cX0_run 91 = .ok (.aload_n 0, 1) := dk_42 (dk_at dksX0_run_3 20 rfl rfl)
theorem dX0_run_92 : decode cX0_run 92 = .ok (.getfield 104, 3) := dk_180 0 104 (dk_at dksX0_run_3 21 rfl rfl)
theorem dX0_run_95 : decode cX0_run 95 = .ok (.iconst 3, 1) := dk_6 (dk_at dksX0_run_4 0 rfl rfl)
theorem dX0_run_96 : decode cX0_run 96 = .ok (.aload_n 0, 1) := dk_42 (dk_at dksX0_run_4 1 rfl rfl)
theorem dX0_run_97 : decode cX0_run 97 = .ok (.getfield 100, 3) := dk_180 0 100 (dk_at dksX0_run_4 2 rfl rfl)
theorem dX0_run_100 : decode cX0_run 100 = .ok (.getfield 499, 3) := dk_180 1 243 (dk_at dksX0_run_4 5 rfl rfl)
theorem dX0_run_103 : decode cX0_run 103 = .ok (.iastore, 1) := dk_79 (dk_at dksX0_run_4 8 rfl rfl)
theorem dX0_run_104 : decode cX0_run 104 = .ok (.aload_n 0, 1) := dk_42 (dk_at dksX0_run_4 9 rfl rfl)
theorem dX0_run_105 : decode cX0_run 105 = .ok (.getfield 104, 3) := dk_180 0 104 (dk_at dksX0_run_4 10 rfl rfl)
theorem dX0_run_108 : decode cX0_run 108 = .ok (.iconst 4, 1) := dk_7 (dk_at dksX0_run_4 13 rfl rfl)
theorem dX0_run_109 : decode cX0_run 109 = .ok (.aload_n 0, 1) := dk_42 (dk_at dksX0_run_4 14 rfl rfl)
theorem dX0_run_110 : decode cX0_run 110 = .ok (.getfield 100, 3) := dk_180 0 100 (dk_at dksX0_run_4 15 rfl rfl)
theorem dX0_run_113 : decode cX0_run 113 = .ok (.getfield 500, 3) := dk_180 1 244 (dk_at dksX0_run_4 18 rfl rfl)
theorem dX0_run_116 : decode cX0_run 116 = .ok (.iastore, 1) := dk_79 (dk_at dksX0_run_4 21 rfl rfl)
theorem dX0_run_117 : decode cX0_run 117 = .ok (.aload_n 0, 1) := dk_42 (dk_at dksX0_run_4 22 rfl rfl)
theorem dX0_run_118 : decode cX0_run 118 = .ok (.getfield 104, 3) := dk_180 0 104 (dk_at dksX0_run_5 0 rfl rfl)
theorem dX0_run_121 : decode cX0_run 121 = .ok (.iconst 5, 1) := dk_8 (dk_at dksX0_run_5 3 rfl rfl)
theorem dX0_run_122 : decode cX0_run 122 = .ok (.aload_n 0, 1) := dk_42 (dk_at dksX0_run_5 4 rfl rfl)
theorem dX0_run_123 : decode cX0_run 123 = .ok (.getfield 100, 3) := dk_180 0 100 (dk_at dksX0_run_5 5 rfl rfl)
theorem dX0_run_126 : decode cX0_run 126 = .ok (.getfield 502, 3) := dk_180 1 246 (dk_at dksX0_run_5 8 rfl rfl)
theorem dX0_run_129 : decode cX0_run 129 = .ok (.invokevirtual 258, 3) := dk_182 1 2 (dk_at dksX0_run_5 11 rfl rfl)
theorem dX0_run_132 : decode cX0_run 132 = .ok (.ifCond .eq 7, 3) := dk_153 0 7 (dk_at dksX0_run_5 14 rfl rfl)
theorem dX0_run_135 : decode cX0_run 135 = .ok (.iconst 1, 1) := dk_4 (dk_at dksX0_run_5 17 rfl rfl)
theorem dX0_run_136 : decode cX0_run 136 = .ok (.goto 4, 3) := dk_167 0 4 (dk_at dksX0_run_5 18 rfl rfl)
theorem dX0_run_139 : decode cX0_run 139 = .ok (.iconst 0, 1) := dk_3 (dk_at dksX0_run_5 21 rfl rfl)
theorem dX0_run_140 : decode cX0_run 140 = .ok (.iastore, 1) := dk_79 (dk_at dksX0_run_5 22 rfl rfl)
theorem dX0_run_141 : decode cX0_run 141 = .ok (.aload_n 0, 1) := dk_42 (dk_at dksX0_run_5 23 rfl rfl)
theorem dX0_run_142 : decode cX0_run 142 = .ok (.aload_n 0, 1) := dk_42 (dk_at dksX0_run_6 0 rfl rfl)
theorem dX0_run_143 : decode cX0_run 143 = .ok (.invokevirtual 188, 3) := dk_182 0 188 (dk_at dksX0_run_6 1 rfl rfl)
theorem dX0_run_146 : decode cX0_run 146 = .ok (.getfield 203, 3) := dk_180 0 203 (dk_at dksX0_run_6 4 rfl rfl)
theorem dX0_run_149 : decode cX0_run 149 = .ok (.putfield 503, 3) := dk_181 1 247 (dk_at dksX0_run_6 7 rfl rfl)
theorem dX0_run_152 : decode cX0_run 152 = .ok (.aload_n 0, 1) := dk_42 (dk_at dksX0_run_6 10 rfl rfl)
theorem dX0_run_153 : decode cX0_run 153 = .ok (.getfield 100, 3) := dk_180 0 100 (dk_at dksX0_run_6 11 rfl rfl)
theorem dX0_run_156 : decode cX0_run 156 = .ok (.getfield 502, 3) := dk_180 1 246 (dk_at dksX0_run_6 14 rfl rfl)
theorem dX0_run_159 : decode cX0_run 159 = .ok (.getfield 338, 3) := dk_180 1 82 (dk_at dksX0_run_6 17 rfl rfl)
theorem dX0_run_162 : decode cX0_run 162 = .ok (.iconst 0, 1) := dk_3 (dk_at dksX0_run_6 20 rfl rfl)
theorem dX0_run_163 : decode cX0_run 163 = .ok (.aload_n 0, 1) := dk_42 (dk_at dksX0_run_6 21 rfl rfl)
theorem dX0_run_164 : decode cX0_run 164 = .ok (.getfield 107, 3) := dk_180 0 107 (dk_at dksX0_run_7 0 rfl rfl)
theorem dX0_run_167 : decode cX0_run 167 = .ok (.iconst 0, 1) := dk_3 (dk_at dksX0_run_7 3 rfl rfl)
theorem dX0_run_168 : decode cX0_run 168 = .ok (.iconst 4, 1) := dk_7 (dk_at dksX0_run_7 4 rfl rfl)
theorem dX0_run_169 : decode cX0_run 169 = .ok (.invokestatic 175, 3) := dk_184 0 175 (dk_at dksX0_run_7 5 rfl rfl)
theorem dX0_run_172 : decode cX0_run 172 = .ok (.aload_n 0, 1) := dk_42 (dk_at dksX0_run_7 8 rfl rfl)
theorem dX0_run_173 : decode cX0_run 173 = .ok (.iconst 1, 1) := dk_4 (dk_at dksX0_run_7 9 rfl rfl)
theorem dX0_run_174 : decode cX0_run 174 = .ok (.putfield 506, 3) := dk_181 1 250 (dk_at dksX0_run_7 10 rfl rfl)
theorem dX0_run_177 : decode cX0_run 177 = .ok (.aload_n 0, 1) := dk_42 (dk_at dksX0_run_7 13 rfl rfl)
theorem dX0_run_178 : decode cX0_run 178 = .ok (.getfield 100, 3) := dk_180 0 100 (dk_at dksX0_run_7 14 rfl rfl)
theorem dX0_run_181 : decode cX0_run 181 = .ok (.getfield 509, 3) := dk_180 1 253 (dk_at dksX0_run_7 17 rfl rfl)
theorem dX0_run_184 : decode cX0_run 184 = .ok (.ireturn, 1) := dk_172 (dk_at dksX0_run_7 20 rfl rfl)
abbrev cX0_runOnce : ByteArray := prog_1_method_76_code
def yX0_runOnce : MethodName := ⟨RX0, "runOnce", "(I)V"⟩
def dkwX0_runOnce_1 : List UInt8 := [180, 0, 100, 182, 1, 227, 177]
abbrev dktX0_runOnce_1 : List UInt8 := dkwX0_runOnce_1 ++ []
def dkwX0_runOnce_0 : List UInt8 := [42, 180, 0, 100, 42, 180, 0, 55, 180, 0, 183, 27, 182, 1, 224, 42, 180, 0, 55, 180, 0, 238, 42]
abbrev dktX0_runOnce_0 : List UInt8 := dkwX0_runOnce_0 ++ dktX0_runOnce_1
theorem dksX0_runOnce_0 : cX0_runOnce.data.toList.drop 0 = dktX0_runOnce_0 := by decide +kernel
theorem dksX0_runOnce_1 : cX0_runOnce.data.toList.drop 23 = dktX0_runOnce_1 := dk_seg dksX0_runOnce_0 23 rfl rfl
theorem dX0_runOnce_0 : decode cX0_runOnce 0 = .ok (.aload_n 0, 1) := dk_42 (dk_at dksX0_runOnce_0 0 rfl rfl)
theorem dX0_runOnce_1 : decode cX0_runOnce 1 = .ok (.getfield 100, 3) := dk_180 0 100 (dk_at dksX0_runOnce_0 1 rfl rfl)
theorem dX0_runOnce_4 : decode cX0_runOnce 4 = .ok (.aload_n 0, 1) := dk_42 (dk_at dksX0_runOnce_0 4 rfl rfl)
theorem dX0_runOnce_5 : decode cX0_runOnce 5 = .ok (.getfield 55, 3) := dk_180 0 55 (dk_at dksX0_runOnce_0 5 rfl rfl)
theorem dX0_runOnce_8 : decode cX0_runOnce 8 = .ok (.getfield 183, 3) := dk_180 0 183 (dk_at dksX0_runOnce_0 8 rfl rfl)
theorem dX0_runOnce_11 : decode cX0_runOnce 11 = .ok (.iload_n 1, 1) := dk_27 (dk_at dksX0_runOnce_0 11 rfl rfl)
theorem dX0_runOnce_12 : decode cX0_runOnce 12 = .ok (.invokevirtual 480, 3) := dk_182 1 224 (dk_at dksX0_runOnce_0 12 rfl rfl)
theorem dX0_runOnce_15 : decode cX0_runOnce 15 = .ok (.aload_n 0, 1) := dk_42 (dk_at dksX0_runOnce_0 15 rfl rfl)
theorem dX0_runOnce_16 : decode cX0_runOnce 16 = .ok (.getfield 55, 3) := dk_180 0 55 (dk_at dksX0_runOnce_0 16 rfl rfl)
theorem dX0_runOnce_19 : decode cX0_runOnce 19 = .ok (.getfield 238, 3) := dk_180 0 238 (dk_at dksX0_runOnce_0 19 rfl rfl)
theorem dX0_runOnce_22 : decode cX0_runOnce 22 = .ok (.aload_n 0, 1) := dk_42 (dk_at dksX0_runOnce_0 22 rfl rfl)
theorem dX0_runOnce_23 : decode cX0_runOnce 23 = .ok (.getfield 100, 3) := dk_180 0 100 (dk_at dksX0_runOnce_1 0 rfl rfl)
theorem dX0_runOnce_26 : decode cX0_runOnce 26 = .ok (.invokevirtual 483, 3) := dk_182 1 227 (dk_at dksX0_runOnce_1 3 rfl rfl)
theorem dX0_runOnce_29 : decode cX0_runOnce 29 = .ok (.return_, 1) := dk_177 (dk_at dksX0_runOnce_1 6 rfl rfl)
abbrev cX0_ran : ByteArray := prog_1_method_78_code
def yX0_ran : MethodName := ⟨RX0, "ran", "(I)I"⟩
def dkwX0_ran_2 : List UInt8 := [27, 46, 172]
abbrev dktX0_ran_2 : List UInt8 := dkwX0_ran_2 ++ []
def dkwX0_ran_1 : List UInt8 := [16, 6, 167, 0, 4, 3, 181, 0, 110, 42, 180, 0, 110, 158, 0, 7, 2, 167, 0, 9, 42, 180, 0, 104]
abbrev dktX0_ran_1 : List UInt8 := dkwX0_ran_1 ++ dktX0_ran_2
def dkwX0_ran_0 : List UInt8 := [42, 27, 133, 9, 20, 1, 254, 184, 0, 196, 154, 0, 7, 4, 167, 0, 16, 42, 180, 1, 250, 154, 0, 8]
abbrev dktX0_ran_0 : List UInt8 := dkwX0_ran_0 ++ dktX0_ran_1
theorem dksX0_ran_0 : cX0_ran.data.toList.drop 0 = dktX0_ran_0 := by decide +kernel
theorem dksX0_ran_1 : cX0_ran.data.toList.drop 24 = dktX0_ran_1 := dk_seg dksX0_ran_0 24 rfl rfl
theorem dksX0_ran_2 : cX0_ran.data.toList.drop 48 = dktX0_ran_2 := dk_seg dksX0_ran_1 24 rfl rfl
theorem dX0_ran_0 : decode cX0_ran 0 = .ok (.aload_n 0, 1) := dk_42 (dk_at dksX0_ran_0 0 rfl rfl)
theorem dX0_ran_1 : decode cX0_ran 1 = .ok (.iload_n 1, 1) := dk_27 (dk_at dksX0_ran_0 1 rfl rfl)
theorem dX0_ran_2 : decode cX0_ran 2 = .ok (.i2l, 1) := dk_133 (dk_at dksX0_ran_0 2 rfl rfl)
theorem dX0_ran_3 : decode cX0_ran 3 = .ok (.lconst 0, 1) := dk_9 (dk_at dksX0_ran_0 3 rfl rfl)
theorem dX0_ran_4 : decode cX0_ran 4 = .ok (.ldc2_w 510, 3) := dk_20 1 254 (dk_at dksX0_ran_0 4 rfl rfl)
theorem dX0_ran_7 : decode cX0_ran 7 = .ok (.invokestatic 196, 3) := dk_184 0 196 (dk_at dksX0_ran_0 7 rfl rfl)
theorem dX0_ran_10 : decode cX0_ran 10 = .ok (.ifCond .ne 7, 3) := dk_154 0 7 (dk_at dksX0_ran_0 10 rfl rfl)
theorem dX0_ran_13 : decode cX0_ran 13 = .ok (.iconst 1, 1) := dk_4 (dk_at dksX0_ran_0 13 rfl rfl)
theorem dX0_ran_14 : decode cX0_ran 14 = .ok (.goto 16, 3) := dk_167 0 16 (dk_at dksX0_ran_0 14 rfl rfl)
theorem dX0_ran_17 : decode cX0_ran 17 = .ok (.aload_n 0, 1) := dk_42 (dk_at dksX0_ran_0 17 rfl rfl)
theorem dX0_ran_18 : decode cX0_ran 18 = .ok (.getfield 506, 3) := dk_180 1 250 (dk_at dksX0_ran_0 18 rfl rfl)
theorem dX0_ran_21 : decode cX0_ran 21 = .ok (.ifCond .ne 8, 3) := dk_154 0 8 (dk_at dksX0_ran_0 21 rfl rfl)
theorem dX0_ran_24 : decode cX0_ran 24 = .ok (.bipush 6, 2) := dk_16 6 (dk_at dksX0_ran_1 0 rfl rfl)
theorem dX0_ran_26 : decode cX0_ran 26 = .ok (.goto 4, 3) := dk_167 0 4 (dk_at dksX0_ran_1 2 rfl rfl)
theorem dX0_ran_29 : decode cX0_ran 29 = .ok (.iconst 0, 1) := dk_3 (dk_at dksX0_ran_1 5 rfl rfl)
theorem dX0_ran_30 : decode cX0_ran 30 = .ok (.putfield 110, 3) := dk_181 0 110 (dk_at dksX0_ran_1 6 rfl rfl)
theorem dX0_ran_33 : decode cX0_ran 33 = .ok (.aload_n 0, 1) := dk_42 (dk_at dksX0_ran_1 9 rfl rfl)
theorem dX0_ran_34 : decode cX0_ran 34 = .ok (.getfield 110, 3) := dk_180 0 110 (dk_at dksX0_ran_1 10 rfl rfl)
theorem dX0_ran_37 : decode cX0_ran 37 = .ok (.ifCond .le 7, 3) := dk_158 0 7 (dk_at dksX0_ran_1 13 rfl rfl)
theorem dX0_ran_40 : decode cX0_ran 40 = .ok (.iconst (-1), 1) := dk_2 (dk_at dksX0_ran_1 16 rfl rfl)
theorem dX0_ran_41 : decode cX0_ran 41 = .ok (.goto 9, 3) := dk_167 0 9 (dk_at dksX0_ran_1 17 rfl rfl)
theorem dX0_ran_44 : decode cX0_ran 44 = .ok (.aload_n 0, 1) := dk_42 (dk_at dksX0_ran_1 20 rfl rfl)
theorem dX0_ran_45 : decode cX0_ran 45 = .ok (.getfield 104, 3) := dk_180 0 104 (dk_at dksX0_ran_1 21 rfl rfl)
theorem dX0_ran_48 : decode cX0_ran 48 = .ok (.iload_n 1, 1) := dk_27 (dk_at dksX0_ran_2 0 rfl rfl)
theorem dX0_ran_49 : decode cX0_ran 49 = .ok (.iaload, 1) := dk_46 (dk_at dksX0_ran_2 1 rfl rfl)
theorem dX0_ran_50 : decode cX0_ran 50 = .ok (.ireturn, 1) := dk_172 (dk_at dksX0_ran_2 2 rfl rfl)
abbrev cX0_ranAt : ByteArray := prog_1_method_79_code
def yX0_ranAt : MethodName := ⟨RX0, "ranAt", "(I)I"⟩
def dkwX0_ranAt_2 : List UInt8 := [2, 167, 0, 9, 42, 180, 0, 107, 27, 46, 172]
abbrev dktX0_ranAt_2 : List UInt8 := dkwX0_ranAt_2 ++ []
def dkwX0_ranAt_1 : List UInt8 := [27, 42, 180, 1, 247, 161, 0, 8, 16, 6, 167, 0, 4, 3, 181, 0, 110, 42, 180, 0, 110, 158, 0, 7]
abbrev dktX0_ranAt_1 : List UInt8 := dkwX0_ranAt_1 ++ dktX0_ranAt_2
def dkwX0_ranAt_0 : List UInt8 := [42, 27, 133, 9, 20, 1, 51, 184, 0, 196, 154, 0, 7, 4, 167, 0, 24, 42, 180, 1, 250, 153, 0, 11]
abbrev dktX0_ranAt_0 : List UInt8 := dkwX0_ranAt_0 ++ dktX0_ranAt_1
theorem dksX0_ranAt_0 : cX0_ranAt.data.toList.drop 0 = dktX0_ranAt_0 := by decide +kernel
theorem dksX0_ranAt_1 : cX0_ranAt.data.toList.drop 24 = dktX0_ranAt_1 := dk_seg dksX0_ranAt_0 24 rfl rfl
theorem dksX0_ranAt_2 : cX0_ranAt.data.toList.drop 48 = dktX0_ranAt_2 := dk_seg dksX0_ranAt_1 24 rfl rfl
theorem dX0_ranAt_0 : decode cX0_ranAt 0 = .ok (.aload_n 0, 1) := dk_42 (dk_at dksX0_ranAt_0 0 rfl rfl)
theorem dX0_ranAt_1 : decode cX0_ranAt 1 = .ok (.iload_n 1, 1) := dk_27 (dk_at dksX0_ranAt_0 1 rfl rfl)
theorem dX0_ranAt_2 : decode cX0_ranAt 2 = .ok (.i2l, 1) := dk_133 (dk_at dksX0_ranAt_0 2 rfl rfl)
theorem dX0_ranAt_3 : decode cX0_ranAt 3 = .ok (.lconst 0, 1) := dk_9 (dk_at dksX0_ranAt_0 3 rfl rfl)
theorem dX0_ranAt_4 : decode cX0_ranAt 4 = .ok (.ldc2_w 307, 3) := dk_20 1 51 (dk_at dksX0_ranAt_0 4 rfl rfl)
theorem dX0_ranAt_7 : decode cX0_ranAt 7 = .ok (.invokestatic 196, 3) := dk_184 0 196 (dk_at dksX0_ranAt_0 7 rfl rfl)
theorem dX0_ranAt_10 : decode cX0_ranAt 10 = .ok (.ifCond .ne 7, 3) := dk_154 0 7 (dk_at dksX0_ranAt_0 10 rfl rfl)
theorem dX0_ranAt_13 : decode cX0_ranAt 13 = .ok (.iconst 1, 1) := dk_4 (dk_at dksX0_ranAt_0 13 rfl rfl)
theorem dX0_ranAt_14 : decode cX0_ranAt 14 = .ok (.goto 24, 3) := dk_167 0 24 (dk_at dksX0_ranAt_0 14 rfl rfl)
theorem dX0_ranAt_17 : decode cX0_ranAt 17 = .ok (.aload_n 0, 1) := dk_42 (dk_at dksX0_ranAt_0 17 rfl rfl)
theorem dX0_ranAt_18 : decode cX0_ranAt 18 = .ok (.getfield 506, 3) := dk_180 1 250 (dk_at dksX0_ranAt_0 18 rfl rfl)
theorem dX0_ranAt_21 : decode cX0_ranAt 21 = .ok (.ifCond .eq 11, 3) := dk_153 0 11 (dk_at dksX0_ranAt_0 21 rfl rfl)
theorem dX0_ranAt_24 : decode cX0_ranAt 24 = .ok (.iload_n 1, 1) := dk_27 (dk_at dksX0_ranAt_1 0 rfl rfl)
theorem dX0_ranAt_25 : decode cX0_ranAt 25 = .ok (.aload_n 0, 1) := dk_42 (dk_at dksX0_ranAt_1 1 rfl rfl)
theorem dX0_ranAt_26 : decode cX0_ranAt 26 = .ok (.getfield 503, 3) := dk_180 1 247 (dk_at dksX0_ranAt_1 2 rfl rfl)
theorem dX0_ranAt_29 : decode cX0_ranAt 29 = .ok (.if_icmp .lt 8, 3) := dk_161 0 8 (dk_at dksX0_ranAt_1 5 rfl rfl)
theorem dX0_ranAt_32 : decode cX0_ranAt 32 = .ok (.bipush 6, 2) := dk_16 6 (dk_at dksX0_ranAt_1 8 rfl rfl)
theorem dX0_ranAt_34 : decode cX0_ranAt 34 = .ok (.goto 4, 3) := dk_167 0 4 (dk_at dksX0_ranAt_1 10 rfl rfl)
theorem dX0_ranAt_37 : decode cX0_ranAt 37 = .ok (.iconst 0, 1) := dk_3 (dk_at dksX0_ranAt_1 13 rfl rfl)
theorem dX0_ranAt_38 : decode cX0_ranAt 38 = .ok (.putfield 110, 3) := dk_181 0 110 (dk_at dksX0_ranAt_1 14 rfl rfl)
theorem dX0_ranAt_41 : decode cX0_ranAt 41 = .ok (.aload_n 0, 1) := dk_42 (dk_at dksX0_ranAt_1 17 rfl rfl)
theorem dX0_ranAt_42 : decode cX0_ranAt 42 = .ok (.getfield 110, 3) := dk_180 0 110 (dk_at dksX0_ranAt_1 18 rfl rfl)
theorem dX0_ranAt_45 : decode cX0_ranAt 45 = .ok (.ifCond .le 7, 3) := dk_158 0 7 (dk_at dksX0_ranAt_1 21 rfl rfl)
theorem dX0_ranAt_48 : decode cX0_ranAt 48 = .ok (.iconst (-1), 1) := dk_2 (dk_at dksX0_ranAt_2 0 rfl rfl)
theorem dX0_ranAt_49 : decode cX0_ranAt 49 = .ok (.goto 9, 3) := dk_167 0 9 (dk_at dksX0_ranAt_2 1 rfl rfl)
theorem dX0_ranAt_52 : decode cX0_ranAt 52 = .ok (.aload_n 0, 1) := dk_42 (dk_at dksX0_ranAt_2 4 rfl rfl)
theorem dX0_ranAt_53 : decode cX0_ranAt 53 = .ok (.getfield 107, 3) := dk_180 0 107 (dk_at dksX0_ranAt_2 5 rfl rfl)
theorem dX0_ranAt_56 : decode cX0_ranAt 56 = .ok (.iload_n 1, 1) := dk_27 (dk_at dksX0_ranAt_2 8 rfl rfl)
theorem dX0_ranAt_57 : decode cX0_ranAt 57 = .ok (.iaload, 1) := dk_46 (dk_at dksX0_ranAt_2 9 rfl rfl)
theorem dX0_ranAt_58 : decode cX0_ranAt 58 = .ok (.ireturn, 1) := dk_172 (dk_at dksX0_ranAt_2 10 rfl rfl)
abbrev cX0_odds : ByteArray := prog_1_method_80_code
def yX0_odds : MethodName := ⟨RX0, "odds", "(II)Z"⟩
def dkwX0_odds_5 : List UInt8 := [87, 4, 172]
abbrev dktX0_odds_5 : List UInt8 := dkwX0_odds_5 ++ []
def dkwX0_odds_4 : List UInt8 := [153, 0, 7, 4, 167, 0, 4, 3, 96, 62, 132, 4, 1, 167, 255, 218, 42, 29, 133, 28, 133, 182, 2, 0]
abbrev dktX0_odds_4 : List UInt8 := dkwX0_odds_4 ++ dktX0_odds_5
def dkwX0_odds_3 : List UInt8 := [162, 0, 38, 42, 27, 21, 4, 96, 182, 1, 231, 29, 42, 180, 0, 100, 180, 1, 246, 182, 1, 2]
abbrev dktX0_odds_3 : List UInt8 := dkwX0_odds_3 ++ dktX0_odds_4
def dkwX0_odds_2 : List UInt8 := [167, 0, 4, 3, 181, 0, 110, 42, 180, 0, 110, 158, 0, 5, 3, 172, 3, 62, 3, 54, 4, 21, 4, 28]
abbrev dktX0_odds_2 : List UInt8 := dkwX0_odds_2 ++ dktX0_odds_3
def dkwX0_odds_1 : List UInt8 := [184, 0, 196, 154, 0, 7, 4, 167, 0, 19, 42, 180, 0, 55, 180, 0, 238, 199, 0, 8, 16, 6]
abbrev dktX0_odds_1 : List UInt8 := dkwX0_odds_1 ++ dktX0_odds_2
def dkwX0_odds_0 : List UInt8 := [42, 28, 133, 10, 20, 1, 214, 184, 0, 196, 153, 0, 20, 27, 133, 9, 17, 39, 15, 28, 100, 4, 96, 133]
abbrev dktX0_odds_0 : List UInt8 := dkwX0_odds_0 ++ dktX0_odds_1
theorem dksX0_odds_0 : cX0_odds.data.toList.drop 0 = dktX0_odds_0 := by decide +kernel
theorem dksX0_odds_1 : cX0_odds.data.toList.drop 24 = dktX0_odds_1 := dk_seg dksX0_odds_0 24 rfl rfl
theorem dksX0_odds_2 : cX0_odds.data.toList.drop 46 = dktX0_odds_2 := dk_seg dksX0_odds_1 22 rfl rfl
theorem dksX0_odds_3 : cX0_odds.data.toList.drop 70 = dktX0_odds_3 := dk_seg dksX0_odds_2 24 rfl rfl
theorem dksX0_odds_4 : cX0_odds.data.toList.drop 92 = dktX0_odds_4 := dk_seg dksX0_odds_3 22 rfl rfl
theorem dksX0_odds_5 : cX0_odds.data.toList.drop 116 = dktX0_odds_5 := dk_seg dksX0_odds_4 24 rfl rfl
theorem dX0_odds_0 : decode cX0_odds 0 = .ok (.aload_n 0, 1) := dk_42 (dk_at dksX0_odds_0 0 rfl rfl)
theorem dX0_odds_1 : decode cX0_odds 1 = .ok (.iload_n 2, 1) := dk_28 (dk_at dksX0_odds_0 1 rfl rfl)
theorem dX0_odds_2 : decode cX0_odds 2 = .ok (.i2l, 1) := dk_133 (dk_at dksX0_odds_0 2 rfl rfl)
theorem dX0_odds_3 : decode cX0_odds 3 = .ok (.lconst 1, 1) := dk_10 (dk_at dksX0_odds_0 3 rfl rfl)
theorem dX0_odds_4 : decode cX0_odds 4 = .ok (.ldc2_w 470, 3) := dk_20 1 214 (dk_at dksX0_odds_0 4 rfl rfl)
theorem dX0_odds_7 : decode cX0_odds 7 = .ok (.invokestatic 196, 3) := dk_184 0 196 (dk_at dksX0_odds_0 7 rfl rfl)
theorem dX0_odds_10 : decode cX0_odds 10 = .ok (.ifCond .eq 20, 3) := dk_153 0 20 (dk_at dksX0_odds_0 10 rfl rfl)
theorem dX0_odds_13 : decode cX0_odds 13 = .ok (.iload_n 1, 1) := dk_27 (dk_at dksX0_odds_0 13 rfl rfl)
theorem dX0_odds_14 : decode cX0_odds 14 = .ok (.i2l, 1) := dk_133 (dk_at dksX0_odds_0 14 rfl rfl)
theorem dX0_odds_15 : decode cX0_odds 15 = .ok (.lconst 0, 1) := dk_9 (dk_at dksX0_odds_0 15 rfl rfl)
theorem dX0_odds_16 : decode cX0_odds 16 = .ok (.sipush 9999, 3) := dk_17 39 15 (dk_at dksX0_odds_0 16 rfl rfl)
theorem dX0_odds_19 : decode cX0_odds 19 = .ok (.iload_n 2, 1) := dk_28 (dk_at dksX0_odds_0 19 rfl rfl)
theorem dX0_odds_20 : decode cX0_odds 20 = .ok (.isub, 1) := dk_100 (dk_at dksX0_odds_0 20 rfl rfl)
theorem dX0_odds_21 : decode cX0_odds 21 = .ok (.iconst 1, 1) := dk_4 (dk_at dksX0_odds_0 21 rfl rfl)
theorem dX0_odds_22 : decode cX0_odds 22 = .ok (.iadd, 1) := dk_96 (dk_at dksX0_odds_0 22 rfl rfl)
theorem dX0_odds_23 : decode cX0_odds 23 = .ok (.i2l, 1) := dk_133 (dk_at dksX0_odds_0 23 rfl rfl)
theorem dX0_odds_24 : decode cX0_odds 24 = .ok (.invokestatic 196, 3) := dk_184 0 196 (dk_at dksX0_odds_1 0 rfl rfl)
theorem dX0_odds_27 : decode cX0_odds 27 = .ok (.ifCond .ne 7, 3) := dk_154 0 7 (dk_at dksX0_odds_1 3 rfl rfl)
theorem dX0_odds_30 : decode cX0_odds 30 = .ok (.iconst 1, 1) := dk_4 (dk_at dksX0_odds_1 6 rfl rfl)
theorem dX0_odds_31 : decode cX0_odds 31 = .ok (.goto 19, 3) := dk_167 0 19 (dk_at dksX0_odds_1 7 rfl rfl)
theorem dX0_odds_34 : decode cX0_odds 34 = .ok (.aload_n 0, 1) := dk_42 (dk_at dksX0_odds_1 10 rfl rfl)
theorem dX0_odds_35 : decode cX0_odds 35 = .ok (.getfield 55, 3) := dk_180 0 55 (dk_at dksX0_odds_1 11 rfl rfl)
theorem dX0_odds_38 : decode cX0_odds 38 = .ok (.getfield 238, 3) := dk_180 0 238 (dk_at dksX0_odds_1 14 rfl rfl)
theorem dX0_odds_41 : decode cX0_odds 41 = .ok (.ifnonnull 8, 3) := dk_199 0 8 (dk_at dksX0_odds_1 17 rfl rfl)
theorem dX0_odds_44 : decode cX0_odds 44 = .ok (.bipush 6, 2) := dk_16 6 (dk_at dksX0_odds_1 20 rfl rfl)
theorem dX0_odds_46 : decode cX0_odds 46 = .ok (.goto 4, 3) := dk_167 0 4 (dk_at dksX0_odds_2 0 rfl rfl)
theorem dX0_odds_49 : decode cX0_odds 49 = .ok (.iconst 0, 1) := dk_3 (dk_at dksX0_odds_2 3 rfl rfl)
theorem dX0_odds_50 : decode cX0_odds 50 = .ok (.putfield 110, 3) := dk_181 0 110 (dk_at dksX0_odds_2 4 rfl rfl)
theorem dX0_odds_53 : decode cX0_odds 53 = .ok (.aload_n 0, 1) := dk_42 (dk_at dksX0_odds_2 7 rfl rfl)
theorem dX0_odds_54 : decode cX0_odds 54 = .ok (.getfield 110, 3) := dk_180 0 110 (dk_at dksX0_odds_2 8 rfl rfl)
theorem dX0_odds_57 : decode cX0_odds 57 = .ok (.ifCond .le 5, 3) := dk_158 0 5 (dk_at dksX0_odds_2 11 rfl rfl)
theorem dX0_odds_60 : decode cX0_odds 60 = .ok (.iconst 0, 1) := dk_3 (dk_at dksX0_odds_2 14 rfl rfl)
theorem dX0_odds_61 : decode cX0_odds 61 = .ok (.ireturn, 1) := dk_172 (dk_at dksX0_odds_2 15 rfl rfl)
theorem dX0_odds_62 : decode cX0_odds 62 = .ok (.iconst 0, 1) := dk_3 (dk_at dksX0_odds_2 16 rfl rfl)
theorem dX0_odds_63 : decode cX0_odds 63 = .ok (.istore_n 3, 1) := dk_62 (dk_at dksX0_odds_2 17 rfl rfl)
theorem dX0_odds_64 : decode cX0_odds 64 = .ok (.iconst 0, 1) := dk_3 (dk_at dksX0_odds_2 18 rfl rfl)
theorem dX0_odds_65 : decode cX0_odds 65 = .ok (.istore 4, 2) := dk_54 4 (dk_at dksX0_odds_2 19 rfl rfl)
theorem dX0_odds_67 : decode cX0_odds 67 = .ok (.iload 4, 2) := dk_21 4 (dk_at dksX0_odds_2 21 rfl rfl)
theorem dX0_odds_69 : decode cX0_odds 69 = .ok (.iload_n 2, 1) := dk_28 (dk_at dksX0_odds_2 23 rfl rfl)
theorem dX0_odds_70 : decode cX0_odds 70 = .ok (.if_icmp .ge 38, 3) := dk_162 0 38 (dk_at dksX0_odds_3 0 rfl rfl)
theorem dX0_odds_73 : decode cX0_odds 73 = .ok (.aload_n 0, 1) := dk_42 (dk_at dksX0_odds_3 3 rfl rfl)
theorem dX0_odds_74 : decode cX0_odds 74 = .ok (.iload_n 1, 1) := dk_27 (dk_at dksX0_odds_3 4 rfl rfl)
theorem dX0_odds_75 : decode cX0_odds 75 = .ok (.iload 4, 2) := dk_21 4 (dk_at dksX0_odds_3 5 rfl rfl)
theorem dX0_odds_77 : decode cX0_odds 77 = .ok (.iadd, 1) := dk_96 (dk_at dksX0_odds_3 7 rfl rfl)
theorem dX0_odds_78 : decode cX0_odds 78 = .ok (.invokevirtual 487, 3) := dk_182 1 231 (dk_at dksX0_odds_3 8 rfl rfl)
theorem dX0_odds_81 : decode cX0_odds 81 = .ok (.iload_n 3, 1) := dk_29 (dk_at dksX0_odds_3 11 rfl rfl)
theorem dX0_odds_82 : decode cX0_odds 82 = .ok (.aload_n 0, 1) := dk_42 (dk_at dksX0_odds_3 12 rfl rfl)
theorem dX0_odds_83 : decode cX0_odds 83 = .ok (.getfield 100, 3) := dk_180 0 100 (dk_at dksX0_odds_3 13 rfl rfl)
theorem dX0_odds_86 : decode cX0_odds 86 = .ok (.getfield 502, 3) := dk_180 1 246 (dk_at dksX0_odds_3 16 rfl rfl)
theorem dX0_odds_89 : decode cX0_odds 89 = .ok (.invokevirtual 258, 3) := dk_182 1 2 (dk_at dksX0_odds_3 19 rfl rfl)
theorem dX0_odds_92 : decode cX0_odds 92 = .ok (.ifCond .eq 7, 3) := dk_153 0 7 (dk_at dksX0_odds_4 0 rfl rfl)
theorem dX0_odds_95 : decode cX0_odds 95 = .ok (.iconst 1, 1) := dk_4 (dk_at dksX0_odds_4 3 rfl rfl)
theorem dX0_odds_96 : decode cX0_odds 96 = .ok (.goto 4, 3) := dk_167 0 4 (dk_at dksX0_odds_4 4 rfl rfl)
theorem dX0_odds_99 : decode cX0_odds 99 = .ok (.iconst 0, 1) := dk_3 (dk_at dksX0_odds_4 7 rfl rfl)
theorem dX0_odds_100 : decode cX0_odds 100 = .ok (.iadd, 1) := dk_96 (dk_at dksX0_odds_4 8 rfl rfl)
theorem dX0_odds_101 : decode cX0_odds 101 = .ok (.istore_n 3, 1) := dk_62 (dk_at dksX0_odds_4 9 rfl rfl)
theorem dX0_odds_102 : decode cX0_odds 102 = .ok (.iinc 4 1, 3) := dk_132 4 1 (dk_at dksX0_odds_4 10 rfl rfl)
theorem dX0_odds_105 : decode cX0_odds 105 = .ok (.goto (-38), 3) := dk_167 255 218 (dk_at dksX0_odds_4 13 rfl rfl)
theorem dX0_odds_108 : decode cX0_odds 108 = .ok (.aload_n 0, 1) := dk_42 (dk_at dksX0_odds_4 16 rfl rfl)
theorem dX0_odds_109 : decode cX0_odds 109 = .ok (.iload_n 3, 1) := dk_29 (dk_at dksX0_odds_4 17 rfl rfl)
theorem dX0_odds_110 : decode cX0_odds 110 = .ok (.i2l, 1) := dk_133 (dk_at dksX0_odds_4 18 rfl rfl)
theorem dX0_odds_111 : decode cX0_odds 111 = .ok (.iload_n 2, 1) := dk_28 (dk_at dksX0_odds_4 19 rfl rfl)
theorem dX0_odds_112 : decode cX0_odds 112 = .ok (.i2l, 1) := dk_133 (dk_at dksX0_odds_4 20 rfl rfl)
theorem dX0_odds_113 : decode cX0_odds 113 = .ok (.invokevirtual 512, 3) := dk_182 2 0 (dk_at dksX0_odds_4 21 rfl rfl)
theorem dX0_odds_116 : decode cX0_odds 116 = .ok (.pop, 1) := dk_87 (dk_at dksX0_odds_5 0 rfl rfl)
theorem dX0_odds_117 : decode cX0_odds 117 = .ok (.iconst 1, 1) := dk_4 (dk_at dksX0_odds_5 1 rfl rfl)
theorem dX0_odds_118 : decode cX0_odds 118 = .ok (.ireturn, 1) := dk_172 (dk_at dksX0_odds_5 2 rfl rfl)
abbrev cX0_fraction : ByteArray := prog_1_method_13_code
def yX0_fraction : MethodName := ⟨RX0, "fraction", "(JJ)I"⟩
def dkwX0_fraction_2 : List UInt8 := [181, 0, 48, 31, 184, 0, 129, 172]
abbrev dktX0_fraction_2 : List UInt8 := dkwX0_fraction_2 ++ []
def dkwX0_fraction_1 : List UInt8 := [22, 7, 55, 5, 22, 9, 55, 7, 167, 255, 234, 42, 31, 22, 5, 109, 181, 0, 113, 42, 33, 22, 5, 109]
abbrev dktX0_fraction_1 : List UInt8 := dkwX0_fraction_1 ++ dktX0_fraction_2
def dkwX0_fraction_0 : List UInt8 := [31, 184, 0, 123, 55, 5, 33, 55, 7, 22, 7, 9, 148, 153, 0, 21, 22, 5, 22, 7, 113, 55, 9]
abbrev dktX0_fraction_0 : List UInt8 := dkwX0_fraction_0 ++ dktX0_fraction_1
theorem dksX0_fraction_0 : cX0_fraction.data.toList.drop 0 = dktX0_fraction_0 := by decide +kernel
theorem dksX0_fraction_1 : cX0_fraction.data.toList.drop 23 = dktX0_fraction_1 := dk_seg dksX0_fraction_0 23 rfl rfl
theorem dksX0_fraction_2 : cX0_fraction.data.toList.drop 47 = dktX0_fraction_2 := dk_seg dksX0_fraction_1 24 rfl rfl
theorem dX0_fraction_0 : decode cX0_fraction 0 = .ok (.lload_n 1, 1) := dk_31 (dk_at dksX0_fraction_0 0 rfl rfl)
theorem dX0_fraction_1 : decode cX0_fraction 1 = .ok (.invokestatic 123, 3) := dk_184 0 123 (dk_at dksX0_fraction_0 1 rfl rfl)
theorem dX0_fraction_4 : decode cX0_fraction 4 = .ok (.lstore 5, 2) := dk_55 5 (dk_at dksX0_fraction_0 4 rfl rfl)
theorem dX0_fraction_6 : decode cX0_fraction 6 = .ok (.lload_n 3, 1) := dk_33 (dk_at dksX0_fraction_0 6 rfl rfl)
theorem dX0_fraction_7 : decode cX0_fraction 7 = .ok (.lstore 7, 2) := dk_55 7 (dk_at dksX0_fraction_0 7 rfl rfl)
theorem dX0_fraction_9 : decode cX0_fraction 9 = .ok (.lload 7, 2) := dk_22 7 (dk_at dksX0_fraction_0 9 rfl rfl)
theorem dX0_fraction_11 : decode cX0_fraction 11 = .ok (.lconst 0, 1) := dk_9 (dk_at dksX0_fraction_0 11 rfl rfl)
theorem dX0_fraction_12 : decode cX0_fraction 12 = .ok (.lcmp, 1) := dk_148 (dk_at dksX0_fraction_0 12 rfl rfl)
theorem dX0_fraction_13 : decode cX0_fraction 13 = .ok (.ifCond .eq 21, 3) := dk_153 0 21 (dk_at dksX0_fraction_0 13 rfl rfl)
theorem dX0_fraction_16 : decode cX0_fraction 16 = .ok (.lload 5, 2) := dk_22 5 (dk_at dksX0_fraction_0 16 rfl rfl)
theorem dX0_fraction_18 : decode cX0_fraction 18 = .ok (.lload 7, 2) := dk_22 7 (dk_at dksX0_fraction_0 18 rfl rfl)
theorem dX0_fraction_20 : decode cX0_fraction 20 = .ok (.lrem, 1) := dk_113 (dk_at dksX0_fraction_0 20 rfl rfl)
theorem dX0_fraction_21 : decode cX0_fraction 21 = .ok (.lstore 9, 2) := dk_55 9 (dk_at dksX0_fraction_0 21 rfl rfl)
theorem dX0_fraction_23 : decode cX0_fraction 23 = .ok (.lload 7, 2) := dk_22 7 (dk_at dksX0_fraction_1 0 rfl rfl)
theorem dX0_fraction_25 : decode cX0_fraction 25 = .ok (.lstore 5, 2) := dk_55 5 (dk_at dksX0_fraction_1 2 rfl rfl)
theorem dX0_fraction_27 : decode cX0_fraction 27 = .ok (.lload 9, 2) := dk_22 9 (dk_at dksX0_fraction_1 4 rfl rfl)
theorem dX0_fraction_29 : decode cX0_fraction 29 = .ok (.lstore 7, 2) := dk_55 7 (dk_at dksX0_fraction_1 6 rfl rfl)
theorem dX0_fraction_31 : decode cX0_fraction 31 = .ok (.goto (-22), 3) := dk_167 255 234 (dk_at dksX0_fraction_1 8 rfl rfl)
theorem dX0_fraction_34 : decode cX0_fraction 34 = .ok (.aload_n 0, 1) := dk_42 (dk_at dksX0_fraction_1 11 rfl rfl)
theorem dX0_fraction_35 : decode cX0_fraction 35 = .ok (.lload_n 1, 1) := dk_31 (dk_at dksX0_fraction_1 12 rfl rfl)
theorem dX0_fraction_36 : decode cX0_fraction 36 = .ok (.lload 5, 2) := dk_22 5 (dk_at dksX0_fraction_1 13 rfl rfl)
theorem dX0_fraction_38 : decode cX0_fraction 38 = .ok (.ldiv, 1) := dk_109 (dk_at dksX0_fraction_1 15 rfl rfl)
theorem dX0_fraction_39 : decode cX0_fraction 39 = .ok (.putfield 113, 3) := dk_181 0 113 (dk_at dksX0_fraction_1 16 rfl rfl)
theorem dX0_fraction_42 : decode cX0_fraction 42 = .ok (.aload_n 0, 1) := dk_42 (dk_at dksX0_fraction_1 19 rfl rfl)
theorem dX0_fraction_43 : decode cX0_fraction 43 = .ok (.lload_n 3, 1) := dk_33 (dk_at dksX0_fraction_1 20 rfl rfl)
theorem dX0_fraction_44 : decode cX0_fraction 44 = .ok (.lload 5, 2) := dk_22 5 (dk_at dksX0_fraction_1 21 rfl rfl)
theorem dX0_fraction_46 : decode cX0_fraction 46 = .ok (.ldiv, 1) := dk_109 (dk_at dksX0_fraction_1 23 rfl rfl)
theorem dX0_fraction_47 : decode cX0_fraction 47 = .ok (.putfield 48, 3) := dk_181 0 48 (dk_at dksX0_fraction_2 0 rfl rfl)
theorem dX0_fraction_50 : decode cX0_fraction 50 = .ok (.lload_n 1, 1) := dk_31 (dk_at dksX0_fraction_2 3 rfl rfl)
theorem dX0_fraction_51 : decode cX0_fraction 51 = .ok (.invokestatic 129, 3) := dk_184 0 129 (dk_at dksX0_fraction_2 4 rfl rfl)
theorem dX0_fraction_54 : decode cX0_fraction 54 = .ok (.ireturn, 1) := dk_172 (dk_at dksX0_fraction_2 7 rfl rfl)
abbrev cX0_mark : ByteArray := prog_1_method_81_code
def yX0_mark : MethodName := ⟨RX0, "mark", "()I"⟩
def dkwX0_mark_3 : List UInt8 := [42, 89, 180, 2, 4, 4, 96, 181, 2, 4, 42, 180, 2, 4, 172]
abbrev dktX0_mark_3 : List UInt8 := dkwX0_mark_3 ++ []
def dkwX0_mark_2 : List UInt8 := [187, 0, 52, 89, 183, 0, 54, 83, 42, 180, 0, 59, 42, 180, 2, 4, 50, 42, 180, 0, 55, 182, 2, 7]
abbrev dktX0_mark_2 : List UInt8 := dkwX0_mark_2 ++ dktX0_mark_3
def dkwX0_mark_1 : List UInt8 := [2, 172, 42, 180, 0, 59, 42, 180, 2, 4, 50, 199, 0, 19, 42, 180, 0, 59, 42, 180, 2, 4]
abbrev dktX0_mark_1 : List UInt8 := dkwX0_mark_1 ++ dktX0_mark_2
def dkwX0_mark_0 : List UInt8 := [42, 42, 180, 2, 4, 6, 160, 0, 7, 7, 167, 0, 4, 3, 181, 0, 110, 42, 180, 0, 110, 158, 0, 5]
abbrev dktX0_mark_0 : List UInt8 := dkwX0_mark_0 ++ dktX0_mark_1
theorem dksX0_mark_0 : cX0_mark.data.toList.drop 0 = dktX0_mark_0 := by decide +kernel
theorem dksX0_mark_1 : cX0_mark.data.toList.drop 24 = dktX0_mark_1 := dk_seg dksX0_mark_0 24 rfl rfl
theorem dksX0_mark_2 : cX0_mark.data.toList.drop 46 = dktX0_mark_2 := dk_seg dksX0_mark_1 22 rfl rfl
theorem dksX0_mark_3 : cX0_mark.data.toList.drop 70 = dktX0_mark_3 := dk_seg dksX0_mark_2 24 rfl rfl
theorem dX0_mark_0 : decode cX0_mark 0 = .ok (.aload_n 0, 1) := dk_42 (dk_at dksX0_mark_0 0 rfl rfl)
theorem dX0_mark_1 : decode cX0_mark 1 = .ok (.aload_n 0, 1) := dk_42 (dk_at dksX0_mark_0 1 rfl rfl)
theorem dX0_mark_2 : decode cX0_mark 2 = .ok (.getfield 516, 3) := dk_180 2 4 (dk_at dksX0_mark_0 2 rfl rfl)
theorem dX0_mark_5 : decode cX0_mark 5 = .ok (.iconst 3, 1) := dk_6 (dk_at dksX0_mark_0 5 rfl rfl)
theorem dX0_mark_6 : decode cX0_mark 6 = .ok (.if_icmp .ne 7, 3) := dk_160 0 7 (dk_at dksX0_mark_0 6 rfl rfl)
theorem dX0_mark_9 : decode cX0_mark 9 = .ok (.iconst 4, 1) := dk_7 (dk_at dksX0_mark_0 9 rfl rfl)
theorem dX0_mark_10 : decode cX0_mark 10 = .ok (.goto 4, 3) := dk_167 0 4 (dk_at dksX0_mark_0 10 rfl rfl)
theorem dX0_mark_13 : decode cX0_mark 13 = .ok (.iconst 0, 1) := dk_3 (dk_at dksX0_mark_0 13 rfl rfl)
theorem dX0_mark_14 : decode cX0_mark 14 = .ok (.putfield 110, 3) := dk_181 0 110 (dk_at dksX0_mark_0 14 rfl rfl)
theorem dX0_mark_17 : decode cX0_mark 17 = .ok (.aload_n 0, 1) := dk_42 (dk_at dksX0_mark_0 17 rfl rfl)
theorem dX0_mark_18 : decode cX0_mark 18 = .ok (.getfield 110, 3) := dk_180 0 110 (dk_at dksX0_mark_0 18 rfl rfl)
theorem dX0_mark_21 : decode cX0_mark 21 = .ok (.ifCond .le 5, 3) := dk_158 0 5 (dk_at dksX0_mark_0 21 rfl rfl)
theorem dX0_mark_24 : decode cX0_mark 24 = .ok (.iconst (-1), 1) := dk_2 (dk_at dksX0_mark_1 0 rfl rfl)
theorem dX0_mark_25 : decode cX0_mark 25 = .ok (.ireturn, 1) := dk_172 (dk_at dksX0_mark_1 1 rfl rfl)
theorem dX0_mark_26 : decode cX0_mark 26 = .ok (.aload_n 0, 1) := dk_42 (dk_at dksX0_mark_1 2 rfl rfl)
theorem dX0_mark_27 : decode cX0_mark 27 = .ok (.getfield 59, 3) := dk_180 0 59 (dk_at dksX0_mark_1 3 rfl rfl)
theorem dX0_mark_30 : decode cX0_mark 30 = .ok (.aload_n 0, 1) := dk_42 (dk_at dksX0_mark_1 6 rfl rfl)
theorem dX0_mark_31 : decode cX0_mark 31 = .ok (.getfield 516, 3) := dk_180 2 4 (dk_at dksX0_mark_1 7 rfl rfl)
theorem dX0_mark_34 : decode cX0_mark 34 = .ok (.aaload, 1) := dk_50 (dk_at dksX0_mark_1 10 rfl rfl)
theorem dX0_mark_35 : decode cX0_mark 35 = .ok (.ifnonnull 19, 3) := dk_199 0 19 (dk_at dksX0_mark_1 11 rfl rfl)
theorem dX0_mark_38 : decode cX0_mark 38 = .ok (.aload_n 0, 1) := dk_42 (dk_at dksX0_mark_1 14 rfl rfl)
theorem dX0_mark_39 : decode cX0_mark 39 = .ok (.getfield 59, 3) := dk_180 0 59 (dk_at dksX0_mark_1 15 rfl rfl)
theorem dX0_mark_42 : decode cX0_mark 42 = .ok (.aload_n 0, 1) := dk_42 (dk_at dksX0_mark_1 18 rfl rfl)
theorem dX0_mark_43 : decode cX0_mark 43 = .ok (.getfield 516, 3) := dk_180 2 4 (dk_at dksX0_mark_1 19 rfl rfl)
theorem dX0_mark_46 : decode cX0_mark 46 = .ok (.new 52, 3) := dk_187 0 52 (dk_at dksX0_mark_2 0 rfl rfl)
theorem dX0_mark_49 : decode cX0_mark 49 = .ok (.dup, 1) := dk_89 (dk_at dksX0_mark_2 3 rfl rfl)
theorem dX0_mark_50 : decode cX0_mark 50 = .ok (.invokespecial 54, 3) := dk_183 0 54 (dk_at dksX0_mark_2 4 rfl rfl)
theorem dX0_mark_53 : decode cX0_mark 53 = .ok (.aastore, 1) := dk_83 (dk_at dksX0_mark_2 7 rfl rfl)
theorem dX0_mark_54 : decode cX0_mark 54 = .ok (.aload_n 0, 1) := dk_42 (dk_at dksX0_mark_2 8 rfl rfl)
theorem dX0_mark_55 : decode cX0_mark 55 = .ok (.getfield 59, 3) := dk_180 0 59 (dk_at dksX0_mark_2 9 rfl rfl)
theorem dX0_mark_58 : decode cX0_mark 58 = .ok (.aload_n 0, 1) := dk_42 (dk_at dksX0_mark_2 12 rfl rfl)
theorem dX0_mark_59 : decode cX0_mark 59 = .ok (.getfield 516, 3) := dk_180 2 4 (dk_at dksX0_mark_2 13 rfl rfl)
theorem dX0_mark_62 : decode cX0_mark 62 = .ok (.aaload, 1) := dk_50 (dk_at dksX0_mark_2 16 rfl rfl)
theorem dX0_mark_63 : decode cX0_mark 63 = .ok (.aload_n 0, 1) := dk_42 (dk_at dksX0_mark_2 17 rfl rfl)
theorem dX0_mark_64 : decode cX0_mark 64 = .ok (.getfield 55, 3) := dk_180 0 55 (dk_at dksX0_mark_2 18 rfl rfl)
theorem dX0_mark_67 : decode cX0_mark 67 = .ok (.invokevirtual 519, 3) := dk_182 2 7 (dk_at dksX0_mark_2 21 rfl rfl)
theorem dX0_mark_70 : decode cX0_mark 70 = .ok (.aload_n 0, 1) := dk_42 (dk_at dksX0_mark_3 0 rfl rfl)
theorem dX0_mark_71 : decode cX0_mark 71 = .ok (.dup, 1) := dk_89 (dk_at dksX0_mark_3 1 rfl rfl)
theorem dX0_mark_72 : decode cX0_mark 72 = .ok (.getfield 516, 3) := dk_180 2 4 (dk_at dksX0_mark_3 2 rfl rfl)
theorem dX0_mark_75 : decode cX0_mark 75 = .ok (.iconst 1, 1) := dk_4 (dk_at dksX0_mark_3 5 rfl rfl)
theorem dX0_mark_76 : decode cX0_mark 76 = .ok (.iadd, 1) := dk_96 (dk_at dksX0_mark_3 6 rfl rfl)
theorem dX0_mark_77 : decode cX0_mark 77 = .ok (.putfield 516, 3) := dk_181 2 4 (dk_at dksX0_mark_3 7 rfl rfl)
theorem dX0_mark_80 : decode cX0_mark 80 = .ok (.aload_n 0, 1) := dk_42 (dk_at dksX0_mark_3 10 rfl rfl)
theorem dX0_mark_81 : decode cX0_mark 81 = .ok (.getfield 516, 3) := dk_180 2 4 (dk_at dksX0_mark_3 11 rfl rfl)
theorem dX0_mark_84 : decode cX0_mark 84 = .ok (.ireturn, 1) := dk_172 (dk_at dksX0_mark_3 14 rfl rfl)
abbrev cX0_back : ByteArray := prog_1_method_82_code
def yX0_back : MethodName := ⟨RX0, "back", "()I"⟩
def dkwX0_back_2 : List UInt8 := [50, 182, 2, 7, 42, 180, 2, 4, 172]
abbrev dktX0_back_2 : List UInt8 := dkwX0_back_2 ++ []
def dkwX0_back_1 : List UInt8 := [2, 172, 42, 89, 180, 2, 4, 4, 100, 181, 2, 4, 42, 180, 0, 55, 42, 180, 0, 59, 42, 180, 2, 4]
abbrev dktX0_back_1 : List UInt8 := dkwX0_back_1 ++ dktX0_back_2
def dkwX0_back_0 : List UInt8 := [42, 42, 180, 2, 4, 154, 0, 8, 16, 6, 167, 0, 4, 3, 181, 0, 110, 42, 180, 0, 110, 158, 0, 5]
abbrev dktX0_back_0 : List UInt8 := dkwX0_back_0 ++ dktX0_back_1
theorem dksX0_back_0 : cX0_back.data.toList.drop 0 = dktX0_back_0 := by decide +kernel
theorem dksX0_back_1 : cX0_back.data.toList.drop 24 = dktX0_back_1 := dk_seg dksX0_back_0 24 rfl rfl
theorem dksX0_back_2 : cX0_back.data.toList.drop 48 = dktX0_back_2 := dk_seg dksX0_back_1 24 rfl rfl
theorem dX0_back_0 : decode cX0_back 0 = .ok (.aload_n 0, 1) := dk_42 (dk_at dksX0_back_0 0 rfl rfl)
theorem dX0_back_1 : decode cX0_back 1 = .ok (.aload_n 0, 1) := dk_42 (dk_at dksX0_back_0 1 rfl rfl)
theorem dX0_back_2 : decode cX0_back 2 = .ok (.getfield 516, 3) := dk_180 2 4 (dk_at dksX0_back_0 2 rfl rfl)
theorem dX0_back_5 : decode cX0_back 5 = .ok (.ifCond .ne 8, 3) := dk_154 0 8 (dk_at dksX0_back_0 5 rfl rfl)
theorem dX0_back_8 : decode cX0_back 8 = .ok (.bipush 6, 2) := dk_16 6 (dk_at dksX0_back_0 8 rfl rfl)
theorem dX0_back_10 : decode cX0_back 10 = .ok (.goto 4, 3) := dk_167 0 4 (dk_at dksX0_back_0 10 rfl rfl)
theorem dX0_back_13 : decode cX0_back 13 = .ok (.iconst 0, 1) := dk_3 (dk_at dksX0_back_0 13 rfl rfl)
theorem dX0_back_14 : decode cX0_back 14 = .ok (.putfield 110, 3) := dk_181 0 110 (dk_at dksX0_back_0 14 rfl rfl)
theorem dX0_back_17 : decode cX0_back 17 = .ok (.aload_n 0, 1) := dk_42 (dk_at dksX0_back_0 17 rfl rfl)
theorem dX0_back_18 : decode cX0_back 18 = .ok (.getfield 110, 3) := dk_180 0 110 (dk_at dksX0_back_0 18 rfl rfl)
theorem dX0_back_21 : decode cX0_back 21 = .ok (.ifCond .le 5, 3) := dk_158 0 5 (dk_at dksX0_back_0 21 rfl rfl)
theorem dX0_back_24 : decode cX0_back 24 = .ok (.iconst (-1), 1) := dk_2 (dk_at dksX0_back_1 0 rfl rfl)
theorem dX0_back_25 : decode cX0_back 25 = .ok (.ireturn, 1) := dk_172 (dk_at dksX0_back_1 1 rfl rfl)
theorem dX0_back_26 : decode cX0_back 26 = .ok (.aload_n 0, 1) := dk_42 (dk_at dksX0_back_1 2 rfl rfl)
theorem dX0_back_27 : decode cX0_back 27 = .ok (.dup, 1) := dk_89 (dk_at dksX0_back_1 3 rfl rfl)
theorem dX0_back_28 : decode cX0_back 28 = .ok (.getfield 516, 3) := dk_180 2 4 (dk_at dksX0_back_1 4 rfl rfl)
theorem dX0_back_31 : decode cX0_back 31 = .ok (.iconst 1, 1) := dk_4 (dk_at dksX0_back_1 7 rfl rfl)
theorem dX0_back_32 : decode cX0_back 32 = .ok (.isub, 1) := dk_100 (dk_at dksX0_back_1 8 rfl rfl)
theorem dX0_back_33 : decode cX0_back 33 = .ok (.putfield 516, 3) := dk_181 2 4 (dk_at dksX0_back_1 9 rfl rfl)
theorem dX0_back_36 : decode cX0_back 36 = .ok (.aload_n 0, 1) := dk_42 (dk_at dksX0_back_1 12 rfl rfl)
theorem dX0_back_37 : decode cX0_back 37 = .ok (.getfield 55, 3) := dk_180 0 55 (dk_at dksX0_back_1 13 rfl rfl)
theorem dX0_back_40 : decode cX0_back 40 = .ok (.aload_n 0, 1) := dk_42 (dk_at dksX0_back_1 16 rfl rfl)
theorem dX0_back_41 : decode cX0_back 41 = .ok (.getfield 59, 3) := dk_180 0 59 (dk_at dksX0_back_1 17 rfl rfl)
theorem dX0_back_44 : decode cX0_back 44 = .ok (.aload_n 0, 1) := dk_42 (dk_at dksX0_back_1 20 rfl rfl)
theorem dX0_back_45 : decode cX0_back 45 = .ok (.getfield 516, 3) := dk_180 2 4 (dk_at dksX0_back_1 21 rfl rfl)
theorem dX0_back_48 : decode cX0_back 48 = .ok (.aaload, 1) := dk_50 (dk_at dksX0_back_2 0 rfl rfl)
theorem dX0_back_49 : decode cX0_back 49 = .ok (.invokevirtual 519, 3) := dk_182 2 7 (dk_at dksX0_back_2 1 rfl rfl)
theorem dX0_back_52 : decode cX0_back 52 = .ok (.aload_n 0, 1) := dk_42 (dk_at dksX0_back_2 4 rfl rfl)
theorem dX0_back_53 : decode cX0_back 53 = .ok (.getfield 516, 3) := dk_180 2 4 (dk_at dksX0_back_2 5 rfl rfl)
theorem dX0_back_56 : decode cX0_back 56 = .ok (.ireturn, 1) := dk_172 (dk_at dksX0_back_2 8 rfl rfl)
theorem q144 : (Jvm.Cond.initialized "SillBridges") ∈ lw_all := lw_g (lw_at lw_m1 1 rfl) rfl
theorem q178 : (Jvm.Cond.instantiable "SillBridges" (28 : Nat)) ∈ lw_all := lw_g (lw_at lw_m1 35 rfl) rfl
theorem q180 : (Jvm.Cond.instanceMethod ({ cls := "SillBridges", name := "<init>", desc := "()V" } : Jvm.MethodName)) ∈ lw_all := lw_g (lw_at lw_m1 37 rfl) rfl
theorem q181 : (Jvm.Cond.code ({ cls := "SillBridges", name := "<init>", desc := "()V" } : Jvm.MethodName) prog_1_method_6_code (1 : Nat) (Option.none : Option Jvm.ClassFile.FieldType)) ∈ lw_all := lw_g (lw_at lw_m1 38 rfl) rfl
theorem q182 : (Jvm.Cond.methodLink "SillBridges" (11 : Nat) ({ cls := "java/lang/Object", name := "<init>", desc := "()V" } : Jvm.MethodName)) ∈ lw_all := lw_g (lw_at lw_m1 39 rfl) rfl
theorem q185 : (Jvm.Cond.classLink "SillBridges" (17 : Nat) "SillBridges$Tray") ∈ lw_all := lw_g (lw_at lw_m1 42 rfl) rfl
theorem q188 : (Jvm.Cond.methodLinkNest "SillBridges" (19 : Nat) ({ cls := "SillBridges$Tray", name := "<init>", desc := "()V" } : Jvm.MethodName) "SillBridges") ∈ lw_tbl := lw_at lw_m1 45 rfl
theorem q192 : (Jvm.Cond.fieldLinkNest "SillBridges" (139 : Nat) "SillBridges$Tray" "row" "Ljava/lang/Object;" "SillBridges") ∈ lw_tbl := lw_at lw_m1 49 rfl
theorem q196 : (Jvm.Cond.classLink "SillBridges" (34 : Nat) "SillBridges$Bad") ∈ lw_all := lw_g (lw_at lw_m1 53 rfl) rfl
theorem q236 : (Jvm.Cond.methodLink "SillBridges" (36 : Nat) ({ cls := "SillBridges$Bad", name := "<init>", desc := "()V" } : Jvm.MethodName)) ∈ lw_all := lw_g (lw_at lw_m1 93 rfl) rfl
theorem q246 : (Jvm.Cond.fieldLinkNest "SillBridges" (216 : Nat) "SillBridges$Bad" "kind" "I" "SillBridges") ∈ lw_tbl := lw_at lw_m1 103 rfl
theorem q248 : (Jvm.Cond.fieldLinkNest "SillBridges" (219 : Nat) "SillBridges$Bad" "place" "I" "SillBridges") ∈ lw_tbl := lw_at lw_m1 105 rfl
theorem q267 : (Jvm.Cond.classLink "SillBridges" (41 : Nat) "SillBridges$Refused") ∈ lw_all := lw_g (lw_at lw_m1 124 rfl) rfl
theorem q276 : (Jvm.Cond.methodLink "SillBridges" (43 : Nat) ({ cls := "SillBridges$Refused", name := "<init>", desc := "()V" } : Jvm.MethodName)) ∈ lw_all := lw_g (lw_at lw_m1 133 rfl) rfl
theorem q281 : (Jvm.Cond.fieldLinkNest "SillBridges" (120 : Nat) "SillBridges$Refused" "why" "I" "SillBridges") ∈ lw_tbl := lw_at lw_m1 138 rfl
theorem q286 : (Jvm.Cond.classLink "SillBridges" (52 : Nat) "SillBridges$House") ∈ lw_all := lw_g (lw_at lw_m1 143 rfl) rfl
theorem q288 : (Jvm.Cond.methodLinkNest "SillBridges" (54 : Nat) ({ cls := "SillBridges$House", name := "<init>", desc := "()V" } : Jvm.MethodName) "SillBridges") ∈ lw_tbl := lw_at lw_m1 145 rfl
theorem q312 : (Jvm.Cond.fieldLinkNest "SillBridges" (191 : Nat) "SillBridges$Town" "places" "I" "SillBridges") ∈ lw_tbl := lw_at lw_m1 169 rfl
theorem q316 : (Jvm.Cond.fieldLinkNest "SillBridges" (200 : Nat) "SillBridges$Town" "bridgeMany" "I" "SillBridges") ∈ lw_tbl := lw_at lw_m1 173 rfl
theorem q321 : (Jvm.Cond.fieldLinkNest "SillBridges" (203 : Nat) "SillBridges$Town" "people" "I" "SillBridges") ∈ lw_tbl := lw_at lw_m1 178 rfl
theorem q326 : (Jvm.Cond.fieldLinkNest "SillBridges" (206 : Nat) "SillBridges$Town" "loadMany" "I" "SillBridges") ∈ lw_tbl := lw_at lw_m1 183 rfl
theorem q332 : (Jvm.Cond.fieldLinkNest "SillBridges" (335 : Nat) "SillBridges$Town" "stones" "[I" "SillBridges") ∈ lw_tbl := lw_at lw_m1 189 rfl
theorem q338 : (Jvm.Cond.fieldLinkNest "SillBridges" (268 : Nat) "SillBridges$Town" "bridges" "[LSillBridges$Bridge;" "SillBridges") ∈ lw_tbl := lw_at lw_m1 195 rfl
theorem q342 : (Jvm.Cond.fieldLinkNest "SillBridges" (309 : Nat) "SillBridges$Town" "person" "[LSillBridges$Person;" "SillBridges") ∈ lw_tbl := lw_at lw_m1 199 rfl
theorem q346 : (Jvm.Cond.fieldLinkNest "SillBridges" (347 : Nat) "SillBridges$Town" "load" "[LSillBridges$Load;" "SillBridges") ∈ lw_tbl := lw_at lw_m1 203 rfl
theorem q370 : (Jvm.Cond.fieldLinkNest "SillBridges" (184 : Nat) "SillBridges$Spot" "town" "LSillBridges$Town;" "SillBridges") ∈ lw_tbl := lw_at lw_m1 227 rfl
theorem q373 : (Jvm.Cond.fieldLinkNest "SillBridges" (338 : Nat) "SillBridges$Spot" "at" "[I" "SillBridges") ∈ lw_tbl := lw_at lw_m1 230 rfl
theorem q376 : (Jvm.Cond.fieldLinkNest "SillBridges" (454 : Nat) "SillBridges$Spot" "gone" "I" "SillBridges") ∈ lw_tbl := lw_at lw_m1 233 rfl
theorem q378 : (Jvm.Cond.fieldLinkNest "SillBridges" (457 : Nat) "SillBridges$Spot" "morePlace" "I" "SillBridges") ∈ lw_tbl := lw_at lw_m1 235 rfl
theorem q380 : (Jvm.Cond.fieldLinkNest "SillBridges" (460 : Nat) "SillBridges$Spot" "more" "I" "SillBridges") ∈ lw_tbl := lw_at lw_m1 237 rfl
theorem q395 : (Jvm.Cond.fieldLinkNest "SillBridges" (183 : Nat) "SillBridges$House" "spot" "LSillBridges$Spot;" "SillBridges") ∈ lw_tbl := lw_at lw_m2 12 rfl
theorem q397 : (Jvm.Cond.fieldLinkNest "SillBridges" (238 : Nat) "SillBridges$House" "orders" "LSillBridges$Loop;" "SillBridges") ∈ lw_tbl := lw_at lw_m2 14 rfl
theorem q404 : (Jvm.Cond.classLink "SillBridges" (63 : Nat) "SillBridges$Moves") ∈ lw_all := lw_g (lw_at lw_m2 21 rfl) rfl
theorem q406 : (Jvm.Cond.methodLinkNest "SillBridges" (65 : Nat) ({ cls := "SillBridges$Moves", name := "<init>", desc := "()V" } : Jvm.MethodName) "SillBridges") ∈ lw_tbl := lw_at lw_m2 23 rfl
theorem q411 : (Jvm.Cond.fieldLinkNest "SillBridges" (433 : Nat) "SillBridges$Moves" "how" "[I" "SillBridges") ∈ lw_tbl := lw_at lw_m2 28 rfl
theorem q413 : (Jvm.Cond.fieldLinkNest "SillBridges" (436 : Nat) "SillBridges$Moves" "first" "[I" "SillBridges") ∈ lw_tbl := lw_at lw_m2 30 rfl
theorem q415 : (Jvm.Cond.fieldLinkNest "SillBridges" (439 : Nat) "SillBridges$Moves" "second" "[I" "SillBridges") ∈ lw_tbl := lw_at lw_m2 32 rfl
theorem q417 : (Jvm.Cond.fieldLinkNest "SillBridges" (442 : Nat) "SillBridges$Moves" "what" "[I" "SillBridges") ∈ lw_tbl := lw_at lw_m2 34 rfl
theorem q419 : (Jvm.Cond.fieldLinkNest "SillBridges" (388 : Nat) "SillBridges$Moves" "many" "I" "SillBridges") ∈ lw_tbl := lw_at lw_m2 36 rfl
theorem q431 : (Jvm.Cond.classLink "SillBridges" (70 : Nat) "SillBridges$Spot") ∈ lw_all := lw_g (lw_at lw_m2 48 rfl) rfl
theorem q432 : (Jvm.Cond.methodLinkNest "SillBridges" (72 : Nat) ({ cls := "SillBridges$Spot", name := "<init>", desc := "()V" } : Jvm.MethodName) "SillBridges") ∈ lw_tbl := lw_at lw_m2 49 rfl
theorem q433 : (Jvm.Cond.constant "SillBridges" (77 : Nat) (129600 : Int32)) ∈ lw_all := lw_g (lw_at lw_m2 50 rfl) rfl
theorem q434 : (Jvm.Cond.classLink "SillBridges" (97 : Nat) "SillBridges$Running") ∈ lw_all := lw_g (lw_at lw_m2 51 rfl) rfl
theorem q436 : (Jvm.Cond.methodLinkNest "SillBridges" (99 : Nat) ({ cls := "SillBridges$Running", name := "<init>", desc := "()V" } : Jvm.MethodName) "SillBridges") ∈ lw_tbl := lw_at lw_m2 53 rfl
theorem q444 : (Jvm.Cond.fieldLinkNest "SillBridges" (502 : Nat) "SillBridges$Running" "spot" "LSillBridges$Spot;" "SillBridges") ∈ lw_tbl := lw_at lw_m2 61 rfl
theorem q448 : (Jvm.Cond.fieldLinkNest "SillBridges" (509 : Nat) "SillBridges$Running" "steps" "I" "SillBridges") ∈ lw_tbl := lw_at lw_m2 65 rfl
theorem q450 : (Jvm.Cond.fieldLinkNest "SillBridges" (490 : Nat) "SillBridges$Running" "done" "I" "SillBridges") ∈ lw_tbl := lw_at lw_m2 67 rfl
theorem q452 : (Jvm.Cond.fieldLinkNest "SillBridges" (493 : Nat) "SillBridges$Running" "missed" "I" "SillBridges") ∈ lw_tbl := lw_at lw_m2 69 rfl
theorem q454 : (Jvm.Cond.fieldLinkNest "SillBridges" (496 : Nat) "SillBridges$Running" "slipped" "I" "SillBridges") ∈ lw_tbl := lw_at lw_m2 71 rfl
theorem q456 : (Jvm.Cond.fieldLinkNest "SillBridges" (499 : Nat) "SillBridges$Running" "toll" "I" "SillBridges") ∈ lw_tbl := lw_at lw_m2 73 rfl
theorem q458 : (Jvm.Cond.fieldLinkNest "SillBridges" (500 : Nat) "SillBridges$Running" "minutes" "I" "SillBridges") ∈ lw_tbl := lw_at lw_m2 75 rfl
theorem q487 : (Jvm.Cond.fieldLink "SillBridges" (20 : Nat) "SillBridges" "trays" "[LSillBridges$Tray;") ∈ lw_all := lw_g (lw_at lw_m2 104 rfl) rfl
theorem q489 : (Jvm.Cond.fieldLink "SillBridges" (24 : Nat) "SillBridges" "tape" "[B") ∈ lw_all := lw_g (lw_at lw_m2 106 rfl) rfl
theorem q490 : (Jvm.Cond.fieldLink "SillBridges" (209 : Nat) "SillBridges" "taped" "I") ∈ lw_all := lw_g (lw_at lw_m2 107 rfl) rfl
theorem q491 : (Jvm.Cond.fieldLink "SillBridges" (27 : Nat) "SillBridges" "faultKind" "I") ∈ lw_all := lw_g (lw_at lw_m2 108 rfl) rfl
theorem q492 : (Jvm.Cond.fieldLink "SillBridges" (31 : Nat) "SillBridges" "faultAt" "I") ∈ lw_all := lw_g (lw_at lw_m2 109 rfl) rfl
theorem q494 : (Jvm.Cond.fieldLink "SillBridges" (37 : Nat) "SillBridges" "bad" "LSillBridges$Bad;") ∈ lw_all := lw_g (lw_at lw_m2 111 rfl) rfl
theorem q495 : (Jvm.Cond.fieldLink "SillBridges" (44 : Nat) "SillBridges" "refused" "LSillBridges$Refused;") ∈ lw_all := lw_g (lw_at lw_m2 112 rfl) rfl
theorem q496 : (Jvm.Cond.fieldLink "SillBridges" (110 : Nat) "SillBridges" "status" "I") ∈ lw_all := lw_g (lw_at lw_m2 113 rfl) rfl
theorem q497 : (Jvm.Cond.fieldLink "SillBridges" (113 : Nat) "SillBridges" "above" "J") ∈ lw_all := lw_g (lw_at lw_m2 114 rfl) rfl
theorem q498 : (Jvm.Cond.fieldLink "SillBridges" (48 : Nat) "SillBridges" "under" "J") ∈ lw_all := lw_g (lw_at lw_m2 115 rfl) rfl
theorem q499 : (Jvm.Cond.fieldLink "SillBridges" (55 : Nat) "SillBridges" "now" "LSillBridges$House;") ∈ lw_all := lw_g (lw_at lw_m2 116 rfl) rfl
theorem q500 : (Jvm.Cond.fieldLink "SillBridges" (59 : Nat) "SillBridges" "marks" "[LSillBridges$House;") ∈ lw_all := lw_g (lw_at lw_m2 117 rfl) rfl
theorem q501 : (Jvm.Cond.fieldLink "SillBridges" (516 : Nat) "SillBridges" "markMany" "I") ∈ lw_all := lw_g (lw_at lw_m2 118 rfl) rfl
theorem q502 : (Jvm.Cond.fieldLink "SillBridges" (66 : Nat) "SillBridges" "moves" "LSillBridges$Moves;") ∈ lw_all := lw_g (lw_at lw_m2 119 rfl) rfl
theorem q503 : (Jvm.Cond.fieldLink "SillBridges" (73 : Nat) "SillBridges" "spot" "LSillBridges$Spot;") ∈ lw_all := lw_g (lw_at lw_m2 120 rfl) rfl
theorem q504 : (Jvm.Cond.fieldLink "SillBridges" (78 : Nat) "SillBridges" "far" "[I") ∈ lw_all := lw_g (lw_at lw_m2 121 rfl) rfl
theorem q505 : (Jvm.Cond.fieldLink "SillBridges" (81 : Nat) "SillBridges" "queue" "[I") ∈ lw_all := lw_g (lw_at lw_m2 122 rfl) rfl
theorem q506 : (Jvm.Cond.fieldLink "SillBridges" (84 : Nat) "SillBridges" "good" "[Z") ∈ lw_all := lw_g (lw_at lw_m2 123 rfl) rfl
theorem q507 : (Jvm.Cond.fieldLink "SillBridges" (372 : Nat) "SillBridges" "queued" "I") ∈ lw_all := lw_g (lw_at lw_m2 124 rfl) rfl
theorem q508 : (Jvm.Cond.fieldLink "SillBridges" (88 : Nat) "SillBridges" "waits" "[Z") ∈ lw_all := lw_g (lw_at lw_m2 125 rfl) rfl
theorem q509 : (Jvm.Cond.fieldLink "SillBridges" (91 : Nat) "SillBridges" "row" "[I") ∈ lw_all := lw_g (lw_at lw_m2 126 rfl) rfl
theorem q510 : (Jvm.Cond.fieldLink "SillBridges" (94 : Nat) "SillBridges" "rowMoves" "LSillBridges$Moves;") ∈ lw_all := lw_g (lw_at lw_m2 127 rfl) rfl
theorem q511 : (Jvm.Cond.fieldLink "SillBridges" (430 : Nat) "SillBridges" "rowMany" "I") ∈ lw_all := lw_g (lw_at lw_m2 128 rfl) rfl
theorem q512 : (Jvm.Cond.fieldLink "SillBridges" (100 : Nat) "SillBridges" "running" "LSillBridges$Running;") ∈ lw_all := lw_g (lw_at lw_m2 129 rfl) rfl
theorem q513 : (Jvm.Cond.fieldLink "SillBridges" (506 : Nat) "SillBridges" "hasRun" "Z") ∈ lw_all := lw_g (lw_at lw_m2 130 rfl) rfl
theorem q514 : (Jvm.Cond.fieldLink "SillBridges" (104 : Nat) "SillBridges" "last" "[I") ∈ lw_all := lw_g (lw_at lw_m2 131 rfl) rfl
theorem q515 : (Jvm.Cond.fieldLink "SillBridges" (107 : Nat) "SillBridges" "lastAt" "[I") ∈ lw_all := lw_g (lw_at lw_m2 132 rfl) rfl
theorem q516 : (Jvm.Cond.fieldLink "SillBridges" (503 : Nat) "SillBridges" "lastPeople" "I") ∈ lw_all := lw_g (lw_at lw_m2 133 rfl) rfl
theorem q517 : (Jvm.Cond.laysFinal "SillBridges" "SillBridges" "trays" "[LSillBridges$Tray;") ∈ lw_all := lw_g (lw_at lw_m2 134 rfl) rfl
theorem q518 : (Jvm.Cond.soleField "SillBridges" "trays") ∈ lw_all := lw_g (lw_at lw_m2 135 rfl) rfl
theorem q519 : (Jvm.Cond.laysFinal "SillBridges" "SillBridges" "tape" "[B") ∈ lw_all := lw_g (lw_at lw_m2 136 rfl) rfl
theorem q520 : (Jvm.Cond.soleField "SillBridges" "tape") ∈ lw_all := lw_g (lw_at lw_m2 137 rfl) rfl
theorem q521 : (Jvm.Cond.lays "SillBridges" "SillBridges" "taped" "I") ∈ lw_all := lw_g (lw_at lw_m2 138 rfl) rfl
theorem q522 : (Jvm.Cond.soleField "SillBridges" "taped") ∈ lw_all := lw_g (lw_at lw_m2 139 rfl) rfl
theorem q523 : (Jvm.Cond.lays "SillBridges" "SillBridges" "faultKind" "I") ∈ lw_all := lw_g (lw_at lw_m2 140 rfl) rfl
theorem q524 : (Jvm.Cond.soleField "SillBridges" "faultKind") ∈ lw_all := lw_g (lw_at lw_m2 141 rfl) rfl
theorem q525 : (Jvm.Cond.lays "SillBridges" "SillBridges" "faultAt" "I") ∈ lw_all := lw_g (lw_at lw_m2 142 rfl) rfl
theorem q526 : (Jvm.Cond.soleField "SillBridges" "faultAt") ∈ lw_all := lw_g (lw_at lw_m2 143 rfl) rfl
theorem q527 : (Jvm.Cond.laysFinal "SillBridges" "SillBridges" "bad" "LSillBridges$Bad;") ∈ lw_all := lw_g (lw_at lw_m2 144 rfl) rfl
theorem q528 : (Jvm.Cond.soleField "SillBridges" "bad") ∈ lw_all := lw_g (lw_at lw_m2 145 rfl) rfl
theorem q529 : (Jvm.Cond.laysFinal "SillBridges" "SillBridges" "refused" "LSillBridges$Refused;") ∈ lw_all := lw_g (lw_at lw_m2 146 rfl) rfl
theorem q530 : (Jvm.Cond.soleField "SillBridges" "refused") ∈ lw_all := lw_g (lw_at lw_m2 147 rfl) rfl
theorem q531 : (Jvm.Cond.lays "SillBridges" "SillBridges" "status" "I") ∈ lw_all := lw_g (lw_at lw_m2 148 rfl) rfl
theorem q532 : (Jvm.Cond.soleField "SillBridges" "status") ∈ lw_all := lw_g (lw_at lw_m2 149 rfl) rfl
theorem q533 : (Jvm.Cond.lays "SillBridges" "SillBridges" "above" "J") ∈ lw_all := lw_g (lw_at lw_m2 150 rfl) rfl
theorem q534 : (Jvm.Cond.soleField "SillBridges" "above") ∈ lw_all := lw_g (lw_at lw_m2 151 rfl) rfl
theorem q535 : (Jvm.Cond.lays "SillBridges" "SillBridges" "under" "J") ∈ lw_all := lw_g (lw_at lw_m2 152 rfl) rfl
theorem q536 : (Jvm.Cond.soleField "SillBridges" "under") ∈ lw_all := lw_g (lw_at lw_m2 153 rfl) rfl
theorem q537 : (Jvm.Cond.laysFinal "SillBridges" "SillBridges" "now" "LSillBridges$House;") ∈ lw_all := lw_g (lw_at lw_m2 154 rfl) rfl
theorem q538 : (Jvm.Cond.soleField "SillBridges" "now") ∈ lw_all := lw_g (lw_at lw_m2 155 rfl) rfl
theorem q539 : (Jvm.Cond.laysFinal "SillBridges" "SillBridges" "marks" "[LSillBridges$House;") ∈ lw_all := lw_g (lw_at lw_m2 156 rfl) rfl
theorem q540 : (Jvm.Cond.soleField "SillBridges" "marks") ∈ lw_all := lw_g (lw_at lw_m2 157 rfl) rfl
theorem q541 : (Jvm.Cond.lays "SillBridges" "SillBridges" "markMany" "I") ∈ lw_all := lw_g (lw_at lw_m2 158 rfl) rfl
theorem q542 : (Jvm.Cond.soleField "SillBridges" "markMany") ∈ lw_all := lw_g (lw_at lw_m2 159 rfl) rfl
theorem q543 : (Jvm.Cond.laysFinal "SillBridges" "SillBridges" "moves" "LSillBridges$Moves;") ∈ lw_all := lw_g (lw_at lw_m2 160 rfl) rfl
theorem q544 : (Jvm.Cond.soleField "SillBridges" "moves") ∈ lw_all := lw_g (lw_at lw_m2 161 rfl) rfl
theorem q545 : (Jvm.Cond.laysFinal "SillBridges" "SillBridges" "spot" "LSillBridges$Spot;") ∈ lw_all := lw_g (lw_at lw_m2 162 rfl) rfl
theorem q546 : (Jvm.Cond.soleField "SillBridges" "spot") ∈ lw_all := lw_g (lw_at lw_m2 163 rfl) rfl
theorem q547 : (Jvm.Cond.laysFinal "SillBridges" "SillBridges" "far" "[I") ∈ lw_all := lw_g (lw_at lw_m2 164 rfl) rfl
theorem q548 : (Jvm.Cond.soleField "SillBridges" "far") ∈ lw_all := lw_g (lw_at lw_m2 165 rfl) rfl
theorem q549 : (Jvm.Cond.laysFinal "SillBridges" "SillBridges" "queue" "[I") ∈ lw_all := lw_g (lw_at lw_m2 166 rfl) rfl
theorem q550 : (Jvm.Cond.soleField "SillBridges" "queue") ∈ lw_all := lw_g (lw_at lw_m2 167 rfl) rfl
theorem q551 : (Jvm.Cond.laysFinal "SillBridges" "SillBridges" "good" "[Z") ∈ lw_all := lw_g (lw_at lw_m2 168 rfl) rfl
theorem q552 : (Jvm.Cond.soleField "SillBridges" "good") ∈ lw_all := lw_g (lw_at lw_m2 169 rfl) rfl
theorem q553 : (Jvm.Cond.lays "SillBridges" "SillBridges" "queued" "I") ∈ lw_all := lw_g (lw_at lw_m2 170 rfl) rfl
theorem q554 : (Jvm.Cond.soleField "SillBridges" "queued") ∈ lw_all := lw_g (lw_at lw_m2 171 rfl) rfl
theorem q555 : (Jvm.Cond.laysFinal "SillBridges" "SillBridges" "waits" "[Z") ∈ lw_all := lw_g (lw_at lw_m2 172 rfl) rfl
theorem q556 : (Jvm.Cond.soleField "SillBridges" "waits") ∈ lw_all := lw_g (lw_at lw_m2 173 rfl) rfl
theorem q557 : (Jvm.Cond.laysFinal "SillBridges" "SillBridges" "row" "[I") ∈ lw_all := lw_g (lw_at lw_m2 174 rfl) rfl
theorem q558 : (Jvm.Cond.soleField "SillBridges" "row") ∈ lw_all := lw_g (lw_at lw_m2 175 rfl) rfl
theorem q559 : (Jvm.Cond.laysFinal "SillBridges" "SillBridges" "rowMoves" "LSillBridges$Moves;") ∈ lw_all := lw_g (lw_at lw_m2 176 rfl) rfl
theorem q560 : (Jvm.Cond.soleField "SillBridges" "rowMoves") ∈ lw_all := lw_g (lw_at lw_m2 177 rfl) rfl
theorem q561 : (Jvm.Cond.lays "SillBridges" "SillBridges" "rowMany" "I") ∈ lw_all := lw_g (lw_at lw_m2 178 rfl) rfl
theorem q562 : (Jvm.Cond.soleField "SillBridges" "rowMany") ∈ lw_all := lw_g (lw_at lw_m2 179 rfl) rfl
theorem q563 : (Jvm.Cond.laysFinal "SillBridges" "SillBridges" "running" "LSillBridges$Running;") ∈ lw_all := lw_g (lw_at lw_m2 180 rfl) rfl
theorem q564 : (Jvm.Cond.soleField "SillBridges" "running") ∈ lw_all := lw_g (lw_at lw_m2 181 rfl) rfl
theorem q565 : (Jvm.Cond.lays "SillBridges" "SillBridges" "hasRun" "Z") ∈ lw_all := lw_g (lw_at lw_m2 182 rfl) rfl
theorem q566 : (Jvm.Cond.soleField "SillBridges" "hasRun") ∈ lw_all := lw_g (lw_at lw_m2 183 rfl) rfl
theorem q567 : (Jvm.Cond.laysFinal "SillBridges" "SillBridges" "last" "[I") ∈ lw_all := lw_g (lw_at lw_m2 184 rfl) rfl
theorem q568 : (Jvm.Cond.soleField "SillBridges" "last") ∈ lw_all := lw_g (lw_at lw_m2 185 rfl) rfl
theorem q569 : (Jvm.Cond.laysFinal "SillBridges" "SillBridges" "lastAt" "[I") ∈ lw_all := lw_g (lw_at lw_m2 186 rfl) rfl
theorem q570 : (Jvm.Cond.soleField "SillBridges" "lastAt") ∈ lw_all := lw_g (lw_at lw_m2 187 rfl) rfl
theorem q571 : (Jvm.Cond.lays "SillBridges" "SillBridges" "lastPeople" "I") ∈ lw_all := lw_g (lw_at lw_m2 188 rfl) rfl
theorem q572 : (Jvm.Cond.soleField "SillBridges" "lastPeople") ∈ lw_all := lw_g (lw_at lw_m2 189 rfl) rfl
theorem q573 : (Jvm.Cond.superclass "SillBridges" "java/lang/Object") ∈ lw_all := lw_g (lw_at lw_m2 190 rfl) rfl
theorem q575 : (Jvm.Cond.instanceMethod ({ cls := "SillBridges", name := "status", desc := "()I" } : Jvm.MethodName)) ∈ lw_all := lw_g (lw_at lw_m2 192 rfl) rfl
theorem q576 : (Jvm.Cond.selects "SillBridges" ({ cls := "SillBridges", name := "status", desc := "()I" } : Jvm.MethodName) ({ cls := "SillBridges", name := "status", desc := "()I" } : Jvm.MethodName)) ∈ lw_all := lw_g (lw_at lw_m2 193 rfl) rfl
theorem q577 : (Jvm.Cond.code ({ cls := "SillBridges", name := "status", desc := "()I" } : Jvm.MethodName) prog_1_method_7_code (1 : Nat) (Option.some Jvm.ClassFile.FieldType.int)) ∈ lw_all := lw_g (lw_at lw_m2 194 rfl) rfl
theorem q579 : (Jvm.Cond.instanceMethod ({ cls := "SillBridges", name := "top", desc := "()J" } : Jvm.MethodName)) ∈ lw_all := lw_g (lw_at lw_m2 196 rfl) rfl
theorem q580 : (Jvm.Cond.selects "SillBridges" ({ cls := "SillBridges", name := "top", desc := "()J" } : Jvm.MethodName) ({ cls := "SillBridges", name := "top", desc := "()J" } : Jvm.MethodName)) ∈ lw_all := lw_g (lw_at lw_m2 197 rfl) rfl
theorem q581 : (Jvm.Cond.code ({ cls := "SillBridges", name := "top", desc := "()J" } : Jvm.MethodName) prog_1_method_8_code (1 : Nat) (Option.some Jvm.ClassFile.FieldType.long)) ∈ lw_all := lw_g (lw_at lw_m2 198 rfl) rfl
theorem q583 : (Jvm.Cond.instanceMethod ({ cls := "SillBridges", name := "bottom", desc := "()J" } : Jvm.MethodName)) ∈ lw_all := lw_g (lw_at lw_m2 200 rfl) rfl
theorem q584 : (Jvm.Cond.selects "SillBridges" ({ cls := "SillBridges", name := "bottom", desc := "()J" } : Jvm.MethodName) ({ cls := "SillBridges", name := "bottom", desc := "()J" } : Jvm.MethodName)) ∈ lw_all := lw_g (lw_at lw_m2 201 rfl) rfl
theorem q585 : (Jvm.Cond.code ({ cls := "SillBridges", name := "bottom", desc := "()J" } : Jvm.MethodName) prog_1_method_9_code (1 : Nat) (Option.some Jvm.ClassFile.FieldType.long)) ∈ lw_all := lw_g (lw_at lw_m2 202 rfl) rfl
theorem q587 : (Jvm.Cond.instanceMethod ({ cls := "SillBridges", name := "tray", desc := "(III)Z" } : Jvm.MethodName)) ∈ lw_all := lw_g (lw_at lw_m2 204 rfl) rfl
theorem q588 : (Jvm.Cond.selects "SillBridges" ({ cls := "SillBridges", name := "tray", desc := "(III)Z" } : Jvm.MethodName) ({ cls := "SillBridges", name := "tray", desc := "(III)Z" } : Jvm.MethodName)) ∈ lw_all := lw_g (lw_at lw_m2 205 rfl) rfl
theorem q589 : (Jvm.Cond.codeWith ({ cls := "SillBridges", name := "tray", desc := "(III)Z" } : Jvm.MethodName) prog_1_method_15_code (5 : Nat) (Option.some Jvm.ClassFile.FieldType.boolean) [((5 : Nat), (54 : Nat), (55 : Nat), (145 : Nat)), ((5 : Nat), (54 : Nat), (64 : Nat), (41 : Nat))]) ∈ lw_all := lw_g (lw_at lw_m2 206 rfl) rfl
theorem q590 : (Jvm.Cond.classLink "SillBridges" (145 : Nat) "java/lang/NegativeArraySizeException") ∈ lw_all := lw_g (lw_at lw_m2 207 rfl) rfl
theorem q619 : (Jvm.Cond.methodLink "SillBridges" (135 : Nat) ({ cls := "SillBridges", name := "want", desc := "(ZI)V" } : Jvm.MethodName)) ∈ lw_all := lw_g (lw_at lw_m2 236 rfl) rfl
theorem q620 : (Jvm.Cond.privateMethod ({ cls := "SillBridges", name := "want", desc := "(ZI)V" } : Jvm.MethodName)) ∈ lw_tbl := lw_at lw_m2 237 rfl
theorem q621 : (Jvm.Cond.instanceMethod ({ cls := "SillBridges", name := "want", desc := "(ZI)V" } : Jvm.MethodName)) ∈ lw_all := lw_g (lw_at lw_m2 238 rfl) rfl
theorem q622 : (Jvm.Cond.code ({ cls := "SillBridges", name := "want", desc := "(ZI)V" } : Jvm.MethodName) prog_1_method_10_code (3 : Nat) (Option.none : Option Jvm.ClassFile.FieldType)) ∈ lw_all := lw_g (lw_at lw_m2 239 rfl) rfl
theorem q623 : (Jvm.Cond.methodLink "SillBridges" (116 : Nat) ({ cls := "SillBridges$Refused", name := "by", desc := "(I)LSillBridges$Refused;" } : Jvm.MethodName)) ∈ lw_all := lw_g (lw_at lw_m3 0 rfl) rfl
theorem q627 : (Jvm.Cond.methodLink "SillBridges" (142 : Nat) ({ cls := "SillBridges", name := "row", desc := "(II)Ljava/lang/Object;" } : Jvm.MethodName)) ∈ lw_all := lw_g (lw_at lw_m3 4 rfl) rfl
theorem q628 : (Jvm.Cond.static ({ cls := "SillBridges", name := "row", desc := "(II)Ljava/lang/Object;" } : Jvm.MethodName)) ∈ lw_all := lw_g (lw_at lw_m3 5 rfl) rfl
theorem q629 : (Jvm.Cond.code ({ cls := "SillBridges", name := "row", desc := "(II)Ljava/lang/Object;" } : Jvm.MethodName) prog_1_method_1_code (2 : Nat) (Option.some (Jvm.ClassFile.FieldType.object "java/lang/Object"))) ∈ lw_all := lw_g (lw_at lw_m3 6 rfl) rfl
theorem q630 : (Jvm.Cond.methodLink "SillBridges" (147 : Nat) ({ cls := "SillBridges", name := "no", desc := "(LSillBridges$Refused;)Z" } : Jvm.MethodName)) ∈ lw_all := lw_g (lw_at lw_m3 7 rfl) rfl
theorem q631 : (Jvm.Cond.privateMethod ({ cls := "SillBridges", name := "no", desc := "(LSillBridges$Refused;)Z" } : Jvm.MethodName)) ∈ lw_tbl := lw_at lw_m3 8 rfl
theorem q632 : (Jvm.Cond.instanceMethod ({ cls := "SillBridges", name := "no", desc := "(LSillBridges$Refused;)Z" } : Jvm.MethodName)) ∈ lw_all := lw_g (lw_at lw_m3 9 rfl) rfl
theorem q633 : (Jvm.Cond.code ({ cls := "SillBridges", name := "no", desc := "(LSillBridges$Refused;)Z" } : Jvm.MethodName) prog_1_method_12_code (2 : Nat) (Option.some Jvm.ClassFile.FieldType.boolean)) ∈ lw_all := lw_g (lw_at lw_m3 10 rfl) rfl
theorem q636 : (Jvm.Cond.instanceMethod ({ cls := "SillBridges", name := "write", desc := "(IIJ)Z" } : Jvm.MethodName)) ∈ lw_all := lw_g (lw_at lw_m3 13 rfl) rfl
theorem q637 : (Jvm.Cond.selects "SillBridges" ({ cls := "SillBridges", name := "write", desc := "(IIJ)Z" } : Jvm.MethodName) ({ cls := "SillBridges", name := "write", desc := "(IIJ)Z" } : Jvm.MethodName)) ∈ lw_all := lw_g (lw_at lw_m3 14 rfl) rfl
theorem q638 : (Jvm.Cond.codeWith ({ cls := "SillBridges", name := "write", desc := "(IIJ)Z" } : Jvm.MethodName) prog_1_method_16_code (6 : Nat) (Option.some Jvm.ClassFile.FieldType.boolean) [((5 : Nat), (16 : Nat), (17 : Nat), (159 : Nat)), ((5 : Nat), (16 : Nat), (26 : Nat), (41 : Nat))]) ∈ lw_all := lw_g (lw_at lw_m3 15 rfl) rfl
theorem q639 : (Jvm.Cond.classLink "SillBridges" (159 : Nat) "java/lang/ArrayIndexOutOfBoundsException") ∈ lw_all := lw_g (lw_at lw_m3 16 rfl) rfl
theorem q658 : (Jvm.Cond.methodLink "SillBridges" (151 : Nat) ({ cls := "SillBridges", name := "on", desc := "(I)Ljava/lang/Object;" } : Jvm.MethodName)) ∈ lw_all := lw_g (lw_at lw_m3 35 rfl) rfl
theorem q659 : (Jvm.Cond.privateMethod ({ cls := "SillBridges", name := "on", desc := "(I)Ljava/lang/Object;" } : Jvm.MethodName)) ∈ lw_tbl := lw_at lw_m3 36 rfl
theorem q660 : (Jvm.Cond.instanceMethod ({ cls := "SillBridges", name := "on", desc := "(I)Ljava/lang/Object;" } : Jvm.MethodName)) ∈ lw_all := lw_g (lw_at lw_m3 37 rfl) rfl
theorem q661 : (Jvm.Cond.code ({ cls := "SillBridges", name := "on", desc := "(I)Ljava/lang/Object;" } : Jvm.MethodName) prog_1_method_14_code (2 : Nat) (Option.some (Jvm.ClassFile.FieldType.object "java/lang/Object"))) ∈ lw_all := lw_g (lw_at lw_m3 38 rfl) rfl
theorem q662 : (Jvm.Cond.methodLink "SillBridges" (155 : Nat) ({ cls := "SillBridges", name := "put", desc := "(Ljava/lang/Object;IJ)V" } : Jvm.MethodName)) ∈ lw_all := lw_g (lw_at lw_m3 39 rfl) rfl
theorem q663 : (Jvm.Cond.static ({ cls := "SillBridges", name := "put", desc := "(Ljava/lang/Object;IJ)V" } : Jvm.MethodName)) ∈ lw_all := lw_g (lw_at lw_m3 40 rfl) rfl
theorem q664 : (Jvm.Cond.code ({ cls := "SillBridges", name := "put", desc := "(Ljava/lang/Object;IJ)V" } : Jvm.MethodName) prog_1_method_5_code (7 : Nat) (Option.none : Option Jvm.ClassFile.FieldType)) ∈ lw_all := lw_g (lw_at lw_m3 41 rfl) rfl
theorem q665 : (Jvm.Cond.classLink "SillBridges" (3 : Nat) "[B") ∈ lw_all := lw_g (lw_at lw_m3 42 rfl) rfl
theorem q666 : (Jvm.Cond.classLink "SillBridges" (5 : Nat) "[S") ∈ lw_all := lw_g (lw_at lw_m3 43 rfl) rfl
theorem q667 : (Jvm.Cond.classLink "SillBridges" (7 : Nat) "[I") ∈ lw_all := lw_g (lw_at lw_m3 44 rfl) rfl
theorem q668 : (Jvm.Cond.classLink "SillBridges" (9 : Nat) "[J") ∈ lw_all := lw_g (lw_at lw_m3 45 rfl) rfl
theorem q670 : (Jvm.Cond.instanceMethod ({ cls := "SillBridges", name := "read", desc := "(II)J" } : Jvm.MethodName)) ∈ lw_all := lw_g (lw_at lw_m3 47 rfl) rfl
theorem q671 : (Jvm.Cond.selects "SillBridges" ({ cls := "SillBridges", name := "read", desc := "(II)J" } : Jvm.MethodName) ({ cls := "SillBridges", name := "read", desc := "(II)J" } : Jvm.MethodName)) ∈ lw_all := lw_g (lw_at lw_m3 48 rfl) rfl
theorem q672 : (Jvm.Cond.codeWith ({ cls := "SillBridges", name := "read", desc := "(II)J" } : Jvm.MethodName) prog_1_method_17_code (4 : Nat) (Option.some Jvm.ClassFile.FieldType.long) [((5 : Nat), (14 : Nat), (15 : Nat), (159 : Nat)), ((5 : Nat), (14 : Nat), (25 : Nat), (41 : Nat))]) ∈ lw_all := lw_g (lw_at lw_m3 49 rfl) rfl
theorem q673 : (Jvm.Cond.methodLink "SillBridges" (161 : Nat) ({ cls := "SillBridges", name := "number", desc := "(Ljava/lang/Object;I)J" } : Jvm.MethodName)) ∈ lw_all := lw_g (lw_at lw_m3 50 rfl) rfl
theorem q674 : (Jvm.Cond.static ({ cls := "SillBridges", name := "number", desc := "(Ljava/lang/Object;I)J" } : Jvm.MethodName)) ∈ lw_all := lw_g (lw_at lw_m3 51 rfl) rfl
theorem q675 : (Jvm.Cond.code ({ cls := "SillBridges", name := "number", desc := "(Ljava/lang/Object;I)J" } : Jvm.MethodName) prog_1_method_4_code (3 : Nat) (Option.some Jvm.ClassFile.FieldType.long)) ∈ lw_all := lw_g (lw_at lw_m3 52 rfl) rfl
theorem q676 : (Jvm.Cond.constantLong "SillBridges" (165 : Nat) (-1 : Int64)) ∈ lw_all := lw_g (lw_at lw_m3 53 rfl) rfl
theorem q677 : (Jvm.Cond.methodLink "SillBridges" (167 : Nat) ({ cls := "SillBridges", name := "none", desc := "(LSillBridges$Refused;)I" } : Jvm.MethodName)) ∈ lw_all := lw_g (lw_at lw_m3 54 rfl) rfl
theorem q678 : (Jvm.Cond.privateMethod ({ cls := "SillBridges", name := "none", desc := "(LSillBridges$Refused;)I" } : Jvm.MethodName)) ∈ lw_tbl := lw_at lw_m3 55 rfl
theorem q679 : (Jvm.Cond.instanceMethod ({ cls := "SillBridges", name := "none", desc := "(LSillBridges$Refused;)I" } : Jvm.MethodName)) ∈ lw_all := lw_g (lw_at lw_m3 56 rfl) rfl
theorem q680 : (Jvm.Cond.code ({ cls := "SillBridges", name := "none", desc := "(LSillBridges$Refused;)I" } : Jvm.MethodName) prog_1_method_11_code (2 : Nat) (Option.some Jvm.ClassFile.FieldType.int)) ∈ lw_all := lw_g (lw_at lw_m3 57 rfl) rfl
theorem q682 : (Jvm.Cond.instanceMethod ({ cls := "SillBridges", name := "pour", desc := "(IIIII)Z" } : Jvm.MethodName)) ∈ lw_all := lw_g (lw_at lw_m3 59 rfl) rfl
theorem q683 : (Jvm.Cond.selects "SillBridges" ({ cls := "SillBridges", name := "pour", desc := "(IIIII)Z" } : Jvm.MethodName) ({ cls := "SillBridges", name := "pour", desc := "(IIIII)Z" } : Jvm.MethodName)) ∈ lw_all := lw_g (lw_at lw_m3 60 rfl) rfl
theorem q684 : (Jvm.Cond.codeWith ({ cls := "SillBridges", name := "pour", desc := "(IIIII)Z" } : Jvm.MethodName) prog_1_method_18_code (9 : Nat) (Option.some Jvm.ClassFile.FieldType.boolean) [((85 : Nat), (97 : Nat), (100 : Nat), (181 : Nat)), ((5 : Nat), (112 : Nat), (113 : Nat), (41 : Nat))]) ∈ lw_all := lw_g (lw_at lw_m3 61 rfl) rfl
theorem q685 : (Jvm.Cond.classLink "SillBridges" (181 : Nat) "java/lang/IndexOutOfBoundsException") ∈ lw_all := lw_g (lw_at lw_m3 62 rfl) rfl
theorem q686 : (Jvm.Cond.methodLink "SillBridges" (171 : Nat) ({ cls := "SillBridges", name := "sortOf", desc := "(Ljava/lang/Object;)I" } : Jvm.MethodName)) ∈ lw_all := lw_g (lw_at lw_m3 63 rfl) rfl
theorem q687 : (Jvm.Cond.static ({ cls := "SillBridges", name := "sortOf", desc := "(Ljava/lang/Object;)I" } : Jvm.MethodName)) ∈ lw_all := lw_g (lw_at lw_m3 64 rfl) rfl
theorem q688 : (Jvm.Cond.code ({ cls := "SillBridges", name := "sortOf", desc := "(Ljava/lang/Object;)I" } : Jvm.MethodName) prog_1_method_2_code (1 : Nat) (Option.some Jvm.ClassFile.FieldType.int)) ∈ lw_all := lw_g (lw_at lw_m3 65 rfl) rfl
theorem q689 : (Jvm.Cond.methodLink "SillBridges" (175 : Nat) ({ cls := "java/lang/System", name := "arraycopy", desc := "(Ljava/lang/Object;ILjava/lang/Object;II)V" } : Jvm.MethodName)) ∈ lw_all := lw_g (lw_at lw_m3 66 rfl) rfl
theorem q693 : (Jvm.Cond.instanceMethod ({ cls := "SillBridges", name := "feed", desc := "(IIIII)I" } : Jvm.MethodName)) ∈ lw_all := lw_g (lw_at lw_m3 70 rfl) rfl
theorem q694 : (Jvm.Cond.selects "SillBridges" ({ cls := "SillBridges", name := "feed", desc := "(IIIII)I" } : Jvm.MethodName) ({ cls := "SillBridges", name := "feed", desc := "(IIIII)I" } : Jvm.MethodName)) ∈ lw_all := lw_g (lw_at lw_m3 71 rfl) rfl
theorem q695 : (Jvm.Cond.code ({ cls := "SillBridges", name := "feed", desc := "(IIIII)I" } : Jvm.MethodName) prog_1_method_26_code (6 : Nat) (Option.some Jvm.ClassFile.FieldType.int)) ∈ lw_all := lw_g (lw_at lw_m3 72 rfl) rfl
theorem q696 : (Jvm.Cond.methodLink "SillBridges" (212 : Nat) ({ cls := "SillBridges", name := "lay", desc := "(I)V" } : Jvm.MethodName)) ∈ lw_all := lw_g (lw_at lw_m3 73 rfl) rfl
theorem q697 : (Jvm.Cond.privateMethod ({ cls := "SillBridges", name := "lay", desc := "(I)V" } : Jvm.MethodName)) ∈ lw_tbl := lw_at lw_m3 74 rfl
theorem q698 : (Jvm.Cond.instanceMethod ({ cls := "SillBridges", name := "lay", desc := "(I)V" } : Jvm.MethodName)) ∈ lw_all := lw_g (lw_at lw_m3 75 rfl) rfl
theorem q699 : (Jvm.Cond.code ({ cls := "SillBridges", name := "lay", desc := "(I)V" } : Jvm.MethodName) prog_1_method_27_code (3 : Nat) (Option.none : Option Jvm.ClassFile.FieldType)) ∈ lw_all := lw_g (lw_at lw_m3 76 rfl) rfl
theorem q701 : (Jvm.Cond.instanceMethod ({ cls := "SillBridges", name := "town", desc := "(I)I" } : Jvm.MethodName)) ∈ lw_all := lw_g (lw_at lw_m3 78 rfl) rfl
theorem q702 : (Jvm.Cond.selects "SillBridges" ({ cls := "SillBridges", name := "town", desc := "(I)I" } : Jvm.MethodName) ({ cls := "SillBridges", name := "town", desc := "(I)I" } : Jvm.MethodName)) ∈ lw_all := lw_g (lw_at lw_m3 79 rfl) rfl
theorem q703 : (Jvm.Cond.codeWith ({ cls := "SillBridges", name := "town", desc := "(I)I" } : Jvm.MethodName) prog_1_method_30_code (3 : Nat) (Option.some Jvm.ClassFile.FieldType.int) [((13 : Nat), (57 : Nat), (58 : Nat), (34 : Nat))]) ∈ lw_all := lw_g (lw_at lw_m3 80 rfl) rfl
theorem q704 : (Jvm.Cond.methodLink "SillBridges" (222 : Nat) ({ cls := "SillBridges", name := "opens", desc := "(II)Z" } : Jvm.MethodName)) ∈ lw_all := lw_g (lw_at lw_m3 81 rfl) rfl
theorem q705 : (Jvm.Cond.privateMethod ({ cls := "SillBridges", name := "opens", desc := "(II)Z" } : Jvm.MethodName)) ∈ lw_tbl := lw_at lw_m3 82 rfl
theorem q706 : (Jvm.Cond.instanceMethod ({ cls := "SillBridges", name := "opens", desc := "(II)Z" } : Jvm.MethodName)) ∈ lw_all := lw_g (lw_at lw_m3 83 rfl) rfl
theorem q707 : (Jvm.Cond.code ({ cls := "SillBridges", name := "opens", desc := "(II)Z" } : Jvm.MethodName) prog_1_method_28_code (3 : Nat) (Option.some Jvm.ClassFile.FieldType.boolean)) ∈ lw_all := lw_g (lw_at lw_m3 84 rfl) rfl
theorem q708 : (Jvm.Cond.classLink "SillBridges" (192 : Nat) "SillBridges$Town") ∈ lw_all := lw_g (lw_at lw_m3 85 rfl) rfl
theorem q709 : (Jvm.Cond.methodLinkNest "SillBridges" (226 : Nat) ({ cls := "SillBridges$Town", name := "<init>", desc := "()V" } : Jvm.MethodName) "SillBridges") ∈ lw_tbl := lw_at lw_m3 86 rfl
theorem q710 : (Jvm.Cond.classLink "SillBridges" (227 : Nat) "SillBridges$Reader") ∈ lw_all := lw_g (lw_at lw_m3 87 rfl) rfl
theorem q712 : (Jvm.Cond.methodLink "SillBridges" (229 : Nat) ({ cls := "SillBridges$Reader", name := "<init>", desc := "(LSillBridges;I)V" } : Jvm.MethodName)) ∈ lw_all := lw_g (lw_at lw_m3 89 rfl) rfl
theorem q734 : (Jvm.Cond.fieldLinkNest "SillBridges" (253 : Nat) "SillBridges$Reader" "steps" "I" "SillBridges") ∈ lw_tbl := lw_at lw_m3 111 rfl
theorem q751 : (Jvm.Cond.methodLink "SillBridges" (232 : Nat) ({ cls := "SillBridges$Reader", name := "town", desc := "(LSillBridges$Town;)V" } : Jvm.MethodName)) ∈ lw_all := lw_g (lw_at lw_m3 128 rfl) rfl
theorem q913 : (Jvm.Cond.fieldLinkNest "SillBridges" (272 : Nat) "SillBridges$Bridge" "from" "I" "SillBridges") ∈ lw_tbl := lw_at lw_m4 50 rfl
theorem q915 : (Jvm.Cond.fieldLinkNest "SillBridges" (277 : Nat) "SillBridges$Bridge" "to" "I" "SillBridges") ∈ lw_tbl := lw_at lw_m4 52 rfl
theorem q918 : (Jvm.Cond.fieldLinkNest "SillBridges" (280 : Nat) "SillBridges$Bridge" "sill" "I" "SillBridges") ∈ lw_tbl := lw_at lw_m4 55 rfl
theorem q920 : (Jvm.Cond.fieldLinkNest "SillBridges" (283 : Nat) "SillBridges$Bridge" "needs" "I" "SillBridges") ∈ lw_tbl := lw_at lw_m4 57 rfl
theorem q923 : (Jvm.Cond.fieldLinkNest "SillBridges" (286 : Nat) "SillBridges$Bridge" "by" "I" "SillBridges") ∈ lw_tbl := lw_at lw_m4 60 rfl
theorem q927 : (Jvm.Cond.fieldLinkNest "SillBridges" (288 : Nat) "SillBridges$Bridge" "bears" "I" "SillBridges") ∈ lw_tbl := lw_at lw_m4 64 rfl
theorem q931 : (Jvm.Cond.fieldLinkNest "SillBridges" (291 : Nat) "SillBridges$Bridge" "toll" "I" "SillBridges") ∈ lw_tbl := lw_at lw_m4 68 rfl
theorem q936 : (Jvm.Cond.fieldLinkNest "SillBridges" (294 : Nat) "SillBridges$Bridge" "takes" "I" "SillBridges") ∈ lw_tbl := lw_at lw_m4 73 rfl
theorem q939 : (Jvm.Cond.fieldLinkNest "SillBridges" (297 : Nat) "SillBridges$Bridge" "sways" "I" "SillBridges") ∈ lw_tbl := lw_at lw_m4 76 rfl
theorem q979 : (Jvm.Cond.fieldLinkNest "SillBridges" (313 : Nat) "SillBridges$Person" "weight" "I" "SillBridges") ∈ lw_tbl := lw_at lw_m4 116 rfl
theorem q985 : (Jvm.Cond.fieldLinkNest "SillBridges" (318 : Nat) "SillBridges$Person" "wants" "I" "SillBridges") ∈ lw_tbl := lw_at lw_m4 122 rfl
theorem q988 : (Jvm.Cond.fieldLinkNest "SillBridges" (325 : Nat) "SillBridges$Person" "carries" "I" "SillBridges") ∈ lw_tbl := lw_at lw_m4 125 rfl
theorem q991 : (Jvm.Cond.fieldLinkNest "SillBridges" (328 : Nat) "SillBridges$Person" "led" "Z" "SillBridges") ∈ lw_tbl := lw_at lw_m4 128 rfl
theorem q1019 : (Jvm.Cond.fieldLinkNest "SillBridges" (351 : Nat) "SillBridges$Load" "weight" "I" "SillBridges") ∈ lw_tbl := lw_at lw_m4 156 rfl
theorem q1037 : (Jvm.Cond.methodLink "SillBridges" (235 : Nat) ({ cls := "SillBridges$Spot", name := "begin", desc := "(LSillBridges$Town;)V" } : Jvm.MethodName)) ∈ lw_all := lw_g (lw_at lw_m4 174 rfl) rfl
theorem q1041 : (Jvm.Cond.methodLink "SillBridges" (242 : Nat) ({ cls := "SillBridges", name := "faulty", desc := "(LSillBridges$Bad;)I" } : Jvm.MethodName)) ∈ lw_all := lw_g (lw_at lw_m4 178 rfl) rfl
theorem q1042 : (Jvm.Cond.privateMethod ({ cls := "SillBridges", name := "faulty", desc := "(LSillBridges$Bad;)I" } : Jvm.MethodName)) ∈ lw_tbl := lw_at lw_m4 179 rfl
theorem q1043 : (Jvm.Cond.instanceMethod ({ cls := "SillBridges", name := "faulty", desc := "(LSillBridges$Bad;)I" } : Jvm.MethodName)) ∈ lw_all := lw_g (lw_at lw_m4 180 rfl) rfl
theorem q1044 : (Jvm.Cond.code ({ cls := "SillBridges", name := "faulty", desc := "(LSillBridges$Bad;)I" } : Jvm.MethodName) prog_1_method_29_code (2 : Nat) (Option.some Jvm.ClassFile.FieldType.int)) ∈ lw_all := lw_g (lw_at lw_m4 181 rfl) rfl
theorem q1046 : (Jvm.Cond.instanceMethod ({ cls := "SillBridges", name := "orders", desc := "(I)I" } : Jvm.MethodName)) ∈ lw_all := lw_g (lw_at lw_m4 183 rfl) rfl
theorem q1047 : (Jvm.Cond.selects "SillBridges" ({ cls := "SillBridges", name := "orders", desc := "(I)I" } : Jvm.MethodName) ({ cls := "SillBridges", name := "orders", desc := "(I)I" } : Jvm.MethodName)) ∈ lw_all := lw_g (lw_at lw_m4 184 rfl) rfl
theorem q1048 : (Jvm.Cond.codeWith ({ cls := "SillBridges", name := "orders", desc := "(I)I" } : Jvm.MethodName) prog_1_method_31_code (4 : Nat) (Option.some Jvm.ClassFile.FieldType.int) [((13 : Nat), (53 : Nat), (54 : Nat), (34 : Nat))]) ∈ lw_all := lw_g (lw_at lw_m4 185 rfl) rfl
theorem q1049 : (Jvm.Cond.classLink "SillBridges" (246 : Nat) "SillBridges$Loop") ∈ lw_all := lw_g (lw_at lw_m4 186 rfl) rfl
theorem q1051 : (Jvm.Cond.methodLink "SillBridges" (248 : Nat) ({ cls := "SillBridges$Loop", name := "<init>", desc := "(I)V" } : Jvm.MethodName)) ∈ lw_all := lw_g (lw_at lw_m4 188 rfl) rfl
theorem q1073 : (Jvm.Cond.methodLink "SillBridges" (188 : Nat) ({ cls := "SillBridges", name := "town", desc := "()LSillBridges$Town;" } : Jvm.MethodName)) ∈ lw_all := lw_g (lw_at lw_m4 210 rfl) rfl
theorem q1074 : (Jvm.Cond.privateMethod ({ cls := "SillBridges", name := "town", desc := "()LSillBridges$Town;" } : Jvm.MethodName)) ∈ lw_tbl := lw_at lw_m4 211 rfl
theorem q1075 : (Jvm.Cond.instanceMethod ({ cls := "SillBridges", name := "town", desc := "()LSillBridges$Town;" } : Jvm.MethodName)) ∈ lw_all := lw_g (lw_at lw_m4 212 rfl) rfl
theorem q1076 : (Jvm.Cond.code ({ cls := "SillBridges", name := "town", desc := "()LSillBridges$Town;" } : Jvm.MethodName) prog_1_method_20_code (1 : Nat) (Option.some (Jvm.ClassFile.FieldType.object "SillBridges$Town"))) ∈ lw_all := lw_g (lw_at lw_m4 213 rfl) rfl
theorem q1077 : (Jvm.Cond.methodLink "SillBridges" (250 : Nat) ({ cls := "SillBridges$Reader", name := "orders", desc := "(LSillBridges$Town;LSillBridges$Block;)V" } : Jvm.MethodName)) ∈ lw_all := lw_g (lw_at lw_m4 214 rfl) rfl
theorem q1180 : (Jvm.Cond.instanceMethod ({ cls := "SillBridges", name := "fault", desc := "(I)I" } : Jvm.MethodName)) ∈ lw_all := lw_g (lw_at lw_m5 77 rfl) rfl
theorem q1181 : (Jvm.Cond.selects "SillBridges" ({ cls := "SillBridges", name := "fault", desc := "(I)I" } : Jvm.MethodName) ({ cls := "SillBridges", name := "fault", desc := "(I)I" } : Jvm.MethodName)) ∈ lw_all := lw_g (lw_at lw_m5 78 rfl) rfl
theorem q1182 : (Jvm.Cond.code ({ cls := "SillBridges", name := "fault", desc := "(I)I" } : Jvm.MethodName) prog_1_method_32_code (2 : Nat) (Option.some Jvm.ClassFile.FieldType.int)) ∈ lw_all := lw_g (lw_at lw_m5 79 rfl) rfl
theorem q1184 : (Jvm.Cond.instanceMethod ({ cls := "SillBridges", name := "told", desc := "(I)I" } : Jvm.MethodName)) ∈ lw_all := lw_g (lw_at lw_m5 81 rfl) rfl
theorem q1185 : (Jvm.Cond.selects "SillBridges" ({ cls := "SillBridges", name := "told", desc := "(I)I" } : Jvm.MethodName) ({ cls := "SillBridges", name := "told", desc := "(I)I" } : Jvm.MethodName)) ∈ lw_all := lw_g (lw_at lw_m5 82 rfl) rfl
theorem q1186 : (Jvm.Cond.code ({ cls := "SillBridges", name := "told", desc := "(I)I" } : Jvm.MethodName) prog_1_method_33_code (2 : Nat) (Option.some Jvm.ClassFile.FieldType.int)) ∈ lw_all := lw_g (lw_at lw_m5 83 rfl) rfl
theorem q1187 : (Jvm.Cond.constantLong "SillBridges" (256 : Nat) (4 : Int64)) ∈ lw_all := lw_g (lw_at lw_m5 84 rfl) rfl
theorem q1188 : (Jvm.Cond.methodLink "SillBridges" (196 : Nat) ({ cls := "SillBridges", name := "isIn", desc := "(JJJ)Z" } : Jvm.MethodName)) ∈ lw_all := lw_g (lw_at lw_m5 85 rfl) rfl
theorem q1189 : (Jvm.Cond.static ({ cls := "SillBridges", name := "isIn", desc := "(JJJ)Z" } : Jvm.MethodName)) ∈ lw_all := lw_g (lw_at lw_m5 86 rfl) rfl
theorem q1190 : (Jvm.Cond.code ({ cls := "SillBridges", name := "isIn", desc := "(JJJ)Z" } : Jvm.MethodName) prog_1_method_19_code (6 : Nat) (Option.some Jvm.ClassFile.FieldType.boolean)) ∈ lw_all := lw_g (lw_at lw_m5 87 rfl) rfl
theorem q1191 : (Jvm.Cond.methodLink "SillBridges" (258 : Nat) ({ cls := "SillBridges$Spot", name := "isDone", desc := "()Z" } : Jvm.MethodName)) ∈ lw_all := lw_g (lw_at lw_m5 88 rfl) rfl
theorem q1196 : (Jvm.Cond.instanceMethod ({ cls := "SillBridges", name := "bridge", desc := "(II)I" } : Jvm.MethodName)) ∈ lw_all := lw_g (lw_at lw_m5 93 rfl) rfl
theorem q1197 : (Jvm.Cond.selects "SillBridges" ({ cls := "SillBridges", name := "bridge", desc := "(II)I" } : Jvm.MethodName) ({ cls := "SillBridges", name := "bridge", desc := "(II)I" } : Jvm.MethodName)) ∈ lw_all := lw_g (lw_at lw_m5 94 rfl) rfl
theorem q1198 : (Jvm.Cond.code ({ cls := "SillBridges", name := "bridge", desc := "(II)I" } : Jvm.MethodName) prog_1_method_34_code (4 : Nat) (Option.some Jvm.ClassFile.FieldType.int)) ∈ lw_all := lw_g (lw_at lw_m5 95 rfl) rfl
theorem q1199 : (Jvm.Cond.methodLink "SillBridges" (262 : Nat) ({ cls := "SillBridges", name := "isBridge", desc := "(I)Z" } : Jvm.MethodName)) ∈ lw_all := lw_g (lw_at lw_m5 96 rfl) rfl
theorem q1200 : (Jvm.Cond.privateMethod ({ cls := "SillBridges", name := "isBridge", desc := "(I)Z" } : Jvm.MethodName)) ∈ lw_tbl := lw_at lw_m5 97 rfl
theorem q1201 : (Jvm.Cond.instanceMethod ({ cls := "SillBridges", name := "isBridge", desc := "(I)Z" } : Jvm.MethodName)) ∈ lw_all := lw_g (lw_at lw_m5 98 rfl) rfl
theorem q1202 : (Jvm.Cond.code ({ cls := "SillBridges", name := "isBridge", desc := "(I)Z" } : Jvm.MethodName) prog_1_method_22_code (2 : Nat) (Option.some Jvm.ClassFile.FieldType.boolean)) ∈ lw_all := lw_g (lw_at lw_m5 99 rfl) rfl
theorem q1203 : (Jvm.Cond.constantLong "SillBridges" (266 : Nat) (9 : Int64)) ∈ lw_all := lw_g (lw_at lw_m5 100 rfl) rfl
theorem q1204 : (Jvm.Cond.methodLink "SillBridges" (300 : Nat) ({ cls := "SillBridges$Bridge", name := "pull", desc := "()I" } : Jvm.MethodName)) ∈ lw_all := lw_g (lw_at lw_m5 101 rfl) rfl
theorem q1209 : (Jvm.Cond.instanceMethod ({ cls := "SillBridges", name := "person", desc := "(II)I" } : Jvm.MethodName)) ∈ lw_all := lw_g (lw_at lw_m5 106 rfl) rfl
theorem q1210 : (Jvm.Cond.selects "SillBridges" ({ cls := "SillBridges", name := "person", desc := "(II)I" } : Jvm.MethodName) ({ cls := "SillBridges", name := "person", desc := "(II)I" } : Jvm.MethodName)) ∈ lw_all := lw_g (lw_at lw_m5 107 rfl) rfl
theorem q1211 : (Jvm.Cond.code ({ cls := "SillBridges", name := "person", desc := "(II)I" } : Jvm.MethodName) prog_1_method_35_code (4 : Nat) (Option.some Jvm.ClassFile.FieldType.int)) ∈ lw_all := lw_g (lw_at lw_m5 108 rfl) rfl
theorem q1212 : (Jvm.Cond.methodLink "SillBridges" (304 : Nat) ({ cls := "SillBridges", name := "isPerson", desc := "(I)Z" } : Jvm.MethodName)) ∈ lw_all := lw_g (lw_at lw_m5 109 rfl) rfl
theorem q1213 : (Jvm.Cond.privateMethod ({ cls := "SillBridges", name := "isPerson", desc := "(I)Z" } : Jvm.MethodName)) ∈ lw_tbl := lw_at lw_m5 110 rfl
theorem q1214 : (Jvm.Cond.instanceMethod ({ cls := "SillBridges", name := "isPerson", desc := "(I)Z" } : Jvm.MethodName)) ∈ lw_all := lw_g (lw_at lw_m5 111 rfl) rfl
theorem q1215 : (Jvm.Cond.code ({ cls := "SillBridges", name := "isPerson", desc := "(I)Z" } : Jvm.MethodName) prog_1_method_23_code (2 : Nat) (Option.some Jvm.ClassFile.FieldType.boolean)) ∈ lw_all := lw_g (lw_at lw_m5 112 rfl) rfl
theorem q1216 : (Jvm.Cond.constantLong "SillBridges" (307 : Nat) (3 : Int64)) ∈ lw_all := lw_g (lw_at lw_m5 113 rfl) rfl
theorem q1217 : (Jvm.Cond.methodLink "SillBridges" (321 : Nat) ({ cls := "SillBridges", name := "answer", desc := "(I)I" } : Jvm.MethodName)) ∈ lw_all := lw_g (lw_at lw_m5 114 rfl) rfl
theorem q1218 : (Jvm.Cond.privateMethod ({ cls := "SillBridges", name := "answer", desc := "(I)I" } : Jvm.MethodName)) ∈ lw_tbl := lw_at lw_m5 115 rfl
theorem q1219 : (Jvm.Cond.instanceMethod ({ cls := "SillBridges", name := "answer", desc := "(I)I" } : Jvm.MethodName)) ∈ lw_all := lw_g (lw_at lw_m5 116 rfl) rfl
theorem q1220 : (Jvm.Cond.code ({ cls := "SillBridges", name := "answer", desc := "(I)I" } : Jvm.MethodName) prog_1_method_25_code (2 : Nat) (Option.some Jvm.ClassFile.FieldType.int)) ∈ lw_all := lw_g (lw_at lw_m5 117 rfl) rfl
theorem q1222 : (Jvm.Cond.instanceMethod ({ cls := "SillBridges", name := "stones", desc := "(I)I" } : Jvm.MethodName)) ∈ lw_all := lw_g (lw_at lw_m5 119 rfl) rfl
theorem q1223 : (Jvm.Cond.selects "SillBridges" ({ cls := "SillBridges", name := "stones", desc := "(I)I" } : Jvm.MethodName) ({ cls := "SillBridges", name := "stones", desc := "(I)I" } : Jvm.MethodName)) ∈ lw_all := lw_g (lw_at lw_m5 120 rfl) rfl
theorem q1224 : (Jvm.Cond.code ({ cls := "SillBridges", name := "stones", desc := "(I)I" } : Jvm.MethodName) prog_1_method_36_code (2 : Nat) (Option.some Jvm.ClassFile.FieldType.int)) ∈ lw_all := lw_g (lw_at lw_m5 121 rfl) rfl
theorem q1225 : (Jvm.Cond.methodLink "SillBridges" (332 : Nat) ({ cls := "SillBridges", name := "isPlace", desc := "(I)Z" } : Jvm.MethodName)) ∈ lw_all := lw_g (lw_at lw_m5 122 rfl) rfl
theorem q1226 : (Jvm.Cond.privateMethod ({ cls := "SillBridges", name := "isPlace", desc := "(I)Z" } : Jvm.MethodName)) ∈ lw_tbl := lw_at lw_m5 123 rfl
theorem q1227 : (Jvm.Cond.instanceMethod ({ cls := "SillBridges", name := "isPlace", desc := "(I)Z" } : Jvm.MethodName)) ∈ lw_all := lw_g (lw_at lw_m5 124 rfl) rfl
theorem q1228 : (Jvm.Cond.code ({ cls := "SillBridges", name := "isPlace", desc := "(I)Z" } : Jvm.MethodName) prog_1_method_21_code (2 : Nat) (Option.some Jvm.ClassFile.FieldType.boolean)) ∈ lw_all := lw_g (lw_at lw_m5 125 rfl) rfl
theorem q1230 : (Jvm.Cond.instanceMethod ({ cls := "SillBridges", name := "at", desc := "(I)I" } : Jvm.MethodName)) ∈ lw_all := lw_g (lw_at lw_m5 127 rfl) rfl
theorem q1231 : (Jvm.Cond.selects "SillBridges" ({ cls := "SillBridges", name := "at", desc := "(I)I" } : Jvm.MethodName) ({ cls := "SillBridges", name := "at", desc := "(I)I" } : Jvm.MethodName)) ∈ lw_all := lw_g (lw_at lw_m5 128 rfl) rfl
theorem q1232 : (Jvm.Cond.code ({ cls := "SillBridges", name := "at", desc := "(I)I" } : Jvm.MethodName) prog_1_method_37_code (2 : Nat) (Option.some Jvm.ClassFile.FieldType.int)) ∈ lw_all := lw_g (lw_at lw_m5 129 rfl) rfl
theorem q1234 : (Jvm.Cond.instanceMethod ({ cls := "SillBridges", name := "carries", desc := "(I)I" } : Jvm.MethodName)) ∈ lw_all := lw_g (lw_at lw_m5 131 rfl) rfl
theorem q1235 : (Jvm.Cond.selects "SillBridges" ({ cls := "SillBridges", name := "carries", desc := "(I)I" } : Jvm.MethodName) ({ cls := "SillBridges", name := "carries", desc := "(I)I" } : Jvm.MethodName)) ∈ lw_all := lw_g (lw_at lw_m5 132 rfl) rfl
theorem q1236 : (Jvm.Cond.code ({ cls := "SillBridges", name := "carries", desc := "(I)I" } : Jvm.MethodName) prog_1_method_38_code (2 : Nat) (Option.some Jvm.ClassFile.FieldType.int)) ∈ lw_all := lw_g (lw_at lw_m5 133 rfl) rfl
theorem q1237 : (Jvm.Cond.methodLink "SillBridges" (341 : Nat) ({ cls := "SillBridges$Spot", name := "carried", desc := "(I)I" } : Jvm.MethodName)) ∈ lw_all := lw_g (lw_at lw_m5 134 rfl) rfl
theorem q1242 : (Jvm.Cond.instanceMethod ({ cls := "SillBridges", name := "load", desc := "(II)I" } : Jvm.MethodName)) ∈ lw_all := lw_g (lw_at lw_m5 139 rfl) rfl
theorem q1243 : (Jvm.Cond.selects "SillBridges" ({ cls := "SillBridges", name := "load", desc := "(II)I" } : Jvm.MethodName) ({ cls := "SillBridges", name := "load", desc := "(II)I" } : Jvm.MethodName)) ∈ lw_all := lw_g (lw_at lw_m5 140 rfl) rfl
theorem q1244 : (Jvm.Cond.code ({ cls := "SillBridges", name := "load", desc := "(II)I" } : Jvm.MethodName) prog_1_method_39_code (3 : Nat) (Option.some Jvm.ClassFile.FieldType.int)) ∈ lw_all := lw_g (lw_at lw_m5 141 rfl) rfl
theorem q1245 : (Jvm.Cond.methodLink "SillBridges" (344 : Nat) ({ cls := "SillBridges", name := "isLoad", desc := "(I)Z" } : Jvm.MethodName)) ∈ lw_all := lw_g (lw_at lw_m5 142 rfl) rfl
theorem q1246 : (Jvm.Cond.privateMethod ({ cls := "SillBridges", name := "isLoad", desc := "(I)Z" } : Jvm.MethodName)) ∈ lw_tbl := lw_at lw_m5 143 rfl
theorem q1247 : (Jvm.Cond.instanceMethod ({ cls := "SillBridges", name := "isLoad", desc := "(I)Z" } : Jvm.MethodName)) ∈ lw_all := lw_g (lw_at lw_m5 144 rfl) rfl
theorem q1248 : (Jvm.Cond.code ({ cls := "SillBridges", name := "isLoad", desc := "(I)Z" } : Jvm.MethodName) prog_1_method_24_code (2 : Nat) (Option.some Jvm.ClassFile.FieldType.boolean)) ∈ lw_all := lw_g (lw_at lw_m5 145 rfl) rfl
theorem q1249 : (Jvm.Cond.methodLink "SillBridges" (354 : Nat) ({ cls := "SillBridges$Spot", name := "placeOf", desc := "(I)I" } : Jvm.MethodName)) ∈ lw_all := lw_g (lw_at lw_m5 146 rfl) rfl
theorem q1254 : (Jvm.Cond.instanceMethod ({ cls := "SillBridges", name := "weight", desc := "(I)I" } : Jvm.MethodName)) ∈ lw_all := lw_g (lw_at lw_m5 151 rfl) rfl
theorem q1255 : (Jvm.Cond.selects "SillBridges" ({ cls := "SillBridges", name := "weight", desc := "(I)I" } : Jvm.MethodName) ({ cls := "SillBridges", name := "weight", desc := "(I)I" } : Jvm.MethodName)) ∈ lw_all := lw_g (lw_at lw_m5 152 rfl) rfl
theorem q1256 : (Jvm.Cond.code ({ cls := "SillBridges", name := "weight", desc := "(I)I" } : Jvm.MethodName) prog_1_method_40_code (2 : Nat) (Option.some Jvm.ClassFile.FieldType.int)) ∈ lw_all := lw_g (lw_at lw_m5 153 rfl) rfl
theorem q1257 : (Jvm.Cond.methodLink "SillBridges" (357 : Nat) ({ cls := "SillBridges$Spot", name := "weight", desc := "(I)I" } : Jvm.MethodName)) ∈ lw_all := lw_g (lw_at lw_m5 154 rfl) rfl
theorem q1263 : (Jvm.Cond.instanceMethod ({ cls := "SillBridges", name := "hangs", desc := "(I)I" } : Jvm.MethodName)) ∈ lw_all := lw_g (lw_at lw_m5 160 rfl) rfl
theorem q1264 : (Jvm.Cond.selects "SillBridges" ({ cls := "SillBridges", name := "hangs", desc := "(I)I" } : Jvm.MethodName) ({ cls := "SillBridges", name := "hangs", desc := "(I)I" } : Jvm.MethodName)) ∈ lw_all := lw_g (lw_at lw_m5 161 rfl) rfl
theorem q1265 : (Jvm.Cond.code ({ cls := "SillBridges", name := "hangs", desc := "(I)I" } : Jvm.MethodName) prog_1_method_41_code (2 : Nat) (Option.some Jvm.ClassFile.FieldType.int)) ∈ lw_all := lw_g (lw_at lw_m5 162 rfl) rfl
theorem q1266 : (Jvm.Cond.methodLink "SillBridges" (359 : Nat) ({ cls := "SillBridges$Spot", name := "hangs", desc := "(I)Z" } : Jvm.MethodName)) ∈ lw_all := lw_g (lw_at lw_m5 163 rfl) rfl
theorem q1277 : (Jvm.Cond.instanceMethod ({ cls := "SillBridges", name := "put", desc := "(II)Z" } : Jvm.MethodName)) ∈ lw_all := lw_g (lw_at lw_m5 174 rfl) rfl
theorem q1278 : (Jvm.Cond.selects "SillBridges" ({ cls := "SillBridges", name := "put", desc := "(II)Z" } : Jvm.MethodName) ({ cls := "SillBridges", name := "put", desc := "(II)Z" } : Jvm.MethodName)) ∈ lw_all := lw_g (lw_at lw_m5 175 rfl) rfl
theorem q1279 : (Jvm.Cond.code ({ cls := "SillBridges", name := "put", desc := "(II)Z" } : Jvm.MethodName) prog_1_method_42_code (3 : Nat) (Option.some Jvm.ClassFile.FieldType.boolean)) ∈ lw_all := lw_g (lw_at lw_m5 176 rfl) rfl
theorem q1281 : (Jvm.Cond.instanceMethod ({ cls := "SillBridges", name := "go", desc := "(II)Z" } : Jvm.MethodName)) ∈ lw_all := lw_g (lw_at lw_m5 178 rfl) rfl
theorem q1282 : (Jvm.Cond.selects "SillBridges" ({ cls := "SillBridges", name := "go", desc := "(II)Z" } : Jvm.MethodName) ({ cls := "SillBridges", name := "go", desc := "(II)Z" } : Jvm.MethodName)) ∈ lw_all := lw_g (lw_at lw_m5 179 rfl) rfl
theorem q1283 : (Jvm.Cond.code ({ cls := "SillBridges", name := "go", desc := "(II)Z" } : Jvm.MethodName) prog_1_method_44_code (3 : Nat) (Option.some Jvm.ClassFile.FieldType.boolean)) ∈ lw_all := lw_g (lw_at lw_m5 180 rfl) rfl
theorem q1284 : (Jvm.Cond.methodLink "SillBridges" (365 : Nat) ({ cls := "SillBridges", name := "does", desc := "(ZIIII)Z" } : Jvm.MethodName)) ∈ lw_all := lw_g (lw_at lw_m5 181 rfl) rfl
theorem q1285 : (Jvm.Cond.privateMethod ({ cls := "SillBridges", name := "does", desc := "(ZIIII)Z" } : Jvm.MethodName)) ∈ lw_tbl := lw_at lw_m5 182 rfl
theorem q1286 : (Jvm.Cond.instanceMethod ({ cls := "SillBridges", name := "does", desc := "(ZIIII)Z" } : Jvm.MethodName)) ∈ lw_all := lw_g (lw_at lw_m5 183 rfl) rfl
theorem q1287 : (Jvm.Cond.code ({ cls := "SillBridges", name := "does", desc := "(ZIIII)Z" } : Jvm.MethodName) prog_1_method_43_code (6 : Nat) (Option.some Jvm.ClassFile.FieldType.boolean)) ∈ lw_all := lw_g (lw_at lw_m5 184 rfl) rfl
theorem q1288 : (Jvm.Cond.methodLink "SillBridges" (362 : Nat) ({ cls := "SillBridges$Spot", name := "moves", desc := "(IIII)Z" } : Jvm.MethodName)) ∈ lw_all := lw_g (lw_at lw_m5 185 rfl) rfl
theorem q1310 : (Jvm.Cond.instanceMethod ({ cls := "SillBridges", name := "both", desc := "(III)Z" } : Jvm.MethodName)) ∈ lw_all := lw_g (lw_at lw_m5 207 rfl) rfl
theorem q1311 : (Jvm.Cond.selects "SillBridges" ({ cls := "SillBridges", name := "both", desc := "(III)Z" } : Jvm.MethodName) ({ cls := "SillBridges", name := "both", desc := "(III)Z" } : Jvm.MethodName)) ∈ lw_all := lw_g (lw_at lw_m5 208 rfl) rfl
theorem q1312 : (Jvm.Cond.code ({ cls := "SillBridges", name := "both", desc := "(III)Z" } : Jvm.MethodName) prog_1_method_45_code (4 : Nat) (Option.some Jvm.ClassFile.FieldType.boolean)) ∈ lw_all := lw_g (lw_at lw_m5 209 rfl) rfl
theorem q1314 : (Jvm.Cond.instanceMethod ({ cls := "SillBridges", name := "why", desc := "(III)I" } : Jvm.MethodName)) ∈ lw_all := lw_g (lw_at lw_m5 211 rfl) rfl
theorem q1315 : (Jvm.Cond.selects "SillBridges" ({ cls := "SillBridges", name := "why", desc := "(III)I" } : Jvm.MethodName) ({ cls := "SillBridges", name := "why", desc := "(III)I" } : Jvm.MethodName)) ∈ lw_all := lw_g (lw_at lw_m5 212 rfl) rfl
theorem q1316 : (Jvm.Cond.code ({ cls := "SillBridges", name := "why", desc := "(III)I" } : Jvm.MethodName) prog_1_method_46_code (4 : Nat) (Option.some Jvm.ClassFile.FieldType.int)) ∈ lw_all := lw_g (lw_at lw_m5 213 rfl) rfl
theorem q1317 : (Jvm.Cond.methodLink "SillBridges" (369 : Nat) ({ cls := "SillBridges$Spot", name := "why", desc := "(III)I" } : Jvm.MethodName)) ∈ lw_all := lw_g (lw_at lw_m5 214 rfl) rfl
theorem q1319 : (Jvm.Cond.instanceMethod ({ cls := "SillBridges", name := "lift", desc := "(II)Z" } : Jvm.MethodName)) ∈ lw_all := lw_g (lw_at lw_m5 216 rfl) rfl
theorem q1320 : (Jvm.Cond.selects "SillBridges" ({ cls := "SillBridges", name := "lift", desc := "(II)Z" } : Jvm.MethodName) ({ cls := "SillBridges", name := "lift", desc := "(II)Z" } : Jvm.MethodName)) ∈ lw_all := lw_g (lw_at lw_m5 217 rfl) rfl
theorem q1321 : (Jvm.Cond.code ({ cls := "SillBridges", name := "lift", desc := "(II)Z" } : Jvm.MethodName) prog_1_method_47_code (3 : Nat) (Option.some Jvm.ClassFile.FieldType.boolean)) ∈ lw_all := lw_g (lw_at lw_m5 218 rfl) rfl
theorem q1323 : (Jvm.Cond.instanceMethod ({ cls := "SillBridges", name := "drop", desc := "(I)Z" } : Jvm.MethodName)) ∈ lw_all := lw_g (lw_at lw_m5 220 rfl) rfl
theorem q1324 : (Jvm.Cond.selects "SillBridges" ({ cls := "SillBridges", name := "drop", desc := "(I)Z" } : Jvm.MethodName) ({ cls := "SillBridges", name := "drop", desc := "(I)Z" } : Jvm.MethodName)) ∈ lw_all := lw_g (lw_at lw_m5 221 rfl) rfl
theorem q1325 : (Jvm.Cond.code ({ cls := "SillBridges", name := "drop", desc := "(I)Z" } : Jvm.MethodName) prog_1_method_48_code (2 : Nat) (Option.some Jvm.ClassFile.FieldType.boolean)) ∈ lw_all := lw_g (lw_at lw_m5 222 rfl) rfl
theorem q1327 : (Jvm.Cond.instanceMethod ({ cls := "SillBridges", name := "begin", desc := "()Z" } : Jvm.MethodName)) ∈ lw_all := lw_g (lw_at lw_m5 224 rfl) rfl
theorem q1328 : (Jvm.Cond.selects "SillBridges" ({ cls := "SillBridges", name := "begin", desc := "()Z" } : Jvm.MethodName) ({ cls := "SillBridges", name := "begin", desc := "()Z" } : Jvm.MethodName)) ∈ lw_all := lw_g (lw_at lw_m5 225 rfl) rfl
theorem q1329 : (Jvm.Cond.code ({ cls := "SillBridges", name := "begin", desc := "()Z" } : Jvm.MethodName) prog_1_method_49_code (1 : Nat) (Option.some Jvm.ClassFile.FieldType.boolean)) ∈ lw_all := lw_g (lw_at lw_m5 226 rfl) rfl
theorem q1331 : (Jvm.Cond.instanceMethod ({ cls := "SillBridges", name := "least", desc := "(I)I" } : Jvm.MethodName)) ∈ lw_all := lw_g (lw_at lw_m5 228 rfl) rfl
theorem q1332 : (Jvm.Cond.selects "SillBridges" ({ cls := "SillBridges", name := "least", desc := "(I)I" } : Jvm.MethodName) ({ cls := "SillBridges", name := "least", desc := "(I)I" } : Jvm.MethodName)) ∈ lw_all := lw_g (lw_at lw_m5 229 rfl) rfl
theorem q1333 : (Jvm.Cond.code ({ cls := "SillBridges", name := "least", desc := "(I)I" } : Jvm.MethodName) prog_1_method_56_code (3 : Nat) (Option.some Jvm.ClassFile.FieldType.int)) ∈ lw_all := lw_g (lw_at lw_m5 230 rfl) rfl
theorem q1334 : (Jvm.Cond.constantLong "SillBridges" (414 : Nat) (2 : Int64)) ∈ lw_all := lw_g (lw_at lw_m5 231 rfl) rfl
theorem q1335 : (Jvm.Cond.methodLink "SillBridges" (416 : Nat) ({ cls := "SillBridges", name := "leastCost", desc := "(Z)I" } : Jvm.MethodName)) ∈ lw_all := lw_g (lw_at lw_m5 232 rfl) rfl
theorem q1336 : (Jvm.Cond.privateMethod ({ cls := "SillBridges", name := "leastCost", desc := "(Z)I" } : Jvm.MethodName)) ∈ lw_tbl := lw_at lw_m5 233 rfl
theorem q1337 : (Jvm.Cond.instanceMethod ({ cls := "SillBridges", name := "leastCost", desc := "(Z)I" } : Jvm.MethodName)) ∈ lw_all := lw_g (lw_at lw_m5 234 rfl) rfl
theorem q1338 : (Jvm.Cond.code ({ cls := "SillBridges", name := "leastCost", desc := "(Z)I" } : Jvm.MethodName) prog_1_method_55_code (10 : Nat) (Option.some Jvm.ClassFile.FieldType.int)) ∈ lw_all := lw_g (lw_at lw_m5 235 rfl) rfl
theorem q1339 : (Jvm.Cond.methodLink "SillBridges" (402 : Nat) ({ cls := "SillBridges", name := "findAll", desc := "()V" } : Jvm.MethodName)) ∈ lw_all := lw_g (lw_at lw_m5 236 rfl) rfl
theorem q1340 : (Jvm.Cond.privateMethod ({ cls := "SillBridges", name := "findAll", desc := "()V" } : Jvm.MethodName)) ∈ lw_tbl := lw_at lw_m5 237 rfl
theorem q1341 : (Jvm.Cond.instanceMethod ({ cls := "SillBridges", name := "findAll", desc := "()V" } : Jvm.MethodName)) ∈ lw_all := lw_g (lw_at lw_m5 238 rfl) rfl
theorem q1342 : (Jvm.Cond.code ({ cls := "SillBridges", name := "findAll", desc := "()V" } : Jvm.MethodName) prog_1_method_53_code (2 : Nat) (Option.none : Option Jvm.ClassFile.FieldType)) ∈ lw_all := lw_g (lw_at lw_m5 239 rfl) rfl
theorem q1343 : (Jvm.Cond.methodLink "SillBridges" (396 : Nat) ({ cls := "SillBridges", name := "beginAll", desc := "()V" } : Jvm.MethodName)) ∈ lw_all := lw_g (lw_at lw_m6 0 rfl) rfl
theorem q1344 : (Jvm.Cond.privateMethod ({ cls := "SillBridges", name := "beginAll", desc := "()V" } : Jvm.MethodName)) ∈ lw_tbl := lw_at lw_m6 1 rfl
theorem q1345 : (Jvm.Cond.instanceMethod ({ cls := "SillBridges", name := "beginAll", desc := "()V" } : Jvm.MethodName)) ∈ lw_all := lw_g (lw_at lw_m6 2 rfl) rfl
theorem q1346 : (Jvm.Cond.code ({ cls := "SillBridges", name := "beginAll", desc := "()V" } : Jvm.MethodName) prog_1_method_51_code (2 : Nat) (Option.none : Option Jvm.ClassFile.FieldType)) ∈ lw_all := lw_g (lw_at lw_m6 3 rfl) rfl
theorem q1347 : (Jvm.Cond.methodLink "SillBridges" (375 : Nat) ({ cls := "SillBridges$Spot", name := "be", desc := "(LSillBridges$Spot;)V" } : Jvm.MethodName)) ∈ lw_all := lw_g (lw_at lw_m6 4 rfl) rfl
theorem q1352 : (Jvm.Cond.methodLink "SillBridges" (379 : Nat) ({ cls := "SillBridges$Moves", name := "tell", desc := "(LSillBridges$Town;)V" } : Jvm.MethodName)) ∈ lw_all := lw_g (lw_at lw_m6 9 rfl) rfl
theorem q1360 : (Jvm.Cond.methodLink "SillBridges" (382 : Nat) ({ cls := "SillBridges$Spot", name := "number", desc := "()I" } : Jvm.MethodName)) ∈ lw_all := lw_g (lw_at lw_m6 17 rfl) rfl
theorem q1364 : (Jvm.Cond.methodLink "SillBridges" (384 : Nat) ({ cls := "SillBridges", name := "see", desc := "(II)V" } : Jvm.MethodName)) ∈ lw_all := lw_g (lw_at lw_m6 21 rfl) rfl
theorem q1365 : (Jvm.Cond.privateMethod ({ cls := "SillBridges", name := "see", desc := "(II)V" } : Jvm.MethodName)) ∈ lw_tbl := lw_at lw_m6 22 rfl
theorem q1366 : (Jvm.Cond.instanceMethod ({ cls := "SillBridges", name := "see", desc := "(II)V" } : Jvm.MethodName)) ∈ lw_all := lw_g (lw_at lw_m6 23 rfl) rfl
theorem q1367 : (Jvm.Cond.code ({ cls := "SillBridges", name := "see", desc := "(II)V" } : Jvm.MethodName) prog_1_method_50_code (3 : Nat) (Option.none : Option Jvm.ClassFile.FieldType)) ∈ lw_all := lw_g (lw_at lw_m6 24 rfl) rfl
theorem q1368 : (Jvm.Cond.methodLink "SillBridges" (399 : Nat) ({ cls := "SillBridges", name := "spread", desc := "(I)V" } : Jvm.MethodName)) ∈ lw_all := lw_g (lw_at lw_m6 25 rfl) rfl
theorem q1369 : (Jvm.Cond.privateMethod ({ cls := "SillBridges", name := "spread", desc := "(I)V" } : Jvm.MethodName)) ∈ lw_tbl := lw_at lw_m6 26 rfl
theorem q1370 : (Jvm.Cond.instanceMethod ({ cls := "SillBridges", name := "spread", desc := "(I)V" } : Jvm.MethodName)) ∈ lw_all := lw_g (lw_at lw_m6 27 rfl) rfl
theorem q1371 : (Jvm.Cond.code ({ cls := "SillBridges", name := "spread", desc := "(I)V" } : Jvm.MethodName) prog_1_method_52_code (3 : Nat) (Option.none : Option Jvm.ClassFile.FieldType)) ∈ lw_all := lw_g (lw_at lw_m6 28 rfl) rfl
theorem q1372 : (Jvm.Cond.methodLink "SillBridges" (391 : Nat) ({ cls := "SillBridges$Spot", name := "be", desc := "(I)V" } : Jvm.MethodName)) ∈ lw_all := lw_g (lw_at lw_m6 29 rfl) rfl
theorem q1376 : (Jvm.Cond.methodLink "SillBridges" (393 : Nat) ({ cls := "SillBridges$Moves", name := "does", desc := "(LSillBridges$Spot;I)Z" } : Jvm.MethodName)) ∈ lw_all := lw_g (lw_at lw_m6 33 rfl) rfl
theorem q1381 : (Jvm.Cond.constant "SillBridges" (407 : Nat) (2147483647 : Int32)) ∈ lw_all := lw_g (lw_at lw_m6 38 rfl) rfl
theorem q1382 : (Jvm.Cond.methodLink "SillBridges" (408 : Nat) ({ cls := "SillBridges$Moves", name := "toll", desc := "(LSillBridges$Town;I)I" } : Jvm.MethodName)) ∈ lw_all := lw_g (lw_at lw_m6 39 rfl) rfl
theorem q1386 : (Jvm.Cond.methodLink "SillBridges" (411 : Nat) ({ cls := "SillBridges$Moves", name := "minutes", desc := "(LSillBridges$Town;I)I" } : Jvm.MethodName)) ∈ lw_all := lw_g (lw_at lw_m6 43 rfl) rfl
theorem q1390 : (Jvm.Cond.methodLink "SillBridges" (420 : Nat) ({ cls := "SillBridges", name := "findDone", desc := "()I" } : Jvm.MethodName)) ∈ lw_all := lw_g (lw_at lw_m6 47 rfl) rfl
theorem q1391 : (Jvm.Cond.privateMethod ({ cls := "SillBridges", name := "findDone", desc := "()I" } : Jvm.MethodName)) ∈ lw_tbl := lw_at lw_m6 48 rfl
theorem q1392 : (Jvm.Cond.instanceMethod ({ cls := "SillBridges", name := "findDone", desc := "()I" } : Jvm.MethodName)) ∈ lw_all := lw_g (lw_at lw_m6 49 rfl) rfl
theorem q1393 : (Jvm.Cond.code ({ cls := "SillBridges", name := "findDone", desc := "()I" } : Jvm.MethodName) prog_1_method_54_code (2 : Nat) (Option.some Jvm.ClassFile.FieldType.int)) ∈ lw_all := lw_g (lw_at lw_m6 50 rfl) rfl
theorem q1395 : (Jvm.Cond.instanceMethod ({ cls := "SillBridges", name := "first", desc := "()I" } : Jvm.MethodName)) ∈ lw_all := lw_g (lw_at lw_m6 52 rfl) rfl
theorem q1396 : (Jvm.Cond.selects "SillBridges" ({ cls := "SillBridges", name := "first", desc := "()I" } : Jvm.MethodName) ({ cls := "SillBridges", name := "first", desc := "()I" } : Jvm.MethodName)) ∈ lw_all := lw_g (lw_at lw_m6 53 rfl) rfl
theorem q1397 : (Jvm.Cond.code ({ cls := "SillBridges", name := "first", desc := "()I" } : Jvm.MethodName) prog_1_method_57_code (5 : Nat) (Option.some Jvm.ClassFile.FieldType.int)) ∈ lw_all := lw_g (lw_at lw_m6 54 rfl) rfl
theorem q1398 : (Jvm.Cond.methodLink "SillBridges" (423 : Nat) ({ cls := "SillBridges", name := "isGood", desc := "(II)Z" } : Jvm.MethodName)) ∈ lw_all := lw_g (lw_at lw_m6 55 rfl) rfl
theorem q1399 : (Jvm.Cond.privateMethod ({ cls := "SillBridges", name := "isGood", desc := "(II)Z" } : Jvm.MethodName)) ∈ lw_tbl := lw_at lw_m6 56 rfl
theorem q1400 : (Jvm.Cond.instanceMethod ({ cls := "SillBridges", name := "isGood", desc := "(II)Z" } : Jvm.MethodName)) ∈ lw_all := lw_g (lw_at lw_m6 57 rfl) rfl
theorem q1401 : (Jvm.Cond.code ({ cls := "SillBridges", name := "isGood", desc := "(II)Z" } : Jvm.MethodName) prog_1_method_58_code (5 : Nat) (Option.some Jvm.ClassFile.FieldType.boolean)) ∈ lw_all := lw_g (lw_at lw_m6 58 rfl) rfl
theorem q1402 : (Jvm.Cond.methodLink "SillBridges" (426 : Nat) ({ cls := "SillBridges", name := "step", desc := "(II)I" } : Jvm.MethodName)) ∈ lw_all := lw_g (lw_at lw_m6 59 rfl) rfl
theorem q1403 : (Jvm.Cond.privateMethod ({ cls := "SillBridges", name := "step", desc := "(II)I" } : Jvm.MethodName)) ∈ lw_tbl := lw_at lw_m6 60 rfl
theorem q1404 : (Jvm.Cond.instanceMethod ({ cls := "SillBridges", name := "step", desc := "(II)I" } : Jvm.MethodName)) ∈ lw_all := lw_g (lw_at lw_m6 61 rfl) rfl
theorem q1405 : (Jvm.Cond.code ({ cls := "SillBridges", name := "step", desc := "(II)I" } : Jvm.MethodName) prog_1_method_59_code (5 : Nat) (Option.some Jvm.ClassFile.FieldType.int)) ∈ lw_all := lw_g (lw_at lw_m6 62 rfl) rfl
theorem q1407 : (Jvm.Cond.instanceMethod ({ cls := "SillBridges", name := "firstAt", desc := "(II)I" } : Jvm.MethodName)) ∈ lw_all := lw_g (lw_at lw_m6 64 rfl) rfl
theorem q1408 : (Jvm.Cond.selects "SillBridges" ({ cls := "SillBridges", name := "firstAt", desc := "(II)I" } : Jvm.MethodName) ({ cls := "SillBridges", name := "firstAt", desc := "(II)I" } : Jvm.MethodName)) ∈ lw_all := lw_g (lw_at lw_m6 65 rfl) rfl
theorem q1409 : (Jvm.Cond.code ({ cls := "SillBridges", name := "firstAt", desc := "(II)I" } : Jvm.MethodName) prog_1_method_60_code (4 : Nat) (Option.some Jvm.ClassFile.FieldType.int)) ∈ lw_all := lw_g (lw_at lw_m6 66 rfl) rfl
theorem q1411 : (Jvm.Cond.instanceMethod ({ cls := "SillBridges", name := "reach", desc := "(I)I" } : Jvm.MethodName)) ∈ lw_all := lw_g (lw_at lw_m6 68 rfl) rfl
theorem q1412 : (Jvm.Cond.selects "SillBridges" ({ cls := "SillBridges", name := "reach", desc := "(I)I" } : Jvm.MethodName) ({ cls := "SillBridges", name := "reach", desc := "(I)I" } : Jvm.MethodName)) ∈ lw_all := lw_g (lw_at lw_m6 69 rfl) rfl
theorem q1413 : (Jvm.Cond.code ({ cls := "SillBridges", name := "reach", desc := "(I)I" } : Jvm.MethodName) prog_1_method_61_code (4 : Nat) (Option.some Jvm.ClassFile.FieldType.int)) ∈ lw_all := lw_g (lw_at lw_m6 70 rfl) rfl
theorem q1415 : (Jvm.Cond.instanceMethod ({ cls := "SillBridges", name := "fewest", desc := "(II)I" } : Jvm.MethodName)) ∈ lw_all := lw_g (lw_at lw_m6 72 rfl) rfl
theorem q1416 : (Jvm.Cond.selects "SillBridges" ({ cls := "SillBridges", name := "fewest", desc := "(II)I" } : Jvm.MethodName) ({ cls := "SillBridges", name := "fewest", desc := "(II)I" } : Jvm.MethodName)) ∈ lw_all := lw_g (lw_at lw_m6 73 rfl) rfl
theorem q1417 : (Jvm.Cond.code ({ cls := "SillBridges", name := "fewest", desc := "(II)I" } : Jvm.MethodName) prog_1_method_62_code (4 : Nat) (Option.some Jvm.ClassFile.FieldType.int)) ∈ lw_all := lw_g (lw_at lw_m6 74 rfl) rfl
theorem q1419 : (Jvm.Cond.instanceMethod ({ cls := "SillBridges", name := "states", desc := "()I" } : Jvm.MethodName)) ∈ lw_all := lw_g (lw_at lw_m6 76 rfl) rfl
theorem q1420 : (Jvm.Cond.selects "SillBridges" ({ cls := "SillBridges", name := "states", desc := "()I" } : Jvm.MethodName) ({ cls := "SillBridges", name := "states", desc := "()I" } : Jvm.MethodName)) ∈ lw_all := lw_g (lw_at lw_m6 77 rfl) rfl
theorem q1421 : (Jvm.Cond.code ({ cls := "SillBridges", name := "states", desc := "()I" } : Jvm.MethodName) prog_1_method_63_code (1 : Nat) (Option.some Jvm.ClassFile.FieldType.int)) ∈ lw_all := lw_g (lw_at lw_m6 78 rfl) rfl
theorem q1423 : (Jvm.Cond.instanceMethod ({ cls := "SillBridges", name := "most", desc := "(I)I" } : Jvm.MethodName)) ∈ lw_all := lw_g (lw_at lw_m6 80 rfl) rfl
theorem q1424 : (Jvm.Cond.selects "SillBridges" ({ cls := "SillBridges", name := "most", desc := "(I)I" } : Jvm.MethodName) ({ cls := "SillBridges", name := "most", desc := "(I)I" } : Jvm.MethodName)) ∈ lw_all := lw_g (lw_at lw_m6 81 rfl) rfl
theorem q1425 : (Jvm.Cond.code ({ cls := "SillBridges", name := "most", desc := "(I)I" } : Jvm.MethodName) prog_1_method_64_code (6 : Nat) (Option.some Jvm.ClassFile.FieldType.int)) ∈ lw_all := lw_g (lw_at lw_m6 82 rfl) rfl
theorem q1426 : (Jvm.Cond.methodLink "SillBridges" (445 : Nat) ({ cls := "java/lang/Math", name := "max", desc := "(II)I" } : Jvm.MethodName)) ∈ lw_all := lw_g (lw_at lw_m6 83 rfl) rfl
theorem q1428 : (Jvm.Cond.instanceMethod ({ cls := "SillBridges", name := "lost", desc := "()I" } : Jvm.MethodName)) ∈ lw_all := lw_g (lw_at lw_m6 85 rfl) rfl
theorem q1429 : (Jvm.Cond.selects "SillBridges" ({ cls := "SillBridges", name := "lost", desc := "()I" } : Jvm.MethodName) ({ cls := "SillBridges", name := "lost", desc := "()I" } : Jvm.MethodName)) ∈ lw_all := lw_g (lw_at lw_m6 86 rfl) rfl
theorem q1430 : (Jvm.Cond.code ({ cls := "SillBridges", name := "lost", desc := "()I" } : Jvm.MethodName) prog_1_method_67_code (3 : Nat) (Option.some Jvm.ClassFile.FieldType.int)) ∈ lw_all := lw_g (lw_at lw_m6 87 rfl) rfl
theorem q1431 : (Jvm.Cond.methodLink "SillBridges" (451 : Nat) ({ cls := "SillBridges", name := "findGood", desc := "()V" } : Jvm.MethodName)) ∈ lw_all := lw_g (lw_at lw_m6 88 rfl) rfl
theorem q1432 : (Jvm.Cond.privateMethod ({ cls := "SillBridges", name := "findGood", desc := "()V" } : Jvm.MethodName)) ∈ lw_tbl := lw_at lw_m6 89 rfl
theorem q1433 : (Jvm.Cond.instanceMethod ({ cls := "SillBridges", name := "findGood", desc := "()V" } : Jvm.MethodName)) ∈ lw_all := lw_g (lw_at lw_m6 90 rfl) rfl
theorem q1434 : (Jvm.Cond.code ({ cls := "SillBridges", name := "findGood", desc := "()V" } : Jvm.MethodName) prog_1_method_65_code (3 : Nat) (Option.none : Option Jvm.ClassFile.FieldType)) ∈ lw_all := lw_g (lw_at lw_m6 91 rfl) rfl
theorem q1435 : (Jvm.Cond.methodLink "SillBridges" (448 : Nat) ({ cls := "SillBridges", name := "leadsToGood", desc := "(I)Z" } : Jvm.MethodName)) ∈ lw_all := lw_g (lw_at lw_m6 92 rfl) rfl
theorem q1436 : (Jvm.Cond.privateMethod ({ cls := "SillBridges", name := "leadsToGood", desc := "(I)Z" } : Jvm.MethodName)) ∈ lw_tbl := lw_at lw_m6 93 rfl
theorem q1437 : (Jvm.Cond.instanceMethod ({ cls := "SillBridges", name := "leadsToGood", desc := "(I)Z" } : Jvm.MethodName)) ∈ lw_all := lw_g (lw_at lw_m6 94 rfl) rfl
theorem q1438 : (Jvm.Cond.code ({ cls := "SillBridges", name := "leadsToGood", desc := "(I)Z" } : Jvm.MethodName) prog_1_method_66_code (3 : Nat) (Option.some Jvm.ClassFile.FieldType.boolean)) ∈ lw_all := lw_g (lw_at lw_m6 95 rfl) rfl
theorem q1440 : (Jvm.Cond.instanceMethod ({ cls := "SillBridges", name := "safe", desc := "()I" } : Jvm.MethodName)) ∈ lw_all := lw_g (lw_at lw_m6 97 rfl) rfl
theorem q1441 : (Jvm.Cond.selects "SillBridges" ({ cls := "SillBridges", name := "safe", desc := "()I" } : Jvm.MethodName) ({ cls := "SillBridges", name := "safe", desc := "()I" } : Jvm.MethodName)) ∈ lw_all := lw_g (lw_at lw_m6 98 rfl) rfl
theorem q1442 : (Jvm.Cond.code ({ cls := "SillBridges", name := "safe", desc := "()I" } : Jvm.MethodName) prog_1_method_68_code (3 : Nat) (Option.some Jvm.ClassFile.FieldType.int)) ∈ lw_all := lw_g (lw_at lw_m6 99 rfl) rfl
theorem q1444 : (Jvm.Cond.instanceMethod ({ cls := "SillBridges", name := "free", desc := "()I" } : Jvm.MethodName)) ∈ lw_all := lw_g (lw_at lw_m6 101 rfl) rfl
theorem q1445 : (Jvm.Cond.selects "SillBridges" ({ cls := "SillBridges", name := "free", desc := "()I" } : Jvm.MethodName) ({ cls := "SillBridges", name := "free", desc := "()I" } : Jvm.MethodName)) ∈ lw_all := lw_g (lw_at lw_m6 102 rfl) rfl
theorem q1446 : (Jvm.Cond.code ({ cls := "SillBridges", name := "free", desc := "()I" } : Jvm.MethodName) prog_1_method_69_code (4 : Nat) (Option.some Jvm.ClassFile.FieldType.int)) ∈ lw_all := lw_g (lw_at lw_m6 103 rfl) rfl
theorem q1448 : (Jvm.Cond.instanceMethod ({ cls := "SillBridges", name := "needed", desc := "()I" } : Jvm.MethodName)) ∈ lw_all := lw_g (lw_at lw_m6 105 rfl) rfl
theorem q1449 : (Jvm.Cond.selects "SillBridges" ({ cls := "SillBridges", name := "needed", desc := "()I" } : Jvm.MethodName) ({ cls := "SillBridges", name := "needed", desc := "()I" } : Jvm.MethodName)) ∈ lw_all := lw_g (lw_at lw_m6 106 rfl) rfl
theorem q1450 : (Jvm.Cond.code ({ cls := "SillBridges", name := "needed", desc := "()I" } : Jvm.MethodName) prog_1_method_71_code (3 : Nat) (Option.some Jvm.ClassFile.FieldType.int)) ∈ lw_all := lw_g (lw_at lw_m6 107 rfl) rfl
theorem q1451 : (Jvm.Cond.methodLink "SillBridges" (463 : Nat) ({ cls := "SillBridges", name := "canBe", desc := "(III)Z" } : Jvm.MethodName)) ∈ lw_all := lw_g (lw_at lw_m6 108 rfl) rfl
theorem q1452 : (Jvm.Cond.privateMethod ({ cls := "SillBridges", name := "canBe", desc := "(III)Z" } : Jvm.MethodName)) ∈ lw_tbl := lw_at lw_m6 109 rfl
theorem q1453 : (Jvm.Cond.instanceMethod ({ cls := "SillBridges", name := "canBe", desc := "(III)Z" } : Jvm.MethodName)) ∈ lw_all := lw_g (lw_at lw_m6 110 rfl) rfl
theorem q1454 : (Jvm.Cond.code ({ cls := "SillBridges", name := "canBe", desc := "(III)Z" } : Jvm.MethodName) prog_1_method_70_code (5 : Nat) (Option.some Jvm.ClassFile.FieldType.boolean)) ∈ lw_all := lw_g (lw_at lw_m6 111 rfl) rfl
theorem q1456 : (Jvm.Cond.instanceMethod ({ cls := "SillBridges", name := "stone", desc := "(I)I" } : Jvm.MethodName)) ∈ lw_all := lw_g (lw_at lw_m6 113 rfl) rfl
theorem q1457 : (Jvm.Cond.selects "SillBridges" ({ cls := "SillBridges", name := "stone", desc := "(I)I" } : Jvm.MethodName) ({ cls := "SillBridges", name := "stone", desc := "(I)I" } : Jvm.MethodName)) ∈ lw_all := lw_g (lw_at lw_m6 114 rfl) rfl
theorem q1458 : (Jvm.Cond.code ({ cls := "SillBridges", name := "stone", desc := "(I)I" } : Jvm.MethodName) prog_1_method_73_code (2 : Nat) (Option.some Jvm.ClassFile.FieldType.int)) ∈ lw_all := lw_g (lw_at lw_m6 115 rfl) rfl
theorem q1459 : (Jvm.Cond.methodLink "SillBridges" (467 : Nat) ({ cls := "SillBridges", name := "leastStone", desc := "(I)I" } : Jvm.MethodName)) ∈ lw_all := lw_g (lw_at lw_m6 116 rfl) rfl
theorem q1460 : (Jvm.Cond.privateMethod ({ cls := "SillBridges", name := "leastStone", desc := "(I)I" } : Jvm.MethodName)) ∈ lw_tbl := lw_at lw_m6 117 rfl
theorem q1461 : (Jvm.Cond.instanceMethod ({ cls := "SillBridges", name := "leastStone", desc := "(I)I" } : Jvm.MethodName)) ∈ lw_all := lw_g (lw_at lw_m6 118 rfl) rfl
theorem q1462 : (Jvm.Cond.code ({ cls := "SillBridges", name := "leastStone", desc := "(I)I" } : Jvm.MethodName) prog_1_method_72_code (5 : Nat) (Option.some Jvm.ClassFile.FieldType.int)) ∈ lw_all := lw_g (lw_at lw_m6 119 rfl) rfl
theorem q1464 : (Jvm.Cond.instanceMethod ({ cls := "SillBridges", name := "bestStone", desc := "(I)I" } : Jvm.MethodName)) ∈ lw_all := lw_g (lw_at lw_m6 121 rfl) rfl
theorem q1465 : (Jvm.Cond.selects "SillBridges" ({ cls := "SillBridges", name := "bestStone", desc := "(I)I" } : Jvm.MethodName) ({ cls := "SillBridges", name := "bestStone", desc := "(I)I" } : Jvm.MethodName)) ∈ lw_all := lw_g (lw_at lw_m6 122 rfl) rfl
theorem q1466 : (Jvm.Cond.code ({ cls := "SillBridges", name := "bestStone", desc := "(I)I" } : Jvm.MethodName) prog_1_method_74_code (6 : Nat) (Option.some Jvm.ClassFile.FieldType.int)) ∈ lw_all := lw_g (lw_at lw_m6 123 rfl) rfl
theorem q1468 : (Jvm.Cond.instanceMethod ({ cls := "SillBridges", name := "rope", desc := "(III)I" } : Jvm.MethodName)) ∈ lw_all := lw_g (lw_at lw_m6 125 rfl) rfl
theorem q1469 : (Jvm.Cond.selects "SillBridges" ({ cls := "SillBridges", name := "rope", desc := "(III)I" } : Jvm.MethodName) ({ cls := "SillBridges", name := "rope", desc := "(III)I" } : Jvm.MethodName)) ∈ lw_all := lw_g (lw_at lw_m6 126 rfl) rfl
theorem q1470 : (Jvm.Cond.codeWith ({ cls := "SillBridges", name := "rope", desc := "(III)I" } : Jvm.MethodName) prog_1_method_75_code (9 : Nat) (Option.some Jvm.ClassFile.FieldType.int) [((5 : Nat), (243 : Nat), (244 : Nat), (41 : Nat))]) ∈ lw_all := lw_g (lw_at lw_m6 127 rfl) rfl
theorem q1471 : (Jvm.Cond.constantLong "SillBridges" (470 : Nat) (30 : Int64)) ∈ lw_all := lw_g (lw_at lw_m6 128 rfl) rfl
theorem q1472 : (Jvm.Cond.methodLink "SillBridges" (472 : Nat) ({ cls := "SillBridges", name := "sizeOf", desc := "(Ljava/lang/Object;)I" } : Jvm.MethodName)) ∈ lw_all := lw_g (lw_at lw_m6 129 rfl) rfl
theorem q1473 : (Jvm.Cond.static ({ cls := "SillBridges", name := "sizeOf", desc := "(Ljava/lang/Object;)I" } : Jvm.MethodName)) ∈ lw_all := lw_g (lw_at lw_m6 130 rfl) rfl
theorem q1474 : (Jvm.Cond.code ({ cls := "SillBridges", name := "sizeOf", desc := "(Ljava/lang/Object;)I" } : Jvm.MethodName) prog_1_method_3_code (2 : Nat) (Option.some Jvm.ClassFile.FieldType.int)) ∈ lw_all := lw_g (lw_at lw_m6 131 rfl) rfl
theorem q1475 : (Jvm.Cond.constantLong "SillBridges" (475 : Nat) (9999 : Int64)) ∈ lw_all := lw_g (lw_at lw_m6 132 rfl) rfl
theorem q1476 : (Jvm.Cond.methodLink "SillBridges" (477 : Nat) ({ cls := "java/lang/Math", name := "min", desc := "(II)I" } : Jvm.MethodName)) ∈ lw_all := lw_g (lw_at lw_m6 133 rfl) rfl
theorem q1478 : (Jvm.Cond.instanceMethod ({ cls := "SillBridges", name := "run", desc := "(I)I" } : Jvm.MethodName)) ∈ lw_all := lw_g (lw_at lw_m6 135 rfl) rfl
theorem q1479 : (Jvm.Cond.selects "SillBridges" ({ cls := "SillBridges", name := "run", desc := "(I)I" } : Jvm.MethodName) ({ cls := "SillBridges", name := "run", desc := "(I)I" } : Jvm.MethodName)) ∈ lw_all := lw_g (lw_at lw_m6 136 rfl) rfl
theorem q1480 : (Jvm.Cond.code ({ cls := "SillBridges", name := "run", desc := "(I)I" } : Jvm.MethodName) prog_1_method_77_code (2 : Nat) (Option.some Jvm.ClassFile.FieldType.int)) ∈ lw_all := lw_g (lw_at lw_m6 137 rfl) rfl
theorem q1481 : (Jvm.Cond.methodLink "SillBridges" (487 : Nat) ({ cls := "SillBridges", name := "runOnce", desc := "(I)V" } : Jvm.MethodName)) ∈ lw_all := lw_g (lw_at lw_m6 138 rfl) rfl
theorem q1482 : (Jvm.Cond.privateMethod ({ cls := "SillBridges", name := "runOnce", desc := "(I)V" } : Jvm.MethodName)) ∈ lw_tbl := lw_at lw_m6 139 rfl
theorem q1483 : (Jvm.Cond.instanceMethod ({ cls := "SillBridges", name := "runOnce", desc := "(I)V" } : Jvm.MethodName)) ∈ lw_all := lw_g (lw_at lw_m6 140 rfl) rfl
theorem q1484 : (Jvm.Cond.code ({ cls := "SillBridges", name := "runOnce", desc := "(I)V" } : Jvm.MethodName) prog_1_method_76_code (2 : Nat) (Option.none : Option Jvm.ClassFile.FieldType)) ∈ lw_all := lw_g (lw_at lw_m6 141 rfl) rfl
theorem q1485 : (Jvm.Cond.methodLink "SillBridges" (480 : Nat) ({ cls := "SillBridges$Running", name := "begin", desc := "(LSillBridges$Spot;I)V" } : Jvm.MethodName)) ∈ lw_all := lw_g (lw_at lw_m6 142 rfl) rfl
theorem q1490 : (Jvm.Cond.methodLink "SillBridges" (483 : Nat) ({ cls := "SillBridges$Loop", name := "all", desc := "(LSillBridges$Running;)V" } : Jvm.MethodName)) ∈ lw_all := lw_g (lw_at lw_m6 147 rfl) rfl
theorem q1546 : (Jvm.Cond.instanceMethod ({ cls := "SillBridges", name := "ran", desc := "(I)I" } : Jvm.MethodName)) ∈ lw_all := lw_g (lw_at lw_m6 203 rfl) rfl
theorem q1547 : (Jvm.Cond.selects "SillBridges" ({ cls := "SillBridges", name := "ran", desc := "(I)I" } : Jvm.MethodName) ({ cls := "SillBridges", name := "ran", desc := "(I)I" } : Jvm.MethodName)) ∈ lw_all := lw_g (lw_at lw_m6 204 rfl) rfl
theorem q1548 : (Jvm.Cond.code ({ cls := "SillBridges", name := "ran", desc := "(I)I" } : Jvm.MethodName) prog_1_method_78_code (2 : Nat) (Option.some Jvm.ClassFile.FieldType.int)) ∈ lw_all := lw_g (lw_at lw_m6 205 rfl) rfl
theorem q1549 : (Jvm.Cond.constantLong "SillBridges" (510 : Nat) (5 : Int64)) ∈ lw_all := lw_g (lw_at lw_m6 206 rfl) rfl
theorem q1551 : (Jvm.Cond.instanceMethod ({ cls := "SillBridges", name := "ranAt", desc := "(I)I" } : Jvm.MethodName)) ∈ lw_all := lw_g (lw_at lw_m6 208 rfl) rfl
theorem q1552 : (Jvm.Cond.selects "SillBridges" ({ cls := "SillBridges", name := "ranAt", desc := "(I)I" } : Jvm.MethodName) ({ cls := "SillBridges", name := "ranAt", desc := "(I)I" } : Jvm.MethodName)) ∈ lw_all := lw_g (lw_at lw_m6 209 rfl) rfl
theorem q1553 : (Jvm.Cond.code ({ cls := "SillBridges", name := "ranAt", desc := "(I)I" } : Jvm.MethodName) prog_1_method_79_code (2 : Nat) (Option.some Jvm.ClassFile.FieldType.int)) ∈ lw_all := lw_g (lw_at lw_m6 210 rfl) rfl
theorem q1555 : (Jvm.Cond.instanceMethod ({ cls := "SillBridges", name := "odds", desc := "(II)Z" } : Jvm.MethodName)) ∈ lw_all := lw_g (lw_at lw_m6 212 rfl) rfl
theorem q1556 : (Jvm.Cond.selects "SillBridges" ({ cls := "SillBridges", name := "odds", desc := "(II)Z" } : Jvm.MethodName) ({ cls := "SillBridges", name := "odds", desc := "(II)Z" } : Jvm.MethodName)) ∈ lw_all := lw_g (lw_at lw_m6 213 rfl) rfl
theorem q1557 : (Jvm.Cond.code ({ cls := "SillBridges", name := "odds", desc := "(II)Z" } : Jvm.MethodName) prog_1_method_80_code (5 : Nat) (Option.some Jvm.ClassFile.FieldType.boolean)) ∈ lw_all := lw_g (lw_at lw_m6 214 rfl) rfl
theorem q1558 : (Jvm.Cond.methodLink "SillBridges" (512 : Nat) ({ cls := "SillBridges", name := "fraction", desc := "(JJ)I" } : Jvm.MethodName)) ∈ lw_all := lw_g (lw_at lw_m6 215 rfl) rfl
theorem q1559 : (Jvm.Cond.privateMethod ({ cls := "SillBridges", name := "fraction", desc := "(JJ)I" } : Jvm.MethodName)) ∈ lw_tbl := lw_at lw_m6 216 rfl
theorem q1560 : (Jvm.Cond.instanceMethod ({ cls := "SillBridges", name := "fraction", desc := "(JJ)I" } : Jvm.MethodName)) ∈ lw_all := lw_g (lw_at lw_m6 217 rfl) rfl
theorem q1561 : (Jvm.Cond.code ({ cls := "SillBridges", name := "fraction", desc := "(JJ)I" } : Jvm.MethodName) prog_1_method_13_code (11 : Nat) (Option.some Jvm.ClassFile.FieldType.int)) ∈ lw_all := lw_g (lw_at lw_m6 218 rfl) rfl
theorem q1562 : (Jvm.Cond.methodLink "SillBridges" (123 : Nat) ({ cls := "java/lang/Math", name := "abs", desc := "(J)J" } : Jvm.MethodName)) ∈ lw_all := lw_g (lw_at lw_m6 219 rfl) rfl
theorem q1565 : (Jvm.Cond.methodLink "SillBridges" (129 : Nat) ({ cls := "java/lang/Long", name := "signum", desc := "(J)I" } : Jvm.MethodName)) ∈ lw_all := lw_g (lw_at lw_m6 222 rfl) rfl
theorem q1569 : (Jvm.Cond.instanceMethod ({ cls := "SillBridges", name := "mark", desc := "()I" } : Jvm.MethodName)) ∈ lw_all := lw_g (lw_at lw_m6 226 rfl) rfl
theorem q1570 : (Jvm.Cond.selects "SillBridges" ({ cls := "SillBridges", name := "mark", desc := "()I" } : Jvm.MethodName) ({ cls := "SillBridges", name := "mark", desc := "()I" } : Jvm.MethodName)) ∈ lw_all := lw_g (lw_at lw_m6 227 rfl) rfl
theorem q1571 : (Jvm.Cond.code ({ cls := "SillBridges", name := "mark", desc := "()I" } : Jvm.MethodName) prog_1_method_81_code (1 : Nat) (Option.some Jvm.ClassFile.FieldType.int)) ∈ lw_all := lw_g (lw_at lw_m6 228 rfl) rfl
theorem q1572 : (Jvm.Cond.methodLink "SillBridges" (519 : Nat) ({ cls := "SillBridges$House", name := "be", desc := "(LSillBridges$House;)V" } : Jvm.MethodName)) ∈ lw_all := lw_g (lw_at lw_m6 229 rfl) rfl
theorem q1578 : (Jvm.Cond.instanceMethod ({ cls := "SillBridges", name := "back", desc := "()I" } : Jvm.MethodName)) ∈ lw_all := lw_g (lw_at lw_m6 235 rfl) rfl
theorem q1579 : (Jvm.Cond.selects "SillBridges" ({ cls := "SillBridges", name := "back", desc := "()I" } : Jvm.MethodName) ({ cls := "SillBridges", name := "back", desc := "()I" } : Jvm.MethodName)) ∈ lw_all := lw_g (lw_at lw_m6 236 rfl) rfl
theorem q1580 : (Jvm.Cond.code ({ cls := "SillBridges", name := "back", desc := "()I" } : Jvm.MethodName) prog_1_method_82_code (1 : Nat) (Option.some Jvm.ClassFile.FieldType.int)) ∈ lw_all := lw_g (lw_at lw_m6 237 rfl) rfl
theorem in_X0 : ∀ w ∈ wsX00, w ∈ lw_all := lw_in wsX00 [517, 519, 521, 523, 525, 527, 529, 531, 533, 535, 537, 539, 541, 543, 545, 547, 549, 551, 553, 555, 557, 559, 561, 563, 565, 567, 569, 571] (by decide +kernel) (by decide +kernel)
