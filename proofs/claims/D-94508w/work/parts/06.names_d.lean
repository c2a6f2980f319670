/-! SillBridgesModel -/
set_option maxRecDepth 100000
def RX9 : String := "SillBridgesModel"
def TX9 : u_T := fun k => match k with
  | 0 => ("SillBridgesModel", "at", "[I", true)
  | 1 => ("SillBridgesModel", "names", "[J", true)
  | 2 => ("SillBridgesModel", "status", "I", false)
  | 3 => ("SillBridgesModel", "top", "J", false)
  | 4 => ("SillBridgesModel", "bottom", "J", false)
  | 5 => ("SillBridgesModel", "sort", "[I", true)
  | 6 => ("SillBridgesModel", "trayMany", "[I", true)
  | 7 => ("SillBridgesModel", "trays", "[J", true)
  | 8 => ("SillBridgesModel", "tape", "[B", true)
  | 9 => ("SillBridgesModel", "text", "[B", true)
  | 10 => ("SillBridgesModel", "taped", "I", false)
  | 11 => ("SillBridgesModel", "size", "I", false)
  | 12 => ("SillBridgesModel", "token", "I", false)
  | 13 => ("SillBridgesModel", "from", "I", false)
  | 14 => ("SillBridgesModel", "end", "I", false)
  | 15 => ("SillBridgesModel", "value", "I", false)
  | 16 => ("SillBridgesModel", "faultKind", "I", false)
  | 17 => ("SillBridgesModel", "faultPlace", "I", false)
  | 18 => ("SillBridgesModel", "faults", "I", false)
  | 19 => ("SillBridgesModel", "seen", "I", false)
  | 20 => ("SillBridgesModel", "found", "I", false)
  | 21 => ("SillBridgesModel", "opened", "[I", true)
  | 22 => ("SillBridgesModel", "depth", "I", false)
  | 23 => ("SillBridgesModel", "counted", "I", false)
  | 24 => ("SillBridgesModel", "now", "[I", true)
  | 25 => ("SillBridgesModel", "lies", "[I", true)
  | 26 => ("SillBridgesModel", "without", "I", false)
  | 27 => ("SillBridgesModel", "more", "I", false)
  | 28 => ("SillBridgesModel", "moreAt", "I", false)
  | 29 => ("SillBridgesModel", "moveKind", "[I", true)
  | 30 => ("SillBridgesModel", "moveOne", "[I", true)
  | 31 => ("SillBridgesModel", "moveTwo", "[I", true)
  | 32 => ("SillBridgesModel", "moveThird", "[I", true)
  | 33 => ("SillBridgesModel", "moveMany", "I", false)
  | 34 => ("SillBridgesModel", "far", "[I", true)
  | 35 => ("SillBridgesModel", "come", "[I", true)
  | 36 => ("SillBridgesModel", "good", "[Z", true)
  | 37 => ("SillBridgesModel", "comeMany", "I", false)
  | 38 => ("SillBridgesModel", "startCode", "I", false)
  | 39 => ("SillBridgesModel", "firstMany", "I", false)
  | 40 => ("SillBridgesModel", "way", "[I", true)
  | 41 => ("SillBridgesModel", "drawn", "I", false)
  | 42 => ("SillBridgesModel", "ranSteps", "I", false)
  | 43 => ("SillBridgesModel", "ranMoves", "I", false)
  | 44 => ("SillBridgesModel", "ranMissed", "I", false)
  | 45 => ("SillBridgesModel", "ranSlipped", "I", false)
  | 46 => ("SillBridgesModel", "ranToll", "I", false)
  | 47 => ("SillBridgesModel", "ranMinutes", "I", false)
  | 48 => ("SillBridgesModel", "blows", "Z", false)
  | 49 => ("SillBridgesModel", "rounds", "[I", true)
  | 50 => ("SillBridgesModel", "told0", "[I", true)
  | 51 => ("SillBridgesModel", "endAt", "[I", true)
  | 52 => ("SillBridgesModel", "toldPeople", "I", false)
  | _ => ("SillBridgesModel", "marks", "I", false)
def tyX9 : Nat → FieldType := fun k => match k with
  | 0 => .array .int
  | 1 => .array .long
  | 2 => .int
  | 3 => .long
  | 4 => .long
  | 5 => .array .int
  | 6 => .array .int
  | 7 => .array .long
  | 8 => .array .byte
  | 9 => .array .byte
  | 10 => .int
  | 11 => .int
  | 12 => .int
  | 13 => .int
  | 14 => .int
  | 15 => .int
  | 16 => .int
  | 17 => .int
  | 18 => .int
  | 19 => .int
  | 20 => .int
  | 21 => .array .int
  | 22 => .int
  | 23 => .int
  | 24 => .array .int
  | 25 => .array .int
  | 26 => .int
  | 27 => .int
  | 28 => .int
  | 29 => .array .int
  | 30 => .array .int
  | 31 => .array .int
  | 32 => .array .int
  | 33 => .int
  | 34 => .array .int
  | 35 => .array .int
  | 36 => .array .boolean
  | 37 => .int
  | 38 => .int
  | 39 => .int
  | 40 => .array .int
  | 41 => .int
  | 42 => .int
  | 43 => .int
  | 44 => .int
  | 45 => .int
  | 46 => .int
  | 47 => .int
  | 48 => .boolean
  | 49 => .array .int
  | 50 => .array .int
  | 51 => .array .int
  | 52 => .int
  | _ => .int
abbrev wsX90 : List Cond := u_ws RX9 TX9 54
set_option maxRecDepth 100000 in
theorem nmX9 : ∀ a, a < 54 → ∀ b, b < 54 → a ≠ b → (TX9 a).2.1 ≠ (TX9 b).2.1 := by decide +kernel
set_option maxRecDepth 100000 in
theorem tyX9_ok : ∀ k, k < 54 → parseFieldDescriptor (TX9 k).2.2.1 = some (tyX9 k) := by decide +kernel
abbrev cX9_init : ByteArray := prog_21_method_1_code
def yX9_init : MethodName := ⟨RX9, "<init>", "()V"⟩
def dkwX9_init_9 : List UInt8 := [181, 0, 94, 42, 180, 0, 7, 7, 2, 79, 177]
abbrev dktX9_init_9 : List UInt8 := dkwX9_init_9 ++ []
def dkwX9_init_8 : List UInt8 := [188, 10, 181, 0, 85, 42, 16, 6, 188, 10, 181, 0, 88, 42, 7, 188, 10, 181, 0, 91, 42, 2]
abbrev dktX9_init_8 : List UInt8 := dkwX9_init_8 ++ dktX9_init_9
def dkwX9_init_7 : List UInt8 := [42, 18, 68, 188, 4, 181, 0, 75, 42, 2, 181, 0, 79, 42, 18, 68, 188, 10, 181, 0, 82, 42, 16, 80]
abbrev dktX9_init_7 : List UInt8 := dkwX9_init_7 ++ dktX9_init_8
def dkwX9_init_6 : List UInt8 := [42, 16, 100, 188, 10, 181, 0, 65, 42, 18, 68, 188, 10, 181, 0, 69, 42, 18, 68, 188, 10, 181, 0, 72]
abbrev dktX9_init_6 : List UInt8 := dkwX9_init_6 ++ dktX9_init_7
def dkwX9_init_5 : List UInt8 := [42, 16, 100, 188, 10, 181, 0, 56, 42, 16, 100, 188, 10, 181, 0, 59, 42, 16, 100, 188, 10, 181, 0, 62]
abbrev dktX9_init_5 : List UInt8 := dkwX9_init_5 ++ dktX9_init_6
def dkwX9_init_4 : List UInt8 := [188, 10, 181, 0, 44, 42, 7, 188, 10, 181, 0, 47, 42, 5, 188, 10, 181, 0, 50, 42, 2, 181, 0, 53]
abbrev dktX9_init_4 : List UInt8 := dkwX9_init_4 ++ dktX9_init_5
def dkwX9_init_3 : List UInt8 := [181, 0, 30, 42, 17, 3, 132, 188, 8, 181, 0, 34, 42, 2, 181, 0, 37, 42, 2, 181, 0, 41, 42, 6]
abbrev dktX9_init_3 : List UInt8 := dkwX9_init_3 ++ dktX9_init_4
def dkwX9_init_2 : List UInt8 := [2, 79, 89, 6, 2, 79, 181, 0, 24, 42, 17, 0, 240, 188, 11, 181, 0, 27, 42, 17, 3, 132, 188, 8]
abbrev dktX9_init_2 : List UInt8 := dkwX9_init_2 ++ dktX9_init_3
def dkwX9_init_1 : List UInt8 := [181, 0, 17, 42, 7, 188, 10, 181, 0, 21, 42, 7, 188, 10, 89, 3, 2, 79, 89, 4, 2, 79, 89, 5]
abbrev dktX9_init_1 : List UInt8 := dkwX9_init_1 ++ dktX9_init_2
def dkwX9_init_0 : List UInt8 := [42, 183, 0, 1, 42, 17, 8, 102, 188, 10, 181, 0, 7, 42, 16, 100, 188, 11, 181, 0, 13, 42, 10]
abbrev dktX9_init_0 : List UInt8 := dkwX9_init_0 ++ dktX9_init_1
theorem dksX9_init_0 : cX9_init.data.toList.drop 0 = dktX9_init_0 := by decide +kernel
theorem dksX9_init_1 : cX9_init.data.toList.drop 23 = dktX9_init_1 := dk_seg dksX9_init_0 23 rfl rfl
theorem dksX9_init_2 : cX9_init.data.toList.drop 47 = dktX9_init_2 := dk_seg dksX9_init_1 24 rfl rfl
theorem dksX9_init_3 : cX9_init.data.toList.drop 71 = dktX9_init_3 := dk_seg dksX9_init_2 24 rfl rfl
theorem dksX9_init_4 : cX9_init.data.toList.drop 95 = dktX9_init_4 := dk_seg dksX9_init_3 24 rfl rfl
theorem dksX9_init_5 : cX9_init.data.toList.drop 119 = dktX9_init_5 := dk_seg dksX9_init_4 24 rfl rfl
theorem dksX9_init_6 : cX9_init.data.toList.drop 143 = dktX9_init_6 := dk_seg dksX9_init_5 24 rfl rfl
theorem dksX9_init_7 : cX9_init.data.toList.drop 167 = dktX9_init_7 := dk_seg dksX9_init_6 24 rfl rfl
theorem dksX9_init_8 : cX9_init.data.toList.drop 191 = dktX9_init_8 := dk_seg dksX9_init_7 24 rfl rfl
theorem dksX9_init_9 : cX9_init.data.toList.drop 213 = dktX9_init_9 := dk_seg dksX9_init_8 22 rfl rfl
theorem dX9_init_0 : decode cX9_init 0 = .ok (.aload_n 0, 1) := dk_42 (dk_at dksX9_init_0 0 rfl rfl)
theorem dX9_init_1 : decode cX9_init 1 = .ok (.invokespecial 1, 3) := dk_183 0 1 (dk_at dksX9_init_0 1 rfl rfl)
theorem dX9_init_4 : decode cX9_init 4 = .ok (.aload_n 0, 1) := dk_42 (dk_at dksX9_init_0 4 rfl rfl)
theorem dX9_init_5 : decode cX9_init 5 = .ok (.sipush 2150, 3) := dk_17 8 102 (dk_at dksX9_init_0 5 rfl rfl)
theorem dX9_init_8 : decode cX9_init 8 = .ok (.newarray .int, 2) := dk_188_10 (dk_at dksX9_init_0 8 rfl rfl)
theorem dX9_init_10 : decode cX9_init 10 = .ok (.putfield 7, 3) := dk_181 0 7 (dk_at dksX9_init_0 10 rfl rfl)
theorem dX9_init_13 : decode cX9_init 13 = .ok (.aload_n 0, 1) := dk_42 (dk_at dksX9_init_0 13 rfl rfl)
theorem dX9_init_14 : decode cX9_init 14 = .ok (.bipush 100, 2) := dk_16 100 (dk_at dksX9_init_0 14 rfl rfl)
theorem dX9_init_16 : decode cX9_init 16 = .ok (.newarray .long, 2) := dk_188_11 (dk_at dksX9_init_0 16 rfl rfl)
theorem dX9_init_18 : decode cX9_init 18 = .ok (.putfield 13, 3) := dk_181 0 13 (dk_at dksX9_init_0 18 rfl rfl)
theorem dX9_init_21 : decode cX9_init 21 = .ok (.aload_n 0, 1) := dk_42 (dk_at dksX9_init_0 21 rfl rfl)
theorem dX9_init_22 : decode cX9_init 22 = .ok (.lconst 1, 1) := dk_10 (dk_at dksX9_init_0 22 rfl rfl)
theorem dX9_init_23 : decode cX9_init 23 = .ok (.putfield 17, 3) := dk_181 0 17 (dk_at dksX9_init_1 0 rfl rfl)
theorem dX9_init_26 : decode cX9_init 26 = .ok (.aload_n 0, 1) := dk_42 (dk_at dksX9_init_1 3 rfl rfl)
theorem dX9_init_27 : decode cX9_init 27 = .ok (.iconst 4, 1) := dk_7 (dk_at dksX9_init_1 4 rfl rfl)
theorem dX9_init_28 : decode cX9_init 28 = .ok (.newarray .int, 2) := dk_188_10 (dk_at dksX9_init_1 5 rfl rfl)
theorem dX9_init_30 : decode cX9_init 30 = .ok (.putfield 21, 3) := dk_181 0 21 (dk_at dksX9_init_1 7 rfl rfl)
theorem dX9_init_33 : decode cX9_init 33 = .ok (.aload_n 0, 1) := dk_42 (dk_at dksX9_init_1 10 rfl rfl)
theorem dX9_init_34 : decode cX9_init 34 = .ok (.iconst 4, 1) := dk_7 (dk_at dksX9_init_1 11 rfl rfl)
theorem dX9_init_35 : decode cX9_init 35 = .ok (.newarray .int, 2) := dk_188_10 (dk_at dksX9_init_1 12 rfl rfl)
theorem dX9_init_37 : decode cX9_init 37 = .ok (.dup, 1) := dk_89 (dk_at dksX9_init_1 14 rfl rfl)
theorem dX9_init_38 : decode cX9_init 38 = .ok (.iconst 0, 1) := dk_3 (dk_at dksX9_init_1 15 rfl rfl)
theorem dX9_init_39 : decode cX9_init 39 = .ok (.iconst (-1), 1) := dk_2 (dk_at dksX9_init_1 16 rfl rfl)
theorem dX9_init_40 : decode cX9_init 40 = .ok (.iastore, 1) := dk_79 (dk_at dksX9_init_1 17 rfl rfl)
theorem dX9_init_41 : decode cX9_init 41 = .ok (.dup, 1) := dk_89 (dk_at dksX9_init_1 18 rfl rfl)
theorem dX9_init_42 : decode cX9_init 42 = .ok (.iconst 1, 1) := dk_4 (dk_at dksX9_init_1 19 rfl rfl)
theorem dX9_init_43 : decode cX9_init 43 = .ok (.iconst (-1), 1) := dk_2 (dk_at dksX9_init_1 20 rfl rfl)
theorem dX9_init_44 : decode cX9_init 44 = .ok (.iastore, 1) := dk_79 (dk_at dksX9_init_1 21 rfl rfl)
theorem dX9_init_45 : decode cX9_init 45 = .ok (.dup, 1) := dk_89 (dk_at dksX9_init_1 22 rfl rfl)
theorem dX9_init_46 : decode cX9_init 46 = .ok (.iconst 2, 1) := dk_5 (dk_at dksX9_init_1 23 rfl rfl)
theorem dX9_init_47 : decode cX9_init 47 = .ok (.iconst (-1), 1) := dk_2 (dk_at dksX9_init_2 0 rfl rfl)
theorem dX9_init_48 : decode cX9_init 48 = .ok (.iastore, 1) := dk_79 (dk_at dksX9_init_2 1 rfl rfl)
theorem dX9_init_49 : decode cX9_init 49 = .ok (.dup, 1) := dk_89 (dk_at dksX9_init_2 2 rfl rfl)
theorem dX9_init_50 : decode cX9_init 50 = .ok (.iconst 3, 1) := dk_6 (dk_at dksX9_init_2 3 rfl rfl)
theorem dX9_init_51 : decode cX9_init 51 = .ok (.iconst (-1), 1) := dk_2 (dk_at dksX9_init_2 4 rfl rfl)
theorem dX9_init_52 : decode cX9_init 52 = .ok (.iastore, 1) := dk_79 (dk_at dksX9_init_2 5 rfl rfl)
theorem dX9_init_53 : decode cX9_init 53 = .ok (.putfield 24, 3) := dk_181 0 24 (dk_at dksX9_init_2 6 rfl rfl)
theorem dX9_init_56 : decode cX9_init 56 = .ok (.aload_n 0, 1) := dk_42 (dk_at dksX9_init_2 9 rfl rfl)
theorem dX9_init_57 : decode cX9_init 57 = .ok (.sipush 240, 3) := dk_17 0 240 (dk_at dksX9_init_2 10 rfl rfl)
theorem dX9_init_60 : decode cX9_init 60 = .ok (.newarray .long, 2) := dk_188_11 (dk_at dksX9_init_2 13 rfl rfl)
theorem dX9_init_62 : decode cX9_init 62 = .ok (.putfield 27, 3) := dk_181 0 27 (dk_at dksX9_init_2 15 rfl rfl)
theorem dX9_init_65 : decode cX9_init 65 = .ok (.aload_n 0, 1) := dk_42 (dk_at dksX9_init_2 18 rfl rfl)
theorem dX9_init_66 : decode cX9_init 66 = .ok (.sipush 900, 3) := dk_17 3 132 (dk_at dksX9_init_2 19 rfl rfl)
theorem dX9_init_69 : decode cX9_init 69 = .ok (.newarray .byte, 2) := dk_188_8 (dk_at dksX9_init_2 22 rfl rfl)
theorem dX9_init_71 : decode cX9_init 71 = .ok (.putfield 30, 3) := dk_181 0 30 (dk_at dksX9_init_3 0 rfl rfl)
theorem dX9_init_74 : decode cX9_init 74 = .ok (.aload_n 0, 1) := dk_42 (dk_at dksX9_init_3 3 rfl rfl)
theorem dX9_init_75 : decode cX9_init 75 = .ok (.sipush 900, 3) := dk_17 3 132 (dk_at dksX9_init_3 4 rfl rfl)
theorem dX9_init_78 : decode cX9_init 78 = .ok (.newarray .byte, 2) := dk_188_8 (dk_at dksX9_init_3 7 rfl rfl)
theorem dX9_init_80 : decode cX9_init 80 = .ok (.putfield 34, 3) := dk_181 0 34 (dk_at dksX9_init_3 9 rfl rfl)
theorem dX9_init_83 : decode cX9_init 83 = .ok (.aload_n 0, 1) := dk_42 (dk_at dksX9_init_3 12 rfl rfl)
theorem dX9_init_84 : decode cX9_init 84 = .ok (.iconst (-1), 1) := dk_2 (dk_at dksX9_init_3 13 rfl rfl)
theorem dX9_init_85 : decode cX9_init 85 = .ok (.putfield 37, 3) := dk_181 0 37 (dk_at dksX9_init_3 14 rfl rfl)
theorem dX9_init_88 : decode cX9_init 88 = .ok (.aload_n 0, 1) := dk_42 (dk_at dksX9_init_3 17 rfl rfl)
theorem dX9_init_89 : decode cX9_init 89 = .ok (.iconst (-1), 1) := dk_2 (dk_at dksX9_init_3 18 rfl rfl)
theorem dX9_init_90 : decode cX9_init 90 = .ok (.putfield 41, 3) := dk_181 0 41 (dk_at dksX9_init_3 19 rfl rfl)
theorem dX9_init_93 : decode cX9_init 93 = .ok (.aload_n 0, 1) := dk_42 (dk_at dksX9_init_3 22 rfl rfl)
theorem dX9_init_94 : decode cX9_init 94 = .ok (.iconst 3, 1) := dk_6 (dk_at dksX9_init_3 23 rfl rfl)
theorem dX9_init_95 : decode cX9_init 95 = .ok (.newarray .int, 2) := dk_188_10 (dk_at dksX9_init_4 0 rfl rfl)
theorem dX9_init_97 : decode cX9_init 97 = .ok (.putfield 44, 3) := dk_181 0 44 (dk_at dksX9_init_4 2 rfl rfl)
theorem dX9_init_100 : decode cX9_init 100 = .ok (.aload_n 0, 1) := dk_42 (dk_at dksX9_init_4 5 rfl rfl)
theorem dX9_init_101 : decode cX9_init 101 = .ok (.iconst 4, 1) := dk_7 (dk_at dksX9_init_4 6 rfl rfl)
theorem dX9_init_102 : decode cX9_init 102 = .ok (.newarray .int, 2) := dk_188_10 (dk_at dksX9_init_4 7 rfl rfl)
theorem dX9_init_104 : decode cX9_init 104 = .ok (.putfield 47, 3) := dk_181 0 47 (dk_at dksX9_init_4 9 rfl rfl)
theorem dX9_init_107 : decode cX9_init 107 = .ok (.aload_n 0, 1) := dk_42 (dk_at dksX9_init_4 12 rfl rfl)
theorem dX9_init_108 : decode cX9_init 108 = .ok (.iconst 2, 1) := dk_5 (dk_at dksX9_init_4 13 rfl rfl)
theorem dX9_init_109 : decode cX9_init 109 = .ok (.newarray .int, 2) := dk_188_10 (dk_at dksX9_init_4 14 rfl rfl)
theorem dX9_init_111 : decode cX9_init 111 = .ok (.putfield 50, 3) := dk_181 0 50 (dk_at dksX9_init_4 16 rfl rfl)
theorem dX9_init_114 : decode cX9_init 114 = .ok (.aload_n 0, 1) := dk_42 (dk_at dksX9_init_4 19 rfl rfl)
theorem dX9_init_115 : decode cX9_init 115 = .ok (.iconst (-1), 1) := dk_2 (dk_at dksX9_init_4 20 rfl rfl)
theorem dX9_init_116 : decode cX9_init 116 = .ok (.putfield 53, 3) := dk_181 0 53 (dk_at dksX9_init_4 21 rfl rfl)
theorem dX9_init_119 : decode cX9_init 119 = .ok (.aload_n 0, 1) := dk_42 (dk_at dksX9_init_5 0 rfl rfl)
theorem dX9_init_120 : decode cX9_init 120 = .ok (.bipush 100, 2) := dk_16 100 (dk_at dksX9_init_5 1 rfl rfl)
theorem dX9_init_122 : decode cX9_init 122 = .ok (.newarray .int, 2) := dk_188_10 (dk_at dksX9_init_5 3 rfl rfl)
theorem dX9_init_124 : decode cX9_init 124 = .ok (.putfield 56, 3) := dk_181 0 56 (dk_at dksX9_init_5 5 rfl rfl)
theorem dX9_init_127 : decode cX9_init 127 = .ok (.aload_n 0, 1) := dk_42 (dk_at dksX9_init_5 8 rfl rfl)
theorem dX9_init_128 : decode cX9_init 128 = .ok (.bipush 100, 2) := dk_16 100 (dk_at dksX9_init_5 9 rfl rfl)
theorem dX9_init_130 : decode cX9_init 130 = .ok (.newarray .int, 2) := dk_188_10 (dk_at dksX9_init_5 11 rfl rfl)
theorem dX9_init_132 : decode cX9_init 132 = .ok (.putfield 59, 3) := dk_181 0 59 (dk_at dksX9_init_5 13 rfl rfl)
theorem dX9_init_135 : decode cX9_init 135 = .ok (.aload_n 0, 1) := dk_42 (dk_at dksX9_init_5 16 rfl rfl)
theorem dX9_init_136 : decode cX9_init 136 = .ok (.bipush 100, 2) := dk_16 100 (dk_at dksX9_init_5 17 rfl rfl)
theorem dX9_init_138 : decode cX9_init 138 = .ok (.newarray .int, 2) := dk_188_10 (dk_at dksX9_init_5 19 rfl rfl)
theorem dX9_init_140 : decode cX9_init 140 = .ok (.putfield 62, 3) := dk_181 0 62 (dk_at dksX9_init_5 21 rfl rfl)
theorem dX9_init_143 : decode cX9_init 143 = .ok (.aload_n 0, 1) := dk_42 (dk_at dksX9_init_6 0 rfl rfl)
theorem dX9_init_144 : decode cX9_init 144 = .ok (.bipush 100, 2) := dk_16 100 (dk_at dksX9_init_6 1 rfl rfl)
theorem dX9_init_146 : decode cX9_init 146 = .ok (.newarray .int, 2) := dk_188_10 (dk_at dksX9_init_6 3 rfl rfl)
theorem dX9_init_148 : decode cX9_init 148 = .ok (.putfield 65, 3) := dk_181 0 65 (dk_at dksX9_init_6 5 rfl rfl)
theorem dX9_init_151 : decode cX9_init 151 = .ok (.aload_n 0, 1) := dk_42 (dk_at dksX9_init_6 8 rfl rfl)
theorem dX9_init_152 : decode cX9_init 152 = .ok (.ldc 68, 2) := dk_18 68 (dk_at dksX9_init_6 9 rfl rfl)
theorem dX9_init_154 : decode cX9_init 154 = .ok (.newarray .int, 2) := dk_188_10 (dk_at dksX9_init_6 11 rfl rfl)
theorem dX9_init_156 : decode cX9_init 156 = .ok (.putfield 69, 3) := dk_181 0 69 (dk_at dksX9_init_6 13 rfl rfl)
theorem dX9_init_159 : decode cX9_init 159 = .ok (.aload_n 0, 1) := dk_42 (dk_at dksX9_init_6 16 rfl rfl)
theorem dX9_init_160 : decode cX9_init 160 = .ok (.ldc 68, 2) := dk_18 68 (dk_at dksX9_init_6 17 rfl rfl)
theorem dX9_init_162 : decode cX9_init 162 = .ok (.newarray .int, 2) := dk_188_10 (dk_at dksX9_init_6 19 rfl rfl)
theorem dX9_init_164 : decode cX9_init 164 = .ok (.putfield 72, 3) := dk_181 0 72 (dk_at dksX9_init_6 21 rfl rfl)
theorem dX9_init_167 : decode cX9_init 167 = .ok (.aload_n 0, 1) := dk_42 (dk_at dksX9_init_7 0 rfl rfl)
theorem dX9_init_168 : decode cX9_init 168 = .ok (.ldc 68, 2) := dk_18 68 (dk_at dksX9_init_7 1 rfl rfl)
theorem dX9_init_170 : decode cX9_init 170 = .ok (.newarray .boolean, 2) := dk_188_4 (dk_at dksX9_init_7 3 rfl rfl)
theorem dX9_init_172 : decode cX9_init 172 = .ok (.putfield 75, 3) := dk_181 0 75 (dk_at dksX9_init_7 5 rfl rfl)
theorem dX9_init_175 : decode cX9_init 175 = .ok (.aload_n 0, 1) := dk_42 (dk_at dksX9_init_7 8 rfl rfl)
theorem dX9_init_176 : decode cX9_init 176 = .ok (.iconst (-1), 1) := dk_2 (dk_at dksX9_init_7 9 rfl rfl)
theorem dX9_init_177 : decode cX9_init 177 = .ok (.putfield 79, 3) := dk_181 0 79 (dk_at dksX9_init_7 10 rfl rfl)
theorem dX9_init_180 : decode cX9_init 180 = .ok (.aload_n 0, 1) := dk_42 (dk_at dksX9_init_7 13 rfl rfl)
theorem dX9_init_181 : decode cX9_init 181 = .ok (.ldc 68, 2) := dk_18 68 (dk_at dksX9_init_7 14 rfl rfl)
theorem dX9_init_183 : decode cX9_init 183 = .ok (.newarray .int, 2) := dk_188_10 (dk_at dksX9_init_7 16 rfl rfl)
theorem dX9_init_185 : decode cX9_init 185 = .ok (.putfield 82, 3) := dk_181 0 82 (dk_at dksX9_init_7 18 rfl rfl)
theorem dX9_init_188 : decode cX9_init 188 = .ok (.aload_n 0, 1) := dk_42 (dk_at dksX9_init_7 21 rfl rfl)
theorem dX9_init_189 : decode cX9_init 189 = .ok (.bipush 80, 2) := dk_16 80 (dk_at dksX9_init_7 22 rfl rfl)
theorem dX9_init_191 : decode cX9_init 191 = .ok (.newarray .int, 2) := dk_188_10 (dk_at dksX9_init_8 0 rfl rfl)
theorem dX9_init_193 : decode cX9_init 193 = .ok (.putfield 85, 3) := dk_181 0 85 (dk_at dksX9_init_8 2 rfl rfl)
theorem dX9_init_196 : decode cX9_init 196 = .ok (.aload_n 0, 1) := dk_42 (dk_at dksX9_init_8 5 rfl rfl)
theorem dX9_init_197 : decode cX9_init 197 = .ok (.bipush 6, 2) := dk_16 6 (dk_at dksX9_init_8 6 rfl rfl)
theorem dX9_init_199 : decode cX9_init 199 = .ok (.newarray .int, 2) := dk_188_10 (dk_at dksX9_init_8 8 rfl rfl)
theorem dX9_init_201 : decode cX9_init 201 = .ok (.putfield 88, 3) := dk_181 0 88 (dk_at dksX9_init_8 10 rfl rfl)
theorem dX9_init_204 : decode cX9_init 204 = .ok (.aload_n 0, 1) := dk_42 (dk_at dksX9_init_8 13 rfl rfl)
theorem dX9_init_205 : decode cX9_init 205 = .ok (.iconst 4, 1) := dk_7 (dk_at dksX9_init_8 14 rfl rfl)
theorem dX9_init_206 : decode cX9_init 206 = .ok (.newarray .int, 2) := dk_188_10 (dk_at dksX9_init_8 15 rfl rfl)
theorem dX9_init_208 : decode cX9_init 208 = .ok (.putfield 91, 3) := dk_181 0 91 (dk_at dksX9_init_8 17 rfl rfl)
theorem dX9_init_211 : decode cX9_init 211 = .ok (.aload_n 0, 1) := dk_42 (dk_at dksX9_init_8 20 rfl rfl)
theorem dX9_init_212 : decode cX9_init 212 = .ok (.iconst (-1), 1) := dk_2 (dk_at dksX9_init_8 21 rfl rfl)
theorem dX9_init_213 : decode cX9_init 213 = .ok (.putfield 94, 3) := dk_181 0 94 (dk_at dksX9_init_9 0 rfl rfl)
theorem dX9_init_216 : decode cX9_init 216 = .ok (.aload_n 0, 1) := dk_42 (dk_at dksX9_init_9 3 rfl rfl)
theorem dX9_init_217 : decode cX9_init 217 = .ok (.getfield 7, 3) := dk_180 0 7 (dk_at dksX9_init_9 4 rfl rfl)
theorem dX9_init_220 : decode cX9_init 220 = .ok (.iconst 4, 1) := dk_7 (dk_at dksX9_init_9 7 rfl rfl)
theorem dX9_init_221 : decode cX9_init 221 = .ok (.iconst (-1), 1) := dk_2 (dk_at dksX9_init_9 8 rfl rfl)
theorem dX9_init_222 : decode cX9_init 222 = .ok (.iastore, 1) := dk_79 (dk_at dksX9_init_9 9 rfl rfl)
theorem dX9_init_223 : decode cX9_init 223 = .ok (.return_, 1) := dk_177 (dk_at dksX9_init_9 10 rfl rfl)
abbrev cX9_status : ByteArray := prog_21_method_2_code
def yX9_status : MethodName := ⟨RX9, "status", "()I"⟩
theorem dX9_status_0 : decode cX9_status 0 = .ok (.aload_n 0, 1) := by decide +kernel
theorem dX9_status_1 : decode cX9_status 1 = .ok (.getfield 97, 3) := by decide +kernel
theorem dX9_status_4 : decode cX9_status 4 = .ok (.ireturn, 1) := by decide +kernel
abbrev cX9_top : ByteArray := prog_21_method_3_code
def yX9_top : MethodName := ⟨RX9, "top", "()J"⟩
theorem dX9_top_0 : decode cX9_top 0 = .ok (.aload_n 0, 1) := by decide +kernel
theorem dX9_top_1 : decode cX9_top 1 = .ok (.getfield 100, 3) := by decide +kernel
theorem dX9_top_4 : decode cX9_top 4 = .ok (.lreturn, 1) := by decide +kernel
abbrev cX9_bottom : ByteArray := prog_21_method_4_code
def yX9_bottom : MethodName := ⟨RX9, "bottom", "()J"⟩
theorem dX9_bottom_0 : decode cX9_bottom 0 = .ok (.aload_n 0, 1) := by decide +kernel
theorem dX9_bottom_1 : decode cX9_bottom 1 = .ok (.getfield 17, 3) := by decide +kernel
theorem dX9_bottom_4 : decode cX9_bottom 4 = .ok (.lreturn, 1) := by decide +kernel
abbrev cX9_tray : ByteArray := prog_21_method_12_code
def yX9_tray : MethodName := ⟨RX9, "tray", "(III)Z"⟩
def dkwX9_tray_3 : List UInt8 := [167, 255, 234, 42, 3, 182, 0, 110, 172]
abbrev dktX9_tray_3 : List UInt8 := dkwX9_tray_3 ++ []
def dkwX9_tray_2 : List UInt8 := [54, 4, 21, 4, 29, 162, 0, 22, 42, 180, 0, 27, 16, 60, 27, 104, 21, 4, 96, 9, 80, 132, 4, 1]
abbrev dktX9_tray_2 : List UInt8 := dkwX9_tray_2 ++ dktX9_tray_3
def dkwX9_tray_1 : List UInt8 := [164, 0, 9, 42, 4, 182, 0, 110, 172, 42, 180, 0, 21, 27, 28, 79, 42, 180, 0, 24, 27, 29, 79, 3]
abbrev dktX9_tray_1 : List UInt8 := dkwX9_tray_1 ++ dktX9_tray_2
def dkwX9_tray_0 : List UInt8 := [27, 184, 0, 114, 153, 0, 22, 28, 155, 0, 18, 28, 6, 163, 0, 13, 29, 155, 0, 9, 29, 16, 60]
abbrev dktX9_tray_0 : List UInt8 := dkwX9_tray_0 ++ dktX9_tray_1
theorem dksX9_tray_0 : cX9_tray.data.toList.drop 0 = dktX9_tray_0 := by decide +kernel
theorem dksX9_tray_1 : cX9_tray.data.toList.drop 23 = dktX9_tray_1 := dk_seg dksX9_tray_0 23 rfl rfl
theorem dksX9_tray_2 : cX9_tray.data.toList.drop 47 = dktX9_tray_2 := dk_seg dksX9_tray_1 24 rfl rfl
theorem dksX9_tray_3 : cX9_tray.data.toList.drop 71 = dktX9_tray_3 := dk_seg dksX9_tray_2 24 rfl rfl
theorem dX9_tray_0 : decode cX9_tray 0 = .ok (.iload_n 1, 1) := dk_27 (dk_at dksX9_tray_0 0 rfl rfl)
theorem dX9_tray_1 : decode cX9_tray 1 = .ok (.invokestatic 114, 3) := dk_184 0 114 (dk_at dksX9_tray_0 1 rfl rfl)
theorem dX9_tray_4 : decode cX9_tray 4 = .ok (.ifCond .eq 22, 3) := dk_153 0 22 (dk_at dksX9_tray_0 4 rfl rfl)
theorem dX9_tray_7 : decode cX9_tray 7 = .ok (.iload_n 2, 1) := dk_28 (dk_at dksX9_tray_0 7 rfl rfl)
theorem dX9_tray_8 : decode cX9_tray 8 = .ok (.ifCond .lt 18, 3) := dk_155 0 18 (dk_at dksX9_tray_0 8 rfl rfl)
theorem dX9_tray_11 : decode cX9_tray 11 = .ok (.iload_n 2, 1) := dk_28 (dk_at dksX9_tray_0 11 rfl rfl)
theorem dX9_tray_12 : decode cX9_tray 12 = .ok (.iconst 3, 1) := dk_6 (dk_at dksX9_tray_0 12 rfl rfl)
theorem dX9_tray_13 : decode cX9_tray 13 = .ok (.if_icmp .gt 13, 3) := dk_163 0 13 (dk_at dksX9_tray_0 13 rfl rfl)
theorem dX9_tray_16 : decode cX9_tray 16 = .ok (.iload_n 3, 1) := dk_29 (dk_at dksX9_tray_0 16 rfl rfl)
theorem dX9_tray_17 : decode cX9_tray 17 = .ok (.ifCond .lt 9, 3) := dk_155 0 9 (dk_at dksX9_tray_0 17 rfl rfl)
theorem dX9_tray_20 : decode cX9_tray 20 = .ok (.iload_n 3, 1) := dk_29 (dk_at dksX9_tray_0 20 rfl rfl)
theorem dX9_tray_21 : decode cX9_tray 21 = .ok (.bipush 60, 2) := dk_16 60 (dk_at dksX9_tray_0 21 rfl rfl)
theorem dX9_tray_23 : decode cX9_tray 23 = .ok (.if_icmp .le 9, 3) := dk_164 0 9 (dk_at dksX9_tray_1 0 rfl rfl)
theorem dX9_tray_26 : decode cX9_tray 26 = .ok (.aload_n 0, 1) := dk_42 (dk_at dksX9_tray_1 3 rfl rfl)
theorem dX9_tray_27 : decode cX9_tray 27 = .ok (.iconst 1, 1) := dk_4 (dk_at dksX9_tray_1 4 rfl rfl)
theorem dX9_tray_28 : decode cX9_tray 28 = .ok (.invokevirtual 110, 3) := dk_182 0 110 (dk_at dksX9_tray_1 5 rfl rfl)
theorem dX9_tray_31 : decode cX9_tray 31 = .ok (.ireturn, 1) := dk_172 (dk_at dksX9_tray_1 8 rfl rfl)
theorem dX9_tray_32 : decode cX9_tray 32 = .ok (.aload_n 0, 1) := dk_42 (dk_at dksX9_tray_1 9 rfl rfl)
theorem dX9_tray_33 : decode cX9_tray 33 = .ok (.getfield 21, 3) := dk_180 0 21 (dk_at dksX9_tray_1 10 rfl rfl)
theorem dX9_tray_36 : decode cX9_tray 36 = .ok (.iload_n 1, 1) := dk_27 (dk_at dksX9_tray_1 13 rfl rfl)
theorem dX9_tray_37 : decode cX9_tray 37 = .ok (.iload_n 2, 1) := dk_28 (dk_at dksX9_tray_1 14 rfl rfl)
theorem dX9_tray_38 : decode cX9_tray 38 = .ok (.iastore, 1) := dk_79 (dk_at dksX9_tray_1 15 rfl rfl)
theorem dX9_tray_39 : decode cX9_tray 39 = .ok (.aload_n 0, 1) := dk_42 (dk_at dksX9_tray_1 16 rfl rfl)
theorem dX9_tray_40 : decode cX9_tray 40 = .ok (.getfield 24, 3) := dk_180 0 24 (dk_at dksX9_tray_1 17 rfl rfl)
theorem dX9_tray_43 : decode cX9_tray 43 = .ok (.iload_n 1, 1) := dk_27 (dk_at dksX9_tray_1 20 rfl rfl)
theorem dX9_tray_44 : decode cX9_tray 44 = .ok (.iload_n 3, 1) := dk_29 (dk_at dksX9_tray_1 21 rfl rfl)
theorem dX9_tray_45 : decode cX9_tray 45 = .ok (.iastore, 1) := dk_79 (dk_at dksX9_tray_1 22 rfl rfl)
theorem dX9_tray_46 : decode cX9_tray 46 = .ok (.iconst 0, 1) := dk_3 (dk_at dksX9_tray_1 23 rfl rfl)
theorem dX9_tray_47 : decode cX9_tray 47 = .ok (.istore 4, 2) := dk_54 4 (dk_at dksX9_tray_2 0 rfl rfl)
theorem dX9_tray_49 : decode cX9_tray 49 = .ok (.iload 4, 2) := dk_21 4 (dk_at dksX9_tray_2 2 rfl rfl)
theorem dX9_tray_51 : decode cX9_tray 51 = .ok (.iload_n 3, 1) := dk_29 (dk_at dksX9_tray_2 4 rfl rfl)
theorem dX9_tray_52 : decode cX9_tray 52 = .ok (.if_icmp .ge 22, 3) := dk_162 0 22 (dk_at dksX9_tray_2 5 rfl rfl)
theorem dX9_tray_55 : decode cX9_tray 55 = .ok (.aload_n 0, 1) := dk_42 (dk_at dksX9_tray_2 8 rfl rfl)
theorem dX9_tray_56 : decode cX9_tray 56 = .ok (.getfield 27, 3) := dk_180 0 27 (dk_at dksX9_tray_2 9 rfl rfl)
theorem dX9_tray_59 : decode cX9_tray 59 = .ok (.bipush 60, 2) := dk_16 60 (dk_at dksX9_tray_2 12 rfl rfl)
theorem dX9_tray_61 : decode cX9_tray 61 = .ok (.iload_n 1, 1) := dk_27 (dk_at dksX9_tray_2 14 rfl rfl)
theorem dX9_tray_62 : decode cX9_tray 62 = .ok (.imul, 1) := dk_104 (dk_at dksX9_tray_2 15 rfl rfl)
theorem dX9_tray_63 : decode cX9_tray 63 = .ok (.iload 4, 2) := dk_21 4 (dk_at dksX9_tray_2 16 rfl rfl)
theorem dX9_tray_65 : decode cX9_tray 65 = .ok (.iadd, 1) := dk_96 (dk_at dksX9_tray_2 18 rfl rfl)
theorem dX9_tray_66 : decode cX9_tray 66 = .ok (.lconst 0, 1) := dk_9 (dk_at dksX9_tray_2 19 rfl rfl)
theorem dX9_tray_67 : decode cX9_tray 67 = .ok (.lastore, 1) := dk_80 (dk_at dksX9_tray_2 20 rfl rfl)
theorem dX9_tray_68 : decode cX9_tray 68 = .ok (.iinc 4 1, 3) := dk_132 4 1 (dk_at dksX9_tray_2 21 rfl rfl)
theorem dX9_tray_71 : decode cX9_tray 71 = .ok (.goto (-22), 3) := dk_167 255 234 (dk_at dksX9_tray_3 0 rfl rfl)
theorem dX9_tray_74 : decode cX9_tray 74 = .ok (.aload_n 0, 1) := dk_42 (dk_at dksX9_tray_3 3 rfl rfl)
theorem dX9_tray_75 : decode cX9_tray 75 = .ok (.iconst 0, 1) := dk_3 (dk_at dksX9_tray_3 4 rfl rfl)
theorem dX9_tray_76 : decode cX9_tray 76 = .ok (.invokevirtual 110, 3) := dk_182 0 110 (dk_at dksX9_tray_3 5 rfl rfl)
theorem dX9_tray_79 : decode cX9_tray 79 = .ok (.ireturn, 1) := dk_172 (dk_at dksX9_tray_3 8 rfl rfl)
abbrev cX9_isTray : ByteArray := prog_21_method_10_code
def yX9_isTray : MethodName := ⟨RX9, "isTray", "(I)Z"⟩
def dkwX9_isTray_0 : List UInt8 := [26, 155, 0, 12, 26, 7, 162, 0, 7, 4, 167, 0, 4, 3, 172]
abbrev dktX9_isTray_0 : List UInt8 := dkwX9_isTray_0 ++ []
theorem dksX9_isTray_0 : cX9_isTray.data.toList.drop 0 = dktX9_isTray_0 := by decide +kernel
theorem dX9_isTray_0 : decode cX9_isTray 0 = .ok (.iload_n 0, 1) := dk_26 (dk_at dksX9_isTray_0 0 rfl rfl)
theorem dX9_isTray_1 : decode cX9_isTray 1 = .ok (.ifCond .lt 12, 3) := dk_155 0 12 (dk_at dksX9_isTray_0 1 rfl rfl)
theorem dX9_isTray_4 : decode cX9_isTray 4 = .ok (.iload_n 0, 1) := dk_26 (dk_at dksX9_isTray_0 4 rfl rfl)
theorem dX9_isTray_5 : decode cX9_isTray 5 = .ok (.iconst 4, 1) := dk_7 (dk_at dksX9_isTray_0 5 rfl rfl)
theorem dX9_isTray_6 : decode cX9_isTray 6 = .ok (.if_icmp .ge 7, 3) := dk_162 0 7 (dk_at dksX9_isTray_0 6 rfl rfl)
theorem dX9_isTray_9 : decode cX9_isTray 9 = .ok (.iconst 1, 1) := dk_4 (dk_at dksX9_isTray_0 9 rfl rfl)
theorem dX9_isTray_10 : decode cX9_isTray 10 = .ok (.goto 4, 3) := dk_167 0 4 (dk_at dksX9_isTray_0 10 rfl rfl)
theorem dX9_isTray_13 : decode cX9_isTray 13 = .ok (.iconst 0, 1) := dk_3 (dk_at dksX9_isTray_0 13 rfl rfl)
theorem dX9_isTray_14 : decode cX9_isTray 14 = .ok (.ireturn, 1) := dk_172 (dk_at dksX9_isTray_0 14 rfl rfl)
abbrev cX9_is : ByteArray := prog_21_method_5_code
def yX9_is : MethodName := ⟨RX9, "is", "(I)Z"⟩
def dkwX9_is_0 : List UInt8 := [42, 27, 181, 0, 97, 27, 154, 0, 7, 4, 167, 0, 4, 3, 172]
abbrev dktX9_is_0 : List UInt8 := dkwX9_is_0 ++ []
theorem dksX9_is_0 : cX9_is.data.toList.drop 0 = dktX9_is_0 := by decide +kernel
theorem dX9_is_0 : decode cX9_is 0 = .ok (.aload_n 0, 1) := dk_42 (dk_at dksX9_is_0 0 rfl rfl)
theorem dX9_is_1 : decode cX9_is 1 = .ok (.iload_n 1, 1) := dk_27 (dk_at dksX9_is_0 1 rfl rfl)
theorem dX9_is_2 : decode cX9_is 2 = .ok (.putfield 97, 3) := dk_181 0 97 (dk_at dksX9_is_0 2 rfl rfl)
theorem dX9_is_5 : decode cX9_is 5 = .ok (.iload_n 1, 1) := dk_27 (dk_at dksX9_is_0 5 rfl rfl)
theorem dX9_is_6 : decode cX9_is 6 = .ok (.ifCond .ne 7, 3) := dk_154 0 7 (dk_at dksX9_is_0 6 rfl rfl)
theorem dX9_is_9 : decode cX9_is 9 = .ok (.iconst 1, 1) := dk_4 (dk_at dksX9_is_0 9 rfl rfl)
theorem dX9_is_10 : decode cX9_is 10 = .ok (.goto 4, 3) := dk_167 0 4 (dk_at dksX9_is_0 10 rfl rfl)
theorem dX9_is_13 : decode cX9_is 13 = .ok (.iconst 0, 1) := dk_3 (dk_at dksX9_is_0 13 rfl rfl)
theorem dX9_is_14 : decode cX9_is 14 = .ok (.ireturn, 1) := dk_172 (dk_at dksX9_is_0 14 rfl rfl)
abbrev cX9_write : ByteArray := prog_21_method_14_code
def yX9_write : MethodName := ⟨RX9, "write", "(IIJ)Z"⟩
def dkwX9_write_1 : List UInt8 := [42, 180, 0, 21, 27, 46, 184, 0, 121, 80, 42, 21, 5, 182, 0, 110, 172]
abbrev dktX9_write_1 : List UInt8 := dkwX9_write_1 ++ []
def dkwX9_write_0 : List UInt8 := [42, 27, 28, 182, 0, 117, 54, 5, 21, 5, 154, 0, 24, 42, 180, 0, 27, 16, 60, 27, 104, 28, 96, 33]
abbrev dktX9_write_0 : List UInt8 := dkwX9_write_0 ++ dktX9_write_1
theorem dksX9_write_0 : cX9_write.data.toList.drop 0 = dktX9_write_0 := by decide +kernel
theorem dksX9_write_1 : cX9_write.data.toList.drop 24 = dktX9_write_1 := dk_seg dksX9_write_0 24 rfl rfl
theorem dX9_write_0 : decode cX9_write 0 = .ok (.aload_n 0, 1) := dk_42 (dk_at dksX9_write_0 0 rfl rfl)
theorem dX9_write_1 : decode cX9_write 1 = .ok (.iload_n 1, 1) := dk_27 (dk_at dksX9_write_0 1 rfl rfl)
theorem dX9_write_2 : decode cX9_write 2 = .ok (.iload_n 2, 1) := dk_28 (dk_at dksX9_write_0 2 rfl rfl)
theorem dX9_write_3 : decode cX9_write 3 = .ok (.invokevirtual 117, 3) := dk_182 0 117 (dk_at dksX9_write_0 3 rfl rfl)
theorem dX9_write_6 : decode cX9_write 6 = .ok (.istore 5, 2) := dk_54 5 (dk_at dksX9_write_0 6 rfl rfl)
theorem dX9_write_8 : decode cX9_write 8 = .ok (.iload 5, 2) := dk_21 5 (dk_at dksX9_write_0 8 rfl rfl)
theorem dX9_write_10 : decode cX9_write 10 = .ok (.ifCond .ne 24, 3) := dk_154 0 24 (dk_at dksX9_write_0 10 rfl rfl)
theorem dX9_write_13 : decode cX9_write 13 = .ok (.aload_n 0, 1) := dk_42 (dk_at dksX9_write_0 13 rfl rfl)
theorem dX9_write_14 : decode cX9_write 14 = .ok (.getfield 27, 3) := dk_180 0 27 (dk_at dksX9_write_0 14 rfl rfl)
theorem dX9_write_17 : decode cX9_write 17 = .ok (.bipush 60, 2) := dk_16 60 (dk_at dksX9_write_0 17 rfl rfl)
theorem dX9_write_19 : decode cX9_write 19 = .ok (.iload_n 1, 1) := dk_27 (dk_at dksX9_write_0 19 rfl rfl)
theorem dX9_write_20 : decode cX9_write 20 = .ok (.imul, 1) := dk_104 (dk_at dksX9_write_0 20 rfl rfl)
theorem dX9_write_21 : decode cX9_write 21 = .ok (.iload_n 2, 1) := dk_28 (dk_at dksX9_write_0 21 rfl rfl)
theorem dX9_write_22 : decode cX9_write 22 = .ok (.iadd, 1) := dk_96 (dk_at dksX9_write_0 22 rfl rfl)
theorem dX9_write_23 : decode cX9_write 23 = .ok (.lload_n 3, 1) := dk_33 (dk_at dksX9_write_0 23 rfl rfl)
theorem dX9_write_24 : decode cX9_write 24 = .ok (.aload_n 0, 1) := dk_42 (dk_at dksX9_write_1 0 rfl rfl)
theorem dX9_write_25 : decode cX9_write 25 = .ok (.getfield 21, 3) := dk_180 0 21 (dk_at dksX9_write_1 1 rfl rfl)
theorem dX9_write_28 : decode cX9_write 28 = .ok (.iload_n 1, 1) := dk_27 (dk_at dksX9_write_1 4 rfl rfl)
theorem dX9_write_29 : decode cX9_write 29 = .ok (.iaload, 1) := dk_46 (dk_at dksX9_write_1 5 rfl rfl)
theorem dX9_write_30 : decode cX9_write 30 = .ok (.invokestatic 121, 3) := dk_184 0 121 (dk_at dksX9_write_1 6 rfl rfl)
theorem dX9_write_33 : decode cX9_write 33 = .ok (.lastore, 1) := dk_80 (dk_at dksX9_write_1 9 rfl rfl)
theorem dX9_write_34 : decode cX9_write 34 = .ok (.aload_n 0, 1) := dk_42 (dk_at dksX9_write_1 10 rfl rfl)
theorem dX9_write_35 : decode cX9_write 35 = .ok (.iload 5, 2) := dk_21 5 (dk_at dksX9_write_1 11 rfl rfl)
theorem dX9_write_37 : decode cX9_write 37 = .ok (.invokevirtual 110, 3) := dk_182 0 110 (dk_at dksX9_write_1 13 rfl rfl)
theorem dX9_write_40 : decode cX9_write 40 = .ok (.ireturn, 1) := dk_172 (dk_at dksX9_write_1 16 rfl rfl)
abbrev cX9_wrongPlace : ByteArray := prog_21_method_13_code
def yX9_wrongPlace : MethodName := ⟨RX9, "wrongPlace", "(II)I"⟩
def dkwX9_wrongPlace_1 : List UInt8 := [167, 0, 22, 28, 155, 0, 13, 28, 42, 180, 0, 24, 27, 46, 161, 0, 7, 6, 167, 0, 4, 3, 172]
abbrev dktX9_wrongPlace_1 : List UInt8 := dkwX9_wrongPlace_1 ++ []
def dkwX9_wrongPlace_0 : List UInt8 := [27, 184, 0, 114, 154, 0, 7, 4, 167, 0, 36, 42, 180, 0, 24, 27, 46, 2, 160, 0, 7, 5]
abbrev dktX9_wrongPlace_0 : List UInt8 := dkwX9_wrongPlace_0 ++ dktX9_wrongPlace_1
theorem dksX9_wrongPlace_0 : cX9_wrongPlace.data.toList.drop 0 = dktX9_wrongPlace_0 := by decide +kernel
theorem dksX9_wrongPlace_1 : cX9_wrongPlace.data.toList.drop 22 = dktX9_wrongPlace_1 := dk_seg dksX9_wrongPlace_0 22 rfl rfl
theorem dX9_wrongPlace_0 : decode cX9_wrongPlace 0 = .ok (.iload_n 1, 1) := dk_27 (dk_at dksX9_wrongPlace_0 0 rfl rfl)
theorem dX9_wrongPlace_1 : decode cX9_wrongPlace 1 = .ok (.invokestatic 114, 3) := dk_184 0 114 (dk_at dksX9_wrongPlace_0 1 rfl rfl)
theorem dX9_wrongPlace_4 : decode cX9_wrongPlace 4 = .ok (.ifCond .ne 7, 3) := dk_154 0 7 (dk_at dksX9_wrongPlace_0 4 rfl rfl)
theorem dX9_wrongPlace_7 : decode cX9_wrongPlace 7 = .ok (.iconst 1, 1) := dk_4 (dk_at dksX9_wrongPlace_0 7 rfl rfl)
theorem dX9_wrongPlace_8 : decode cX9_wrongPlace 8 = .ok (.goto 36, 3) := dk_167 0 36 (dk_at dksX9_wrongPlace_0 8 rfl rfl)
theorem dX9_wrongPlace_11 : decode cX9_wrongPlace 11 = .ok (.aload_n 0, 1) := dk_42 (dk_at dksX9_wrongPlace_0 11 rfl rfl)
theorem dX9_wrongPlace_12 : decode cX9_wrongPlace 12 = .ok (.getfield 24, 3) := dk_180 0 24 (dk_at dksX9_wrongPlace_0 12 rfl rfl)
theorem dX9_wrongPlace_15 : decode cX9_wrongPlace 15 = .ok (.iload_n 1, 1) := dk_27 (dk_at dksX9_wrongPlace_0 15 rfl rfl)
theorem dX9_wrongPlace_16 : decode cX9_wrongPlace 16 = .ok (.iaload, 1) := dk_46 (dk_at dksX9_wrongPlace_0 16 rfl rfl)
theorem dX9_wrongPlace_17 : decode cX9_wrongPlace 17 = .ok (.iconst (-1), 1) := dk_2 (dk_at dksX9_wrongPlace_0 17 rfl rfl)
theorem dX9_wrongPlace_18 : decode cX9_wrongPlace 18 = .ok (.if_icmp .ne 7, 3) := dk_160 0 7 (dk_at dksX9_wrongPlace_0 18 rfl rfl)
theorem dX9_wrongPlace_21 : decode cX9_wrongPlace 21 = .ok (.iconst 2, 1) := dk_5 (dk_at dksX9_wrongPlace_0 21 rfl rfl)
theorem dX9_wrongPlace_22 : decode cX9_wrongPlace 22 = .ok (.goto 22, 3) := dk_167 0 22 (dk_at dksX9_wrongPlace_1 0 rfl rfl)
theorem dX9_wrongPlace_25 : decode cX9_wrongPlace 25 = .ok (.iload_n 2, 1) := dk_28 (dk_at dksX9_wrongPlace_1 3 rfl rfl)
theorem dX9_wrongPlace_26 : decode cX9_wrongPlace 26 = .ok (.ifCond .lt 13, 3) := dk_155 0 13 (dk_at dksX9_wrongPlace_1 4 rfl rfl)
theorem dX9_wrongPlace_29 : decode cX9_wrongPlace 29 = .ok (.iload_n 2, 1) := dk_28 (dk_at dksX9_wrongPlace_1 7 rfl rfl)
theorem dX9_wrongPlace_30 : decode cX9_wrongPlace 30 = .ok (.aload_n 0, 1) := dk_42 (dk_at dksX9_wrongPlace_1 8 rfl rfl)
theorem dX9_wrongPlace_31 : decode cX9_wrongPlace 31 = .ok (.getfield 24, 3) := dk_180 0 24 (dk_at dksX9_wrongPlace_1 9 rfl rfl)
theorem dX9_wrongPlace_34 : decode cX9_wrongPlace 34 = .ok (.iload_n 1, 1) := dk_27 (dk_at dksX9_wrongPlace_1 12 rfl rfl)
theorem dX9_wrongPlace_35 : decode cX9_wrongPlace 35 = .ok (.iaload, 1) := dk_46 (dk_at dksX9_wrongPlace_1 13 rfl rfl)
theorem dX9_wrongPlace_36 : decode cX9_wrongPlace 36 = .ok (.if_icmp .lt 7, 3) := dk_161 0 7 (dk_at dksX9_wrongPlace_1 14 rfl rfl)
theorem dX9_wrongPlace_39 : decode cX9_wrongPlace 39 = .ok (.iconst 3, 1) := dk_6 (dk_at dksX9_wrongPlace_1 17 rfl rfl)
theorem dX9_wrongPlace_40 : decode cX9_wrongPlace 40 = .ok (.goto 4, 3) := dk_167 0 4 (dk_at dksX9_wrongPlace_1 18 rfl rfl)
theorem dX9_wrongPlace_43 : decode cX9_wrongPlace 43 = .ok (.iconst 0, 1) := dk_3 (dk_at dksX9_wrongPlace_1 21 rfl rfl)
theorem dX9_wrongPlace_44 : decode cX9_wrongPlace 44 = .ok (.ireturn, 1) := dk_172 (dk_at dksX9_wrongPlace_1 22 rfl rfl)
abbrev cX9_cut : ByteArray := prog_21_method_11_code
def yX9_cut : MethodName := ⟨RX9, "cut", "(JI)J"⟩
def dkwX9_cut_1 : List UInt8 := [5, 160, 0, 9, 30, 136, 133, 167, 0, 4, 30, 173]
abbrev dktX9_cut_1 : List UInt8 := dkwX9_cut_1 ++ []
def dkwX9_cut_0 : List UInt8 := [28, 154, 0, 10, 30, 136, 145, 133, 167, 0, 27, 28, 4, 160, 0, 10, 30, 136, 147, 133, 167, 0, 15, 28]
abbrev dktX9_cut_0 : List UInt8 := dkwX9_cut_0 ++ dktX9_cut_1
theorem dksX9_cut_0 : cX9_cut.data.toList.drop 0 = dktX9_cut_0 := by decide +kernel
theorem dksX9_cut_1 : cX9_cut.data.toList.drop 24 = dktX9_cut_1 := dk_seg dksX9_cut_0 24 rfl rfl
theorem dX9_cut_0 : decode cX9_cut 0 = .ok (.iload_n 2, 1) := dk_28 (dk_at dksX9_cut_0 0 rfl rfl)
theorem dX9_cut_1 : decode cX9_cut 1 = .ok (.ifCond .ne 10, 3) := dk_154 0 10 (dk_at dksX9_cut_0 1 rfl rfl)
theorem dX9_cut_4 : decode cX9_cut 4 = .ok (.lload_n 0, 1) := dk_30 (dk_at dksX9_cut_0 4 rfl rfl)
theorem dX9_cut_5 : decode cX9_cut 5 = .ok (.l2i, 1) := dk_136 (dk_at dksX9_cut_0 5 rfl rfl)
theorem dX9_cut_6 : decode cX9_cut 6 = .ok (.i2b, 1) := dk_145 (dk_at dksX9_cut_0 6 rfl rfl)
theorem dX9_cut_7 : decode cX9_cut 7 = .ok (.i2l, 1) := dk_133 (dk_at dksX9_cut_0 7 rfl rfl)
theorem dX9_cut_8 : decode cX9_cut 8 = .ok (.goto 27, 3) := dk_167 0 27 (dk_at dksX9_cut_0 8 rfl rfl)
theorem dX9_cut_11 : decode cX9_cut 11 = .ok (.iload_n 2, 1) := dk_28 (dk_at dksX9_cut_0 11 rfl rfl)
theorem dX9_cut_12 : decode cX9_cut 12 = .ok (.iconst 1, 1) := dk_4 (dk_at dksX9_cut_0 12 rfl rfl)
theorem dX9_cut_13 : decode cX9_cut 13 = .ok (.if_icmp .ne 10, 3) := dk_160 0 10 (dk_at dksX9_cut_0 13 rfl rfl)
theorem dX9_cut_16 : decode cX9_cut 16 = .ok (.lload_n 0, 1) := dk_30 (dk_at dksX9_cut_0 16 rfl rfl)
theorem dX9_cut_17 : decode cX9_cut 17 = .ok (.l2i, 1) := dk_136 (dk_at dksX9_cut_0 17 rfl rfl)
theorem dX9_cut_18 : decode cX9_cut 18 = .ok (.i2s, 1) := dk_147 (dk_at dksX9_cut_0 18 rfl rfl)
theorem dX9_cut_19 : decode cX9_cut 19 = .ok (.i2l, 1) := dk_133 (dk_at dksX9_cut_0 19 rfl rfl)
theorem dX9_cut_20 : decode cX9_cut 20 = .ok (.goto 15, 3) := dk_167 0 15 (dk_at dksX9_cut_0 20 rfl rfl)
theorem dX9_cut_23 : decode cX9_cut 23 = .ok (.iload_n 2, 1) := dk_28 (dk_at dksX9_cut_0 23 rfl rfl)
theorem dX9_cut_24 : decode cX9_cut 24 = .ok (.iconst 2, 1) := dk_5 (dk_at dksX9_cut_1 0 rfl rfl)
theorem dX9_cut_25 : decode cX9_cut 25 = .ok (.if_icmp .ne 9, 3) := dk_160 0 9 (dk_at dksX9_cut_1 1 rfl rfl)
theorem dX9_cut_28 : decode cX9_cut 28 = .ok (.lload_n 0, 1) := dk_30 (dk_at dksX9_cut_1 4 rfl rfl)
theorem dX9_cut_29 : decode cX9_cut 29 = .ok (.l2i, 1) := dk_136 (dk_at dksX9_cut_1 5 rfl rfl)
theorem dX9_cut_30 : decode cX9_cut 30 = .ok (.i2l, 1) := dk_133 (dk_at dksX9_cut_1 6 rfl rfl)
theorem dX9_cut_31 : decode cX9_cut 31 = .ok (.goto 4, 3) := dk_167 0 4 (dk_at dksX9_cut_1 7 rfl rfl)
theorem dX9_cut_34 : decode cX9_cut 34 = .ok (.lload_n 0, 1) := dk_30 (dk_at dksX9_cut_1 10 rfl rfl)
theorem dX9_cut_35 : decode cX9_cut 35 = .ok (.lreturn, 1) := dk_173 (dk_at dksX9_cut_1 11 rfl rfl)
abbrev cX9_read : ByteArray := prog_21_method_15_code
def yX9_read : MethodName := ⟨RX9, "read", "(II)J"⟩
def dkwX9_read_1 : List UInt8 := [180, 0, 27, 16, 60, 27, 104, 28, 96, 47, 173]
abbrev dktX9_read_1 : List UInt8 := dkwX9_read_1 ++ []
def dkwX9_read_0 : List UInt8 := [42, 42, 27, 28, 182, 0, 117, 181, 0, 97, 42, 180, 0, 97, 158, 0, 9, 20, 0, 125, 167, 0, 14, 42]
abbrev dktX9_read_0 : List UInt8 := dkwX9_read_0 ++ dktX9_read_1
theorem dksX9_read_0 : cX9_read.data.toList.drop 0 = dktX9_read_0 := by decide +kernel
theorem dksX9_read_1 : cX9_read.data.toList.drop 24 = dktX9_read_1 := dk_seg dksX9_read_0 24 rfl rfl
theorem dX9_read_0 : decode cX9_read 0 = .ok (.aload_n 0, 1) := dk_42 (dk_at dksX9_read_0 0 rfl rfl)
theorem dX9_read_1 : decode cX9_read 1 = .ok (.aload_n 0, 1) := dk_42 (dk_at dksX9_read_0 1 rfl rfl)
theorem dX9_read_2 : decode cX9_read 2 = .ok (.iload_n 1, 1) := dk_27 (dk_at dksX9_read_0 2 rfl rfl)
theorem dX9_read_3 : decode cX9_read 3 = .ok (.iload_n 2, 1) := dk_28 (dk_at dksX9_read_0 3 rfl rfl)
theorem dX9_read_4 : decode cX9_read 4 = .ok (.invokevirtual 117, 3) := dk_182 0 117 (dk_at dksX9_read_0 4 rfl rfl)
theorem dX9_read_7 : decode cX9_read 7 = .ok (.putfield 97, 3) := dk_181 0 97 (dk_at dksX9_read_0 7 rfl rfl)
theorem dX9_read_10 : decode cX9_read 10 = .ok (.aload_n 0, 1) := dk_42 (dk_at dksX9_read_0 10 rfl rfl)
theorem dX9_read_11 : decode cX9_read 11 = .ok (.getfield 97, 3) := dk_180 0 97 (dk_at dksX9_read_0 11 rfl rfl)
theorem dX9_read_14 : decode cX9_read 14 = .ok (.ifCond .le 9, 3) := dk_158 0 9 (dk_at dksX9_read_0 14 rfl rfl)
theorem dX9_read_17 : decode cX9_read 17 = .ok (.ldc2_w 125, 3) := dk_20 0 125 (dk_at dksX9_read_0 17 rfl rfl)
theorem dX9_read_20 : decode cX9_read 20 = .ok (.goto 14, 3) := dk_167 0 14 (dk_at dksX9_read_0 20 rfl rfl)
theorem dX9_read_23 : decode cX9_read 23 = .ok (.aload_n 0, 1) := dk_42 (dk_at dksX9_read_0 23 rfl rfl)
theorem dX9_read_24 : decode cX9_read 24 = .ok (.getfield 27, 3) := dk_180 0 27 (dk_at dksX9_read_1 0 rfl rfl)
theorem dX9_read_27 : decode cX9_read 27 = .ok (.bipush 60, 2) := dk_16 60 (dk_at dksX9_read_1 3 rfl rfl)
theorem dX9_read_29 : decode cX9_read 29 = .ok (.iload_n 1, 1) := dk_27 (dk_at dksX9_read_1 5 rfl rfl)
theorem dX9_read_30 : decode cX9_read 30 = .ok (.imul, 1) := dk_104 (dk_at dksX9_read_1 6 rfl rfl)
theorem dX9_read_31 : decode cX9_read 31 = .ok (.iload_n 2, 1) := dk_28 (dk_at dksX9_read_1 7 rfl rfl)
theorem dX9_read_32 : decode cX9_read 32 = .ok (.iadd, 1) := dk_96 (dk_at dksX9_read_1 8 rfl rfl)
theorem dX9_read_33 : decode cX9_read 33 = .ok (.laload, 1) := dk_47 (dk_at dksX9_read_1 9 rfl rfl)
theorem dX9_read_34 : decode cX9_read 34 = .ok (.lreturn, 1) := dk_173 (dk_at dksX9_read_1 10 rfl rfl)
abbrev cX9_pour : ByteArray := prog_21_method_16_code
def yX9_pour : MethodName := ⟨RX9, "pour", "(IIIII)Z"⟩
def dkwX9_pour_8 : List UInt8 := [182, 0, 110, 172]
abbrev dktX9_pour_8 : List UInt8 := dkwX9_pour_8 ++ []
def dkwX9_pour_7 : List UInt8 := [180, 0, 27, 16, 60, 27, 104, 28, 96, 21, 7, 96, 47, 80, 132, 6, 1, 167, 255, 197, 42, 3]
abbrev dktX9_pour_7 : List UInt8 := dkwX9_pour_7 ++ dktX9_pour_8
def dkwX9_pour_6 : List UInt8 := [167, 0, 5, 21, 6, 54, 7, 42, 180, 0, 27, 16, 60, 29, 104, 21, 4, 96, 21, 7, 96, 42]
abbrev dktX9_pour_6 : List UInt8 := dkwX9_pour_6 ++ dktX9_pour_7
def dkwX9_pour_5 : List UInt8 := [3, 54, 6, 21, 6, 21, 5, 162, 0, 58, 28, 21, 4, 162, 0, 13, 21, 5, 4, 100, 21, 6, 100]
abbrev dktX9_pour_5 : List UInt8 := dkwX9_pour_5 ++ dktX9_pour_6
def dkwX9_pour_4 : List UInt8 := [100, 163, 0, 17, 21, 5, 42, 180, 0, 24, 29, 46, 21, 4, 100, 164, 0, 9, 42, 6, 182, 0, 110, 172]
abbrev dktX9_pour_4 : List UInt8 := dkwX9_pour_4 ++ dktX9_pour_5
def dkwX9_pour_3 : List UInt8 := [180, 0, 21, 29, 46, 159, 0, 10, 42, 16, 8, 182, 0, 110, 172, 21, 5, 42, 180, 0, 24, 27, 46, 28]
abbrev dktX9_pour_3 : List UInt8 := dkwX9_pour_3 ++ dktX9_pour_4
def dkwX9_pour_2 : List UInt8 := [180, 0, 24, 29, 46, 2, 160, 0, 9, 42, 5, 182, 0, 110, 172, 42, 180, 0, 21, 27, 46, 42]
abbrev dktX9_pour_2 : List UInt8 := dkwX9_pour_2 ++ dktX9_pour_3
def dkwX9_pour_1 : List UInt8 := [21, 5, 156, 0, 9, 42, 4, 182, 0, 110, 172, 42, 180, 0, 24, 27, 46, 2, 159, 0, 13, 42]
abbrev dktX9_pour_1 : List UInt8 := dkwX9_pour_1 ++ dktX9_pour_2
def dkwX9_pour_0 : List UInt8 := [27, 184, 0, 114, 153, 0, 24, 29, 184, 0, 114, 153, 0, 17, 28, 155, 0, 13, 21, 4, 155, 0, 8]
abbrev dktX9_pour_0 : List UInt8 := dkwX9_pour_0 ++ dktX9_pour_1
theorem dksX9_pour_0 : cX9_pour.data.toList.drop 0 = dktX9_pour_0 := by decide +kernel
theorem dksX9_pour_1 : cX9_pour.data.toList.drop 23 = dktX9_pour_1 := dk_seg dksX9_pour_0 23 rfl rfl
theorem dksX9_pour_2 : cX9_pour.data.toList.drop 45 = dktX9_pour_2 := dk_seg dksX9_pour_1 22 rfl rfl
theorem dksX9_pour_3 : cX9_pour.data.toList.drop 67 = dktX9_pour_3 := dk_seg dksX9_pour_2 22 rfl rfl
theorem dksX9_pour_4 : cX9_pour.data.toList.drop 91 = dktX9_pour_4 := dk_seg dksX9_pour_3 24 rfl rfl
theorem dksX9_pour_5 : cX9_pour.data.toList.drop 115 = dktX9_pour_5 := dk_seg dksX9_pour_4 24 rfl rfl
theorem dksX9_pour_6 : cX9_pour.data.toList.drop 138 = dktX9_pour_6 := dk_seg dksX9_pour_5 23 rfl rfl
theorem dksX9_pour_7 : cX9_pour.data.toList.drop 160 = dktX9_pour_7 := dk_seg dksX9_pour_6 22 rfl rfl
theorem dksX9_pour_8 : cX9_pour.data.toList.drop 182 = dktX9_pour_8 := dk_seg dksX9_pour_7 22 rfl rfl
theorem dX9_pour_0 : decode cX9_pour 0 = .ok (.iload_n 1, 1) := dk_27 (dk_at dksX9_pour_0 0 rfl rfl)
theorem dX9_pour_1 : decode cX9_pour 1 = .ok (.invokestatic 114, 3) := dk_184 0 114 (dk_at dksX9_pour_0 1 rfl rfl)
theorem dX9_pour_4 : decode cX9_pour 4 = .ok (.ifCond .eq 24, 3) := dk_153 0 24 (dk_at dksX9_pour_0 4 rfl rfl)
theorem dX9_pour_7 : decode cX9_pour 7 = .ok (.iload_n 3, 1) := dk_29 (dk_at dksX9_pour_0 7 rfl rfl)
theorem dX9_pour_8 : decode cX9_pour 8 = .ok (.invokestatic 114, 3) := dk_184 0 114 (dk_at dksX9_pour_0 8 rfl rfl)
theorem dX9_pour_11 : decode cX9_pour 11 = .ok (.ifCond .eq 17, 3) := dk_153 0 17 (dk_at dksX9_pour_0 11 rfl rfl)
theorem dX9_pour_14 : decode cX9_pour 14 = .ok (.iload_n 2, 1) := dk_28 (dk_at dksX9_pour_0 14 rfl rfl)
theorem dX9_pour_15 : decode cX9_pour 15 = .ok (.ifCond .lt 13, 3) := dk_155 0 13 (dk_at dksX9_pour_0 15 rfl rfl)
theorem dX9_pour_18 : decode cX9_pour 18 = .ok (.iload 4, 2) := dk_21 4 (dk_at dksX9_pour_0 18 rfl rfl)
theorem dX9_pour_20 : decode cX9_pour 20 = .ok (.ifCond .lt 8, 3) := dk_155 0 8 (dk_at dksX9_pour_0 20 rfl rfl)
theorem dX9_pour_23 : decode cX9_pour 23 = .ok (.iload 5, 2) := dk_21 5 (dk_at dksX9_pour_1 0 rfl rfl)
theorem dX9_pour_25 : decode cX9_pour 25 = .ok (.ifCond .ge 9, 3) := dk_156 0 9 (dk_at dksX9_pour_1 2 rfl rfl)
theorem dX9_pour_28 : decode cX9_pour 28 = .ok (.aload_n 0, 1) := dk_42 (dk_at dksX9_pour_1 5 rfl rfl)
theorem dX9_pour_29 : decode cX9_pour 29 = .ok (.iconst 1, 1) := dk_4 (dk_at dksX9_pour_1 6 rfl rfl)
theorem dX9_pour_30 : decode cX9_pour 30 = .ok (.invokevirtual 110, 3) := dk_182 0 110 (dk_at dksX9_pour_1 7 rfl rfl)
theorem dX9_pour_33 : decode cX9_pour 33 = .ok (.ireturn, 1) := dk_172 (dk_at dksX9_pour_1 10 rfl rfl)
theorem dX9_pour_34 : decode cX9_pour 34 = .ok (.aload_n 0, 1) := dk_42 (dk_at dksX9_pour_1 11 rfl rfl)
theorem dX9_pour_35 : decode cX9_pour 35 = .ok (.getfield 24, 3) := dk_180 0 24 (dk_at dksX9_pour_1 12 rfl rfl)
theorem dX9_pour_38 : decode cX9_pour 38 = .ok (.iload_n 1, 1) := dk_27 (dk_at dksX9_pour_1 15 rfl rfl)
theorem dX9_pour_39 : decode cX9_pour 39 = .ok (.iaload, 1) := dk_46 (dk_at dksX9_pour_1 16 rfl rfl)
theorem dX9_pour_40 : decode cX9_pour 40 = .ok (.iconst (-1), 1) := dk_2 (dk_at dksX9_pour_1 17 rfl rfl)
theorem dX9_pour_41 : decode cX9_pour 41 = .ok (.if_icmp .eq 13, 3) := dk_159 0 13 (dk_at dksX9_pour_1 18 rfl rfl)
theorem dX9_pour_44 : decode cX9_pour 44 = .ok (.aload_n 0, 1) := dk_42 (dk_at dksX9_pour_1 21 rfl rfl)
theorem dX9_pour_45 : decode cX9_pour 45 = .ok (.getfield 24, 3) := dk_180 0 24 (dk_at dksX9_pour_2 0 rfl rfl)
theorem dX9_pour_48 : decode cX9_pour 48 = .ok (.iload_n 3, 1) := dk_29 (dk_at dksX9_pour_2 3 rfl rfl)
theorem dX9_pour_49 : decode cX9_pour 49 = .ok (.iaload, 1) := dk_46 (dk_at dksX9_pour_2 4 rfl rfl)
theorem dX9_pour_50 : decode cX9_pour 50 = .ok (.iconst (-1), 1) := dk_2 (dk_at dksX9_pour_2 5 rfl rfl)
theorem dX9_pour_51 : decode cX9_pour 51 = .ok (.if_icmp .ne 9, 3) := dk_160 0 9 (dk_at dksX9_pour_2 6 rfl rfl)
theorem dX9_pour_54 : decode cX9_pour 54 = .ok (.aload_n 0, 1) := dk_42 (dk_at dksX9_pour_2 9 rfl rfl)
theorem dX9_pour_55 : decode cX9_pour 55 = .ok (.iconst 2, 1) := dk_5 (dk_at dksX9_pour_2 10 rfl rfl)
theorem dX9_pour_56 : decode cX9_pour 56 = .ok (.invokevirtual 110, 3) := dk_182 0 110 (dk_at dksX9_pour_2 11 rfl rfl)
theorem dX9_pour_59 : decode cX9_pour 59 = .ok (.ireturn, 1) := dk_172 (dk_at dksX9_pour_2 14 rfl rfl)
theorem dX9_pour_60 : decode cX9_pour 60 = .ok (.aload_n 0, 1) := dk_42 (dk_at dksX9_pour_2 15 rfl rfl)
theorem dX9_pour_61 : decode cX9_pour 61 = .ok (.getfield 21, 3) := dk_180 0 21 (dk_at dksX9_pour_2 16 rfl rfl)
theorem dX9_pour_64 : decode cX9_pour 64 = .ok (.iload_n 1, 1) := dk_27 (dk_at dksX9_pour_2 19 rfl rfl)
theorem dX9_pour_65 : decode cX9_pour 65 = .ok (.iaload, 1) := dk_46 (dk_at dksX9_pour_2 20 rfl rfl)
theorem dX9_pour_66 : decode cX9_pour 66 = .ok (.aload_n 0, 1) := dk_42 (dk_at dksX9_pour_2 21 rfl rfl)
theorem dX9_pour_67 : decode cX9_pour 67 = .ok (.getfield 21, 3) := dk_180 0 21 (dk_at dksX9_pour_3 0 rfl rfl)
theorem dX9_pour_70 : decode cX9_pour 70 = .ok (.iload_n 3, 1) := dk_29 (dk_at dksX9_pour_3 3 rfl rfl)
theorem dX9_pour_71 : decode cX9_pour 71 = .ok (.iaload, 1) := dk_46 (dk_at dksX9_pour_3 4 rfl rfl)
theorem dX9_pour_72 : decode cX9_pour 72 = .ok (.if_icmp .eq 10, 3) := dk_159 0 10 (dk_at dksX9_pour_3 5 rfl rfl)
theorem dX9_pour_75 : decode cX9_pour 75 = .ok (.aload_n 0, 1) := dk_42 (dk_at dksX9_pour_3 8 rfl rfl)
theorem dX9_pour_76 : decode cX9_pour 76 = .ok (.bipush 8, 2) := dk_16 8 (dk_at dksX9_pour_3 9 rfl rfl)
theorem dX9_pour_78 : decode cX9_pour 78 = .ok (.invokevirtual 110, 3) := dk_182 0 110 (dk_at dksX9_pour_3 11 rfl rfl)
theorem dX9_pour_81 : decode cX9_pour 81 = .ok (.ireturn, 1) := dk_172 (dk_at dksX9_pour_3 14 rfl rfl)
theorem dX9_pour_82 : decode cX9_pour 82 = .ok (.iload 5, 2) := dk_21 5 (dk_at dksX9_pour_3 15 rfl rfl)
theorem dX9_pour_84 : decode cX9_pour 84 = .ok (.aload_n 0, 1) := dk_42 (dk_at dksX9_pour_3 17 rfl rfl)
theorem dX9_pour_85 : decode cX9_pour 85 = .ok (.getfield 24, 3) := dk_180 0 24 (dk_at dksX9_pour_3 18 rfl rfl)
theorem dX9_pour_88 : decode cX9_pour 88 = .ok (.iload_n 1, 1) := dk_27 (dk_at dksX9_pour_3 21 rfl rfl)
theorem dX9_pour_89 : decode cX9_pour 89 = .ok (.iaload, 1) := dk_46 (dk_at dksX9_pour_3 22 rfl rfl)
theorem dX9_pour_90 : decode cX9_pour 90 = .ok (.iload_n 2, 1) := dk_28 (dk_at dksX9_pour_3 23 rfl rfl)
theorem dX9_pour_91 : decode cX9_pour 91 = .ok (.isub, 1) := dk_100 (dk_at dksX9_pour_4 0 rfl rfl)
theorem dX9_pour_92 : decode cX9_pour 92 = .ok (.if_icmp .gt 17, 3) := dk_163 0 17 (dk_at dksX9_pour_4 1 rfl rfl)
theorem dX9_pour_95 : decode cX9_pour 95 = .ok (.iload 5, 2) := dk_21 5 (dk_at dksX9_pour_4 4 rfl rfl)
theorem dX9_pour_97 : decode cX9_pour 97 = .ok (.aload_n 0, 1) := dk_42 (dk_at dksX9_pour_4 6 rfl rfl)
theorem dX9_pour_98 : decode cX9_pour 98 = .ok (.getfield 24, 3) := dk_180 0 24 (dk_at dksX9_pour_4 7 rfl rfl)
theorem dX9_pour_101 : decode cX9_pour 101 = .ok (.iload_n 3, 1) := dk_29 (dk_at dksX9_pour_4 10 rfl rfl)
theorem dX9_pour_102 : decode cX9_pour 102 = .ok (.iaload, 1) := dk_46 (dk_at dksX9_pour_4 11 rfl rfl)
theorem dX9_pour_103 : decode cX9_pour 103 = .ok (.iload 4, 2) := dk_21 4 (dk_at dksX9_pour_4 12 rfl rfl)
theorem dX9_pour_105 : decode cX9_pour 105 = .ok (.isub, 1) := dk_100 (dk_at dksX9_pour_4 14 rfl rfl)
theorem dX9_pour_106 : decode cX9_pour 106 = .ok (.if_icmp .le 9, 3) := dk_164 0 9 (dk_at dksX9_pour_4 15 rfl rfl)
theorem dX9_pour_109 : decode cX9_pour 109 = .ok (.aload_n 0, 1) := dk_42 (dk_at dksX9_pour_4 18 rfl rfl)
theorem dX9_pour_110 : decode cX9_pour 110 = .ok (.iconst 3, 1) := dk_6 (dk_at dksX9_pour_4 19 rfl rfl)
theorem dX9_pour_111 : decode cX9_pour 111 = .ok (.invokevirtual 110, 3) := dk_182 0 110 (dk_at dksX9_pour_4 20 rfl rfl)
theorem dX9_pour_114 : decode cX9_pour 114 = .ok (.ireturn, 1) := dk_172 (dk_at dksX9_pour_4 23 rfl rfl)
theorem dX9_pour_115 : decode cX9_pour 115 = .ok (.iconst 0, 1) := dk_3 (dk_at dksX9_pour_5 0 rfl rfl)
theorem dX9_pour_116 : decode cX9_pour 116 = .ok (.istore 6, 2) := dk_54 6 (dk_at dksX9_pour_5 1 rfl rfl)
theorem dX9_pour_118 : decode cX9_pour 118 = .ok (.iload 6, 2) := dk_21 6 (dk_at dksX9_pour_5 3 rfl rfl)
theorem dX9_pour_120 : decode cX9_pour 120 = .ok (.iload 5, 2) := dk_21 5 (dk_at dksX9_pour_5 5 rfl rfl)
theorem dX9_pour_122 : decode cX9_pour 122 = .ok (.if_icmp .ge 58, 3) := dk_162 0 58 (dk_at dksX9_pour_5 7 rfl rfl)
theorem dX9_pour_125 : decode cX9_pour 125 = .ok (.iload_n 2, 1) := dk_28 (dk_at dksX9_pour_5 10 rfl rfl)
theorem dX9_pour_126 : decode cX9_pour 126 = .ok (.iload 4, 2) := dk_21 4 (dk_at dksX9_pour_5 11 rfl rfl)
theorem dX9_pour_128 : decode cX9_pour 128 = .ok (.if_icmp .ge 13, 3) := dk_162 0 13 (dk_at dksX9_pour_5 13 rfl rfl)
theorem dX9_pour_131 : decode cX9_pour 131 = .ok (.iload 5, 2) := dk_21 5 (dk_at dksX9_pour_5 16 rfl rfl)
theorem dX9_pour_133 : decode cX9_pour 133 = .ok (.iconst 1, 1) := dk_4 (dk_at dksX9_pour_5 18 rfl rfl)
theorem dX9_pour_134 : decode cX9_pour 134 = .ok (.isub, 1) := dk_100 (dk_at dksX9_pour_5 19 rfl rfl)
theorem dX9_pour_135 : decode cX9_pour 135 = .ok (.iload 6, 2) := dk_21 6 (dk_at dksX9_pour_5 20 rfl rfl)
theorem dX9_pour_137 : decode cX9_pour 137 = .ok (.isub, 1) := dk_100 (dk_at dksX9_pour_5 22 rfl rfl)
theorem dX9_pour_138 : decode cX9_pour 138 = .ok (.goto 5, 3) := dk_167 0 5 (dk_at dksX9_pour_6 0 rfl rfl)
theorem dX9_pour_141 : decode cX9_pour 141 = .ok (.iload 6, 2) := dk_21 6 (dk_at dksX9_pour_6 3 rfl rfl)
theorem dX9_pour_143 : decode cX9_pour 143 = .ok (.istore 7, 2) := dk_54 7 (dk_at dksX9_pour_6 5 rfl rfl)
theorem dX9_pour_145 : decode cX9_pour 145 = .ok (.aload_n 0, 1) := dk_42 (dk_at dksX9_pour_6 7 rfl rfl)
theorem dX9_pour_146 : decode cX9_pour 146 = .ok (.getfield 27, 3) := dk_180 0 27 (dk_at dksX9_pour_6 8 rfl rfl)
theorem dX9_pour_149 : decode cX9_pour 149 = .ok (.bipush 60, 2) := dk_16 60 (dk_at dksX9_pour_6 11 rfl rfl)
theorem dX9_pour_151 : decode cX9_pour 151 = .ok (.iload_n 3, 1) := dk_29 (dk_at dksX9_pour_6 13 rfl rfl)
theorem dX9_pour_152 : decode cX9_pour 152 = .ok (.imul, 1) := dk_104 (dk_at dksX9_pour_6 14 rfl rfl)
theorem dX9_pour_153 : decode cX9_pour 153 = .ok (.iload 4, 2) := dk_21 4 (dk_at dksX9_pour_6 15 rfl rfl)
theorem dX9_pour_155 : decode cX9_pour 155 = .ok (.iadd, 1) := dk_96 (dk_at dksX9_pour_6 17 rfl rfl)
theorem dX9_pour_156 : decode cX9_pour 156 = .ok (.iload 7, 2) := dk_21 7 (dk_at dksX9_pour_6 18 rfl rfl)
theorem dX9_pour_158 : decode cX9_pour 158 = .ok (.iadd, 1) := dk_96 (dk_at dksX9_pour_6 20 rfl rfl)
theorem dX9_pour_159 : decode cX9_pour 159 = .ok (.aload_n 0, 1) := dk_42 (dk_at dksX9_pour_6 21 rfl rfl)
theorem dX9_pour_160 : decode cX9_pour 160 = .ok (.getfield 27, 3) := dk_180 0 27 (dk_at dksX9_pour_7 0 rfl rfl)
theorem dX9_pour_163 : decode cX9_pour 163 = .ok (.bipush 60, 2) := dk_16 60 (dk_at dksX9_pour_7 3 rfl rfl)
theorem dX9_pour_165 : decode cX9_pour 165 = .ok (.iload_n 1, 1) := dk_27 (dk_at dksX9_pour_7 5 rfl rfl)
theorem dX9_pour_166 : decode cX9_pour 166 = .ok (.imul, 1) := dk_104 (dk_at dksX9_pour_7 6 rfl rfl)
theorem dX9_pour_167 : decode cX9_pour 167 = .ok (.iload_n 2, 1) := dk_28 (dk_at dksX9_pour_7 7 rfl rfl)
theorem dX9_pour_168 : decode cX9_pour 168 = .ok (.iadd, 1) := dk_96 (dk_at dksX9_pour_7 8 rfl rfl)
theorem dX9_pour_169 : decode cX9_pour 169 = .ok (.iload 7, 2) := dk_21 7 (dk_at dksX9_pour_7 9 rfl rfl)
theorem dX9_pour_171 : decode cX9_pour 171 = .ok (.iadd, 1) := dk_96 (dk_at dksX9_pour_7 11 rfl rfl)
theorem dX9_pour_172 : decode cX9_pour 172 = .ok (.laload, 1) := dk_47 (dk_at dksX9_pour_7 12 rfl rfl)
theorem dX9_pour_173 : decode cX9_pour 173 = .ok (.lastore, 1) := dk_80 (dk_at dksX9_pour_7 13 rfl rfl)
theorem dX9_pour_174 : decode cX9_pour 174 = .ok (.iinc 6 1, 3) := dk_132 6 1 (dk_at dksX9_pour_7 14 rfl rfl)
theorem dX9_pour_177 : decode cX9_pour 177 = .ok (.goto (-59), 3) := dk_167 255 197 (dk_at dksX9_pour_7 17 rfl rfl)
theorem dX9_pour_180 : decode cX9_pour 180 = .ok (.aload_n 0, 1) := dk_42 (dk_at dksX9_pour_7 20 rfl rfl)
theorem dX9_pour_181 : decode cX9_pour 181 = .ok (.iconst 0, 1) := dk_3 (dk_at dksX9_pour_7 21 rfl rfl)
theorem dX9_pour_182 : decode cX9_pour 182 = .ok (.invokevirtual 110, 3) := dk_182 0 110 (dk_at dksX9_pour_8 0 rfl rfl)
theorem dX9_pour_185 : decode cX9_pour 185 = .ok (.ireturn, 1) := dk_172 (dk_at dksX9_pour_8 3 rfl rfl)
abbrev cX9_feed : ByteArray := prog_21_method_18_code
def yX9_feed : MethodName := ⟨RX9, "feed", "(IIIII)I"⟩
def dkwX9_feed_2 : List UInt8 := [172]
abbrev dktX9_feed_2 : List UInt8 := dkwX9_feed_2 ++ []
def dkwX9_feed_1 : List UInt8 := [182, 0, 130, 42, 29, 182, 0, 130, 42, 21, 4, 182, 0, 130, 42, 21, 5, 182, 0, 130, 42, 180, 0, 127]
abbrev dktX9_feed_1 : List UInt8 := dkwX9_feed_1 ++ dktX9_feed_2
def dkwX9_feed_0 : List UInt8 := [42, 180, 0, 127, 16, 20, 96, 17, 3, 132, 164, 0, 5, 2, 172, 42, 27, 182, 0, 130, 42, 28]
abbrev dktX9_feed_0 : List UInt8 := dkwX9_feed_0 ++ dktX9_feed_1
theorem dksX9_feed_0 : cX9_feed.data.toList.drop 0 = dktX9_feed_0 := by decide +kernel
theorem dksX9_feed_1 : cX9_feed.data.toList.drop 22 = dktX9_feed_1 := dk_seg dksX9_feed_0 22 rfl rfl
theorem dksX9_feed_2 : cX9_feed.data.toList.drop 46 = dktX9_feed_2 := dk_seg dksX9_feed_1 24 rfl rfl
theorem dX9_feed_0 : decode cX9_feed 0 = .ok (.aload_n 0, 1) := dk_42 (dk_at dksX9_feed_0 0 rfl rfl)
theorem dX9_feed_1 : decode cX9_feed 1 = .ok (.getfield 127, 3) := dk_180 0 127 (dk_at dksX9_feed_0 1 rfl rfl)
theorem dX9_feed_4 : decode cX9_feed 4 = .ok (.bipush 20, 2) := dk_16 20 (dk_at dksX9_feed_0 4 rfl rfl)
theorem dX9_feed_6 : decode cX9_feed 6 = .ok (.iadd, 1) := dk_96 (dk_at dksX9_feed_0 6 rfl rfl)
theorem dX9_feed_7 : decode cX9_feed 7 = .ok (.sipush 900, 3) := dk_17 3 132 (dk_at dksX9_feed_0 7 rfl rfl)
theorem dX9_feed_10 : decode cX9_feed 10 = .ok (.if_icmp .le 5, 3) := dk_164 0 5 (dk_at dksX9_feed_0 10 rfl rfl)
theorem dX9_feed_13 : decode cX9_feed 13 = .ok (.iconst (-1), 1) := dk_2 (dk_at dksX9_feed_0 13 rfl rfl)
theorem dX9_feed_14 : decode cX9_feed 14 = .ok (.ireturn, 1) := dk_172 (dk_at dksX9_feed_0 14 rfl rfl)
theorem dX9_feed_15 : decode cX9_feed 15 = .ok (.aload_n 0, 1) := dk_42 (dk_at dksX9_feed_0 15 rfl rfl)
theorem dX9_feed_16 : decode cX9_feed 16 = .ok (.iload_n 1, 1) := dk_27 (dk_at dksX9_feed_0 16 rfl rfl)
theorem dX9_feed_17 : decode cX9_feed 17 = .ok (.invokevirtual 130, 3) := dk_182 0 130 (dk_at dksX9_feed_0 17 rfl rfl)
theorem dX9_feed_20 : decode cX9_feed 20 = .ok (.aload_n 0, 1) := dk_42 (dk_at dksX9_feed_0 20 rfl rfl)
theorem dX9_feed_21 : decode cX9_feed 21 = .ok (.iload_n 2, 1) := dk_28 (dk_at dksX9_feed_0 21 rfl rfl)
theorem dX9_feed_22 : decode cX9_feed 22 = .ok (.invokevirtual 130, 3) := dk_182 0 130 (dk_at dksX9_feed_1 0 rfl rfl)
theorem dX9_feed_25 : decode cX9_feed 25 = .ok (.aload_n 0, 1) := dk_42 (dk_at dksX9_feed_1 3 rfl rfl)
theorem dX9_feed_26 : decode cX9_feed 26 = .ok (.iload_n 3, 1) := dk_29 (dk_at dksX9_feed_1 4 rfl rfl)
theorem dX9_feed_27 : decode cX9_feed 27 = .ok (.invokevirtual 130, 3) := dk_182 0 130 (dk_at dksX9_feed_1 5 rfl rfl)
theorem dX9_feed_30 : decode cX9_feed 30 = .ok (.aload_n 0, 1) := dk_42 (dk_at dksX9_feed_1 8 rfl rfl)
theorem dX9_feed_31 : decode cX9_feed 31 = .ok (.iload 4, 2) := dk_21 4 (dk_at dksX9_feed_1 9 rfl rfl)
theorem dX9_feed_33 : decode cX9_feed 33 = .ok (.invokevirtual 130, 3) := dk_182 0 130 (dk_at dksX9_feed_1 11 rfl rfl)
theorem dX9_feed_36 : decode cX9_feed 36 = .ok (.aload_n 0, 1) := dk_42 (dk_at dksX9_feed_1 14 rfl rfl)
theorem dX9_feed_37 : decode cX9_feed 37 = .ok (.iload 5, 2) := dk_21 5 (dk_at dksX9_feed_1 15 rfl rfl)
theorem dX9_feed_39 : decode cX9_feed 39 = .ok (.invokevirtual 130, 3) := dk_182 0 130 (dk_at dksX9_feed_1 17 rfl rfl)
theorem dX9_feed_42 : decode cX9_feed 42 = .ok (.aload_n 0, 1) := dk_42 (dk_at dksX9_feed_1 20 rfl rfl)
theorem dX9_feed_43 : decode cX9_feed 43 = .ok (.getfield 127, 3) := dk_180 0 127 (dk_at dksX9_feed_1 21 rfl rfl)
theorem dX9_feed_46 : decode cX9_feed 46 = .ok (.ireturn, 1) := dk_172 (dk_at dksX9_feed_2 0 rfl rfl)
abbrev cX9_four : ByteArray := prog_21_method_19_code
def yX9_four : MethodName := ⟨RX9, "four", "(I)V"⟩
def dkwX9_four_1 : List UInt8 := [180, 0, 127, 4, 96, 181, 0, 127, 132, 2, 248, 167, 255, 226, 177]
abbrev dktX9_four_1 : List UInt8 := dkwX9_four_1 ++ []
def dkwX9_four_0 : List UInt8 := [16, 24, 61, 28, 155, 0, 32, 42, 180, 0, 30, 42, 180, 0, 127, 27, 28, 122, 145, 84, 42, 89]
abbrev dktX9_four_0 : List UInt8 := dkwX9_four_0 ++ dktX9_four_1
theorem dksX9_four_0 : cX9_four.data.toList.drop 0 = dktX9_four_0 := by decide +kernel
theorem dksX9_four_1 : cX9_four.data.toList.drop 22 = dktX9_four_1 := dk_seg dksX9_four_0 22 rfl rfl
theorem dX9_four_0 : decode cX9_four 0 = .ok (.bipush 24, 2) := dk_16 24 (dk_at dksX9_four_0 0 rfl rfl)
theorem dX9_four_2 : decode cX9_four 2 = .ok (.istore_n 2, 1) := dk_61 (dk_at dksX9_four_0 2 rfl rfl)
theorem dX9_four_3 : decode cX9_four 3 = .ok (.iload_n 2, 1) := dk_28 (dk_at dksX9_four_0 3 rfl rfl)
theorem dX9_four_4 : decode cX9_four 4 = .ok (.ifCond .lt 32, 3) := dk_155 0 32 (dk_at dksX9_four_0 4 rfl rfl)
theorem dX9_four_7 : decode cX9_four 7 = .ok (.aload_n 0, 1) := dk_42 (dk_at dksX9_four_0 7 rfl rfl)
theorem dX9_four_8 : decode cX9_four 8 = .ok (.getfield 30, 3) := dk_180 0 30 (dk_at dksX9_four_0 8 rfl rfl)
theorem dX9_four_11 : decode cX9_four 11 = .ok (.aload_n 0, 1) := dk_42 (dk_at dksX9_four_0 11 rfl rfl)
theorem dX9_four_12 : decode cX9_four 12 = .ok (.getfield 127, 3) := dk_180 0 127 (dk_at dksX9_four_0 12 rfl rfl)
theorem dX9_four_15 : decode cX9_four 15 = .ok (.iload_n 1, 1) := dk_27 (dk_at dksX9_four_0 15 rfl rfl)
theorem dX9_four_16 : decode cX9_four 16 = .ok (.iload_n 2, 1) := dk_28 (dk_at dksX9_four_0 16 rfl rfl)
theorem dX9_four_17 : decode cX9_four 17 = .ok (.ishr, 1) := dk_122 (dk_at dksX9_four_0 17 rfl rfl)
theorem dX9_four_18 : decode cX9_four 18 = .ok (.i2b, 1) := dk_145 (dk_at dksX9_four_0 18 rfl rfl)
theorem dX9_four_19 : decode cX9_four 19 = .ok (.bastore, 1) := dk_84 (dk_at dksX9_four_0 19 rfl rfl)
theorem dX9_four_20 : decode cX9_four 20 = .ok (.aload_n 0, 1) := dk_42 (dk_at dksX9_four_0 20 rfl rfl)
theorem dX9_four_21 : decode cX9_four 21 = .ok (.dup, 1) := dk_89 (dk_at dksX9_four_0 21 rfl rfl)
theorem dX9_four_22 : decode cX9_four 22 = .ok (.getfield 127, 3) := dk_180 0 127 (dk_at dksX9_four_1 0 rfl rfl)
theorem dX9_four_25 : decode cX9_four 25 = .ok (.iconst 1, 1) := dk_4 (dk_at dksX9_four_1 3 rfl rfl)
theorem dX9_four_26 : decode cX9_four 26 = .ok (.iadd, 1) := dk_96 (dk_at dksX9_four_1 4 rfl rfl)
theorem dX9_four_27 : decode cX9_four 27 = .ok (.putfield 127, 3) := dk_181 0 127 (dk_at dksX9_four_1 5 rfl rfl)
theorem dX9_four_30 : decode cX9_four 30 = .ok (.iinc 2 (-8), 3) := dk_132 2 248 (dk_at dksX9_four_1 8 rfl rfl)
theorem dX9_four_33 : decode cX9_four 33 = .ok (.goto (-30), 3) := dk_167 255 226 (dk_at dksX9_four_1 11 rfl rfl)
theorem dX9_four_36 : decode cX9_four 36 = .ok (.return_, 1) := dk_177 (dk_at dksX9_four_1 14 rfl rfl)
abbrev cX9_fault : ByteArray := prog_21_method_34_code
def yX9_fault : MethodName := ⟨RX9, "fault", "(I)I"⟩
def dkwX9_fault_1 : List UInt8 := [172]
abbrev dktX9_fault_1 : List UInt8 := dkwX9_fault_1 ++ []
def dkwX9_fault_0 : List UInt8 := [27, 154, 0, 10, 42, 180, 0, 37, 167, 0, 16, 27, 4, 160, 0, 10, 42, 180, 0, 41, 167, 0, 4, 2]
abbrev dktX9_fault_0 : List UInt8 := dkwX9_fault_0 ++ dktX9_fault_1
theorem dksX9_fault_0 : cX9_fault.data.toList.drop 0 = dktX9_fault_0 := by decide +kernel
theorem dksX9_fault_1 : cX9_fault.data.toList.drop 24 = dktX9_fault_1 := dk_seg dksX9_fault_0 24 rfl rfl
theorem dX9_fault_0 : decode cX9_fault 0 = .ok (.iload_n 1, 1) := dk_27 (dk_at dksX9_fault_0 0 rfl rfl)
theorem dX9_fault_1 : decode cX9_fault 1 = .ok (.ifCond .ne 10, 3) := dk_154 0 10 (dk_at dksX9_fault_0 1 rfl rfl)
theorem dX9_fault_4 : decode cX9_fault 4 = .ok (.aload_n 0, 1) := dk_42 (dk_at dksX9_fault_0 4 rfl rfl)
theorem dX9_fault_5 : decode cX9_fault 5 = .ok (.getfield 37, 3) := dk_180 0 37 (dk_at dksX9_fault_0 5 rfl rfl)
theorem dX9_fault_8 : decode cX9_fault 8 = .ok (.goto 16, 3) := dk_167 0 16 (dk_at dksX9_fault_0 8 rfl rfl)
theorem dX9_fault_11 : decode cX9_fault 11 = .ok (.iload_n 1, 1) := dk_27 (dk_at dksX9_fault_0 11 rfl rfl)
theorem dX9_fault_12 : decode cX9_fault 12 = .ok (.iconst 1, 1) := dk_4 (dk_at dksX9_fault_0 12 rfl rfl)
theorem dX9_fault_13 : decode cX9_fault 13 = .ok (.if_icmp .ne 10, 3) := dk_160 0 10 (dk_at dksX9_fault_0 13 rfl rfl)
theorem dX9_fault_16 : decode cX9_fault 16 = .ok (.aload_n 0, 1) := dk_42 (dk_at dksX9_fault_0 16 rfl rfl)
theorem dX9_fault_17 : decode cX9_fault 17 = .ok (.getfield 41, 3) := dk_180 0 41 (dk_at dksX9_fault_0 17 rfl rfl)
theorem dX9_fault_20 : decode cX9_fault 20 = .ok (.goto 4, 3) := dk_167 0 4 (dk_at dksX9_fault_0 20 rfl rfl)
theorem dX9_fault_23 : decode cX9_fault 23 = .ok (.iconst (-1), 1) := dk_2 (dk_at dksX9_fault_0 23 rfl rfl)
theorem dX9_fault_24 : decode cX9_fault 24 = .ok (.ireturn, 1) := dk_172 (dk_at dksX9_fault_1 0 rfl rfl)
abbrev cX9_town : ByteArray := prog_21_method_45_code
def yX9_town : MethodName := ⟨RX9, "town", "(I)I"⟩
def dkwX9_town_6 : List UInt8 := [42, 182, 0, 252, 42, 42, 180, 0, 7, 4, 46, 182, 0, 255, 172]
abbrev dktX9_town_6 : List UInt8 := dkwX9_town_6 ++ []
def dkwX9_town_5 : List UInt8 := [162, 0, 24, 42, 180, 0, 13, 29, 42, 180, 0, 13, 16, 80, 29, 96, 47, 80, 132, 3, 1, 167, 255, 232]
abbrev dktX9_town_5 : List UInt8 := dkwX9_town_5 ++ dktX9_town_6
def dkwX9_town_4 : List UInt8 := [42, 180, 0, 7, 17, 6, 184, 29, 96, 46, 79, 132, 3, 1, 167, 255, 230, 3, 62, 29, 16, 20]
abbrev dktX9_town_4 : List UInt8 := dkwX9_town_4 ++ dktX9_town_5
def dkwX9_town_3 : List UInt8 := [167, 255, 240, 42, 180, 0, 174, 154, 0, 67, 3, 62, 29, 17, 1, 174, 162, 0, 25, 42, 180, 0, 7, 29]
abbrev dktX9_town_3 : List UInt8 := dkwX9_town_3 ++ dktX9_town_4
def dkwX9_town_2 : List UInt8 := [17, 6, 188, 2, 79, 4, 61, 28, 153, 0, 18, 42, 180, 0, 149, 153, 0, 11, 42, 182, 0, 249, 61]
abbrev dktX9_town_2 : List UInt8 := dkwX9_town_2 ++ dktX9_town_3
def dkwX9_town_1 : List UInt8 := [162, 0, 20, 42, 180, 0, 7, 17, 6, 184, 28, 96, 3, 79, 132, 2, 1, 167, 255, 235, 42, 180, 0, 7]
abbrev dktX9_town_1 : List UInt8 := dkwX9_town_1 ++ dktX9_town_2
def dkwX9_town_0 : List UInt8 := [42, 27, 17, 3, 132, 182, 0, 245, 154, 0, 9, 42, 4, 182, 0, 103, 172, 3, 61, 28, 17, 1, 174]
abbrev dktX9_town_0 : List UInt8 := dkwX9_town_0 ++ dktX9_town_1
theorem dksX9_town_0 : cX9_town.data.toList.drop 0 = dktX9_town_0 := by decide +kernel
theorem dksX9_town_1 : cX9_town.data.toList.drop 23 = dktX9_town_1 := dk_seg dksX9_town_0 23 rfl rfl
theorem dksX9_town_2 : cX9_town.data.toList.drop 47 = dktX9_town_2 := dk_seg dksX9_town_1 24 rfl rfl
theorem dksX9_town_3 : cX9_town.data.toList.drop 70 = dktX9_town_3 := dk_seg dksX9_town_2 23 rfl rfl
theorem dksX9_town_4 : cX9_town.data.toList.drop 94 = dktX9_town_4 := dk_seg dksX9_town_3 24 rfl rfl
theorem dksX9_town_5 : cX9_town.data.toList.drop 116 = dktX9_town_5 := dk_seg dksX9_town_4 22 rfl rfl
theorem dksX9_town_6 : cX9_town.data.toList.drop 140 = dktX9_town_6 := dk_seg dksX9_town_5 24 rfl rfl
theorem dX9_town_0 : decode cX9_town 0 = .ok (.aload_n 0, 1) := dk_42 (dk_at dksX9_town_0 0 rfl rfl)
theorem dX9_town_1 : decode cX9_town 1 = .ok (.iload_n 1, 1) := dk_27 (dk_at dksX9_town_0 1 rfl rfl)
theorem dX9_town_2 : decode cX9_town 2 = .ok (.sipush 900, 3) := dk_17 3 132 (dk_at dksX9_town_0 2 rfl rfl)
theorem dX9_town_5 : decode cX9_town 5 = .ok (.invokevirtual 245, 3) := dk_182 0 245 (dk_at dksX9_town_0 5 rfl rfl)
theorem dX9_town_8 : decode cX9_town 8 = .ok (.ifCond .ne 9, 3) := dk_154 0 9 (dk_at dksX9_town_0 8 rfl rfl)
theorem dX9_town_11 : decode cX9_town 11 = .ok (.aload_n 0, 1) := dk_42 (dk_at dksX9_town_0 11 rfl rfl)
theorem dX9_town_12 : decode cX9_town 12 = .ok (.iconst 1, 1) := dk_4 (dk_at dksX9_town_0 12 rfl rfl)
theorem dX9_town_13 : decode cX9_town 13 = .ok (.invokevirtual 103, 3) := dk_182 0 103 (dk_at dksX9_town_0 13 rfl rfl)
theorem dX9_town_16 : decode cX9_town 16 = .ok (.ireturn, 1) := dk_172 (dk_at dksX9_town_0 16 rfl rfl)
theorem dX9_town_17 : decode cX9_town 17 = .ok (.iconst 0, 1) := dk_3 (dk_at dksX9_town_0 17 rfl rfl)
theorem dX9_town_18 : decode cX9_town 18 = .ok (.istore_n 2, 1) := dk_61 (dk_at dksX9_town_0 18 rfl rfl)
theorem dX9_town_19 : decode cX9_town 19 = .ok (.iload_n 2, 1) := dk_28 (dk_at dksX9_town_0 19 rfl rfl)
theorem dX9_town_20 : decode cX9_town 20 = .ok (.sipush 430, 3) := dk_17 1 174 (dk_at dksX9_town_0 20 rfl rfl)
theorem dX9_town_23 : decode cX9_town 23 = .ok (.if_icmp .ge 20, 3) := dk_162 0 20 (dk_at dksX9_town_1 0 rfl rfl)
theorem dX9_town_26 : decode cX9_town 26 = .ok (.aload_n 0, 1) := dk_42 (dk_at dksX9_town_1 3 rfl rfl)
theorem dX9_town_27 : decode cX9_town 27 = .ok (.getfield 7, 3) := dk_180 0 7 (dk_at dksX9_town_1 4 rfl rfl)
theorem dX9_town_30 : decode cX9_town 30 = .ok (.sipush 1720, 3) := dk_17 6 184 (dk_at dksX9_town_1 7 rfl rfl)
theorem dX9_town_33 : decode cX9_town 33 = .ok (.iload_n 2, 1) := dk_28 (dk_at dksX9_town_1 10 rfl rfl)
theorem dX9_town_34 : decode cX9_town 34 = .ok (.iadd, 1) := dk_96 (dk_at dksX9_town_1 11 rfl rfl)
theorem dX9_town_35 : decode cX9_town 35 = .ok (.iconst 0, 1) := dk_3 (dk_at dksX9_town_1 12 rfl rfl)
theorem dX9_town_36 : decode cX9_town 36 = .ok (.iastore, 1) := dk_79 (dk_at dksX9_town_1 13 rfl rfl)
theorem dX9_town_37 : decode cX9_town 37 = .ok (.iinc 2 1, 3) := dk_132 2 1 (dk_at dksX9_town_1 14 rfl rfl)
theorem dX9_town_40 : decode cX9_town 40 = .ok (.goto (-21), 3) := dk_167 255 235 (dk_at dksX9_town_1 17 rfl rfl)
theorem dX9_town_43 : decode cX9_town 43 = .ok (.aload_n 0, 1) := dk_42 (dk_at dksX9_town_1 20 rfl rfl)
theorem dX9_town_44 : decode cX9_town 44 = .ok (.getfield 7, 3) := dk_180 0 7 (dk_at dksX9_town_1 21 rfl rfl)
theorem dX9_town_47 : decode cX9_town 47 = .ok (.sipush 1724, 3) := dk_17 6 188 (dk_at dksX9_town_2 0 rfl rfl)
theorem dX9_town_50 : decode cX9_town 50 = .ok (.iconst (-1), 1) := dk_2 (dk_at dksX9_town_2 3 rfl rfl)
theorem dX9_town_51 : decode cX9_town 51 = .ok (.iastore, 1) := dk_79 (dk_at dksX9_town_2 4 rfl rfl)
theorem dX9_town_52 : decode cX9_town 52 = .ok (.iconst 1, 1) := dk_4 (dk_at dksX9_town_2 5 rfl rfl)
theorem dX9_town_53 : decode cX9_town 53 = .ok (.istore_n 2, 1) := dk_61 (dk_at dksX9_town_2 6 rfl rfl)
theorem dX9_town_54 : decode cX9_town 54 = .ok (.iload_n 2, 1) := dk_28 (dk_at dksX9_town_2 7 rfl rfl)
theorem dX9_town_55 : decode cX9_town 55 = .ok (.ifCond .eq 18, 3) := dk_153 0 18 (dk_at dksX9_town_2 8 rfl rfl)
theorem dX9_town_58 : decode cX9_town 58 = .ok (.aload_n 0, 1) := dk_42 (dk_at dksX9_town_2 11 rfl rfl)
theorem dX9_town_59 : decode cX9_town 59 = .ok (.getfield 149, 3) := dk_180 0 149 (dk_at dksX9_town_2 12 rfl rfl)
theorem dX9_town_62 : decode cX9_town 62 = .ok (.ifCond .eq 11, 3) := dk_153 0 11 (dk_at dksX9_town_2 15 rfl rfl)
theorem dX9_town_65 : decode cX9_town 65 = .ok (.aload_n 0, 1) := dk_42 (dk_at dksX9_town_2 18 rfl rfl)
theorem dX9_town_66 : decode cX9_town 66 = .ok (.invokevirtual 249, 3) := dk_182 0 249 (dk_at dksX9_town_2 19 rfl rfl)
theorem dX9_town_69 : decode cX9_town 69 = .ok (.istore_n 2, 1) := dk_61 (dk_at dksX9_town_2 22 rfl rfl)
theorem dX9_town_70 : decode cX9_town 70 = .ok (.goto (-16), 3) := dk_167 255 240 (dk_at dksX9_town_3 0 rfl rfl)
theorem dX9_town_73 : decode cX9_town 73 = .ok (.aload_n 0, 1) := dk_42 (dk_at dksX9_town_3 3 rfl rfl)
theorem dX9_town_74 : decode cX9_town 74 = .ok (.getfield 174, 3) := dk_180 0 174 (dk_at dksX9_town_3 4 rfl rfl)
theorem dX9_town_77 : decode cX9_town 77 = .ok (.ifCond .ne 67, 3) := dk_154 0 67 (dk_at dksX9_town_3 7 rfl rfl)
theorem dX9_town_80 : decode cX9_town 80 = .ok (.iconst 0, 1) := dk_3 (dk_at dksX9_town_3 10 rfl rfl)
theorem dX9_town_81 : decode cX9_town 81 = .ok (.istore_n 3, 1) := dk_62 (dk_at dksX9_town_3 11 rfl rfl)
theorem dX9_town_82 : decode cX9_town 82 = .ok (.iload_n 3, 1) := dk_29 (dk_at dksX9_town_3 12 rfl rfl)
theorem dX9_town_83 : decode cX9_town 83 = .ok (.sipush 430, 3) := dk_17 1 174 (dk_at dksX9_town_3 13 rfl rfl)
theorem dX9_town_86 : decode cX9_town 86 = .ok (.if_icmp .ge 25, 3) := dk_162 0 25 (dk_at dksX9_town_3 16 rfl rfl)
theorem dX9_town_89 : decode cX9_town 89 = .ok (.aload_n 0, 1) := dk_42 (dk_at dksX9_town_3 19 rfl rfl)
theorem dX9_town_90 : decode cX9_town 90 = .ok (.getfield 7, 3) := dk_180 0 7 (dk_at dksX9_town_3 20 rfl rfl)
theorem dX9_town_93 : decode cX9_town 93 = .ok (.iload_n 3, 1) := dk_29 (dk_at dksX9_town_3 23 rfl rfl)
theorem dX9_town_94 : decode cX9_town 94 = .ok (.aload_n 0, 1) := dk_42 (dk_at dksX9_town_4 0 rfl rfl)
theorem dX9_town_95 : decode cX9_town 95 = .ok (.getfield 7, 3) := dk_180 0 7 (dk_at dksX9_town_4 1 rfl rfl)
theorem dX9_town_98 : decode cX9_town 98 = .ok (.sipush 1720, 3) := dk_17 6 184 (dk_at dksX9_town_4 4 rfl rfl)
theorem dX9_town_101 : decode cX9_town 101 = .ok (.iload_n 3, 1) := dk_29 (dk_at dksX9_town_4 7 rfl rfl)
theorem dX9_town_102 : decode cX9_town 102 = .ok (.iadd, 1) := dk_96 (dk_at dksX9_town_4 8 rfl rfl)
theorem dX9_town_103 : decode cX9_town 103 = .ok (.iaload, 1) := dk_46 (dk_at dksX9_town_4 9 rfl rfl)
theorem dX9_town_104 : decode cX9_town 104 = .ok (.iastore, 1) := dk_79 (dk_at dksX9_town_4 10 rfl rfl)
theorem dX9_town_105 : decode cX9_town 105 = .ok (.iinc 3 1, 3) := dk_132 3 1 (dk_at dksX9_town_4 11 rfl rfl)
theorem dX9_town_108 : decode cX9_town 108 = .ok (.goto (-26), 3) := dk_167 255 230 (dk_at dksX9_town_4 14 rfl rfl)
theorem dX9_town_111 : decode cX9_town 111 = .ok (.iconst 0, 1) := dk_3 (dk_at dksX9_town_4 17 rfl rfl)
theorem dX9_town_112 : decode cX9_town 112 = .ok (.istore_n 3, 1) := dk_62 (dk_at dksX9_town_4 18 rfl rfl)
theorem dX9_town_113 : decode cX9_town 113 = .ok (.iload_n 3, 1) := dk_29 (dk_at dksX9_town_4 19 rfl rfl)
theorem dX9_town_114 : decode cX9_town 114 = .ok (.bipush 20, 2) := dk_16 20 (dk_at dksX9_town_4 20 rfl rfl)
theorem dX9_town_116 : decode cX9_town 116 = .ok (.if_icmp .ge 24, 3) := dk_162 0 24 (dk_at dksX9_town_5 0 rfl rfl)
theorem dX9_town_119 : decode cX9_town 119 = .ok (.aload_n 0, 1) := dk_42 (dk_at dksX9_town_5 3 rfl rfl)
theorem dX9_town_120 : decode cX9_town 120 = .ok (.getfield 13, 3) := dk_180 0 13 (dk_at dksX9_town_5 4 rfl rfl)
theorem dX9_town_123 : decode cX9_town 123 = .ok (.iload_n 3, 1) := dk_29 (dk_at dksX9_town_5 7 rfl rfl)
theorem dX9_town_124 : decode cX9_town 124 = .ok (.aload_n 0, 1) := dk_42 (dk_at dksX9_town_5 8 rfl rfl)
theorem dX9_town_125 : decode cX9_town 125 = .ok (.getfield 13, 3) := dk_180 0 13 (dk_at dksX9_town_5 9 rfl rfl)
theorem dX9_town_128 : decode cX9_town 128 = .ok (.bipush 80, 2) := dk_16 80 (dk_at dksX9_town_5 12 rfl rfl)
theorem dX9_town_130 : decode cX9_town 130 = .ok (.iload_n 3, 1) := dk_29 (dk_at dksX9_town_5 14 rfl rfl)
theorem dX9_town_131 : decode cX9_town 131 = .ok (.iadd, 1) := dk_96 (dk_at dksX9_town_5 15 rfl rfl)
theorem dX9_town_132 : decode cX9_town 132 = .ok (.laload, 1) := dk_47 (dk_at dksX9_town_5 16 rfl rfl)
theorem dX9_town_133 : decode cX9_town 133 = .ok (.lastore, 1) := dk_80 (dk_at dksX9_town_5 17 rfl rfl)
theorem dX9_town_134 : decode cX9_town 134 = .ok (.iinc 3 1, 3) := dk_132 3 1 (dk_at dksX9_town_5 18 rfl rfl)
theorem dX9_town_137 : decode cX9_town 137 = .ok (.goto (-24), 3) := dk_167 255 232 (dk_at dksX9_town_5 21 rfl rfl)
theorem dX9_town_140 : decode cX9_town 140 = .ok (.aload_n 0, 1) := dk_42 (dk_at dksX9_town_6 0 rfl rfl)
theorem dX9_town_141 : decode cX9_town 141 = .ok (.invokevirtual 252, 3) := dk_182 0 252 (dk_at dksX9_town_6 1 rfl rfl)
theorem dX9_town_144 : decode cX9_town 144 = .ok (.aload_n 0, 1) := dk_42 (dk_at dksX9_town_6 4 rfl rfl)
theorem dX9_town_145 : decode cX9_town 145 = .ok (.aload_n 0, 1) := dk_42 (dk_at dksX9_town_6 5 rfl rfl)
theorem dX9_town_146 : decode cX9_town 146 = .ok (.getfield 7, 3) := dk_180 0 7 (dk_at dksX9_town_6 6 rfl rfl)
theorem dX9_town_149 : decode cX9_town 149 = .ok (.iconst 1, 1) := dk_4 (dk_at dksX9_town_6 9 rfl rfl)
theorem dX9_town_150 : decode cX9_town 150 = .ok (.iaload, 1) := dk_46 (dk_at dksX9_town_6 10 rfl rfl)
theorem dX9_town_151 : decode cX9_town 151 = .ok (.invokevirtual 255, 3) := dk_182 0 255 (dk_at dksX9_town_6 11 rfl rfl)
theorem dX9_town_154 : decode cX9_town 154 = .ok (.ireturn, 1) := dk_172 (dk_at dksX9_town_6 14 rfl rfl)
abbrev cX9_begins : ByteArray := prog_21_method_27_code
def yX9_begins : MethodName := ⟨RX9, "begins", "(II)Z"⟩
def dkwX9_begins_3 : List UInt8 := [3, 181, 0, 177, 42, 182, 0, 180, 4, 172]
abbrev dktX9_begins_3 : List UInt8 := dkwX9_begins_3 ++ []
def dkwX9_begins_2 : List UInt8 := [167, 255, 236, 42, 3, 181, 0, 127, 42, 3, 181, 0, 174, 42, 2, 181, 0, 41, 42, 3, 181, 0, 137, 42]
abbrev dktX9_begins_2 : List UInt8 := dkwX9_begins_2 ++ dktX9_begins_3
def dkwX9_begins_1 : List UInt8 := [3, 62, 29, 27, 162, 0, 21, 42, 180, 0, 34, 29, 42, 180, 0, 30, 29, 51, 84, 132, 3, 1]
abbrev dktX9_begins_1 : List UInt8 := dkwX9_begins_1 ++ dktX9_begins_2
def dkwX9_begins_0 : List UInt8 := [27, 155, 0, 16, 27, 42, 180, 0, 127, 163, 0, 8, 27, 28, 164, 0, 5, 3, 172, 42, 27, 181, 0, 134]
abbrev dktX9_begins_0 : List UInt8 := dkwX9_begins_0 ++ dktX9_begins_1
theorem dksX9_begins_0 : cX9_begins.data.toList.drop 0 = dktX9_begins_0 := by decide +kernel
theorem dksX9_begins_1 : cX9_begins.data.toList.drop 24 = dktX9_begins_1 := dk_seg dksX9_begins_0 24 rfl rfl
theorem dksX9_begins_2 : cX9_begins.data.toList.drop 46 = dktX9_begins_2 := dk_seg dksX9_begins_1 22 rfl rfl
theorem dksX9_begins_3 : cX9_begins.data.toList.drop 70 = dktX9_begins_3 := dk_seg dksX9_begins_2 24 rfl rfl
theorem dX9_begins_0 : decode cX9_begins 0 = .ok (.iload_n 1, 1) := dk_27 (dk_at dksX9_begins_0 0 rfl rfl)
theorem dX9_begins_1 : decode cX9_begins 1 = .ok (.ifCond .lt 16, 3) := dk_155 0 16 (dk_at dksX9_begins_0 1 rfl rfl)
theorem dX9_begins_4 : decode cX9_begins 4 = .ok (.iload_n 1, 1) := dk_27 (dk_at dksX9_begins_0 4 rfl rfl)
theorem dX9_begins_5 : decode cX9_begins 5 = .ok (.aload_n 0, 1) := dk_42 (dk_at dksX9_begins_0 5 rfl rfl)
theorem dX9_begins_6 : decode cX9_begins 6 = .ok (.getfield 127, 3) := dk_180 0 127 (dk_at dksX9_begins_0 6 rfl rfl)
theorem dX9_begins_9 : decode cX9_begins 9 = .ok (.if_icmp .gt 8, 3) := dk_163 0 8 (dk_at dksX9_begins_0 9 rfl rfl)
theorem dX9_begins_12 : decode cX9_begins 12 = .ok (.iload_n 1, 1) := dk_27 (dk_at dksX9_begins_0 12 rfl rfl)
theorem dX9_begins_13 : decode cX9_begins 13 = .ok (.iload_n 2, 1) := dk_28 (dk_at dksX9_begins_0 13 rfl rfl)
theorem dX9_begins_14 : decode cX9_begins 14 = .ok (.if_icmp .le 5, 3) := dk_164 0 5 (dk_at dksX9_begins_0 14 rfl rfl)
theorem dX9_begins_17 : decode cX9_begins 17 = .ok (.iconst 0, 1) := dk_3 (dk_at dksX9_begins_0 17 rfl rfl)
theorem dX9_begins_18 : decode cX9_begins 18 = .ok (.ireturn, 1) := dk_172 (dk_at dksX9_begins_0 18 rfl rfl)
theorem dX9_begins_19 : decode cX9_begins 19 = .ok (.aload_n 0, 1) := dk_42 (dk_at dksX9_begins_0 19 rfl rfl)
theorem dX9_begins_20 : decode cX9_begins 20 = .ok (.iload_n 1, 1) := dk_27 (dk_at dksX9_begins_0 20 rfl rfl)
theorem dX9_begins_21 : decode cX9_begins 21 = .ok (.putfield 134, 3) := dk_181 0 134 (dk_at dksX9_begins_0 21 rfl rfl)
theorem dX9_begins_24 : decode cX9_begins 24 = .ok (.iconst 0, 1) := dk_3 (dk_at dksX9_begins_1 0 rfl rfl)
theorem dX9_begins_25 : decode cX9_begins 25 = .ok (.istore_n 3, 1) := dk_62 (dk_at dksX9_begins_1 1 rfl rfl)
theorem dX9_begins_26 : decode cX9_begins 26 = .ok (.iload_n 3, 1) := dk_29 (dk_at dksX9_begins_1 2 rfl rfl)
theorem dX9_begins_27 : decode cX9_begins 27 = .ok (.iload_n 1, 1) := dk_27 (dk_at dksX9_begins_1 3 rfl rfl)
theorem dX9_begins_28 : decode cX9_begins 28 = .ok (.if_icmp .ge 21, 3) := dk_162 0 21 (dk_at dksX9_begins_1 4 rfl rfl)
theorem dX9_begins_31 : decode cX9_begins 31 = .ok (.aload_n 0, 1) := dk_42 (dk_at dksX9_begins_1 7 rfl rfl)
theorem dX9_begins_32 : decode cX9_begins 32 = .ok (.getfield 34, 3) := dk_180 0 34 (dk_at dksX9_begins_1 8 rfl rfl)
theorem dX9_begins_35 : decode cX9_begins 35 = .ok (.iload_n 3, 1) := dk_29 (dk_at dksX9_begins_1 11 rfl rfl)
theorem dX9_begins_36 : decode cX9_begins 36 = .ok (.aload_n 0, 1) := dk_42 (dk_at dksX9_begins_1 12 rfl rfl)
theorem dX9_begins_37 : decode cX9_begins 37 = .ok (.getfield 30, 3) := dk_180 0 30 (dk_at dksX9_begins_1 13 rfl rfl)
theorem dX9_begins_40 : decode cX9_begins 40 = .ok (.iload_n 3, 1) := dk_29 (dk_at dksX9_begins_1 16 rfl rfl)
theorem dX9_begins_41 : decode cX9_begins 41 = .ok (.baload, 1) := dk_51 (dk_at dksX9_begins_1 17 rfl rfl)
theorem dX9_begins_42 : decode cX9_begins 42 = .ok (.bastore, 1) := dk_84 (dk_at dksX9_begins_1 18 rfl rfl)
theorem dX9_begins_43 : decode cX9_begins 43 = .ok (.iinc 3 1, 3) := dk_132 3 1 (dk_at dksX9_begins_1 19 rfl rfl)
theorem dX9_begins_46 : decode cX9_begins 46 = .ok (.goto (-20), 3) := dk_167 255 236 (dk_at dksX9_begins_2 0 rfl rfl)
theorem dX9_begins_49 : decode cX9_begins 49 = .ok (.aload_n 0, 1) := dk_42 (dk_at dksX9_begins_2 3 rfl rfl)
theorem dX9_begins_50 : decode cX9_begins 50 = .ok (.iconst 0, 1) := dk_3 (dk_at dksX9_begins_2 4 rfl rfl)
theorem dX9_begins_51 : decode cX9_begins 51 = .ok (.putfield 127, 3) := dk_181 0 127 (dk_at dksX9_begins_2 5 rfl rfl)
theorem dX9_begins_54 : decode cX9_begins 54 = .ok (.aload_n 0, 1) := dk_42 (dk_at dksX9_begins_2 8 rfl rfl)
theorem dX9_begins_55 : decode cX9_begins 55 = .ok (.iconst 0, 1) := dk_3 (dk_at dksX9_begins_2 9 rfl rfl)
theorem dX9_begins_56 : decode cX9_begins 56 = .ok (.putfield 174, 3) := dk_181 0 174 (dk_at dksX9_begins_2 10 rfl rfl)
theorem dX9_begins_59 : decode cX9_begins 59 = .ok (.aload_n 0, 1) := dk_42 (dk_at dksX9_begins_2 13 rfl rfl)
theorem dX9_begins_60 : decode cX9_begins 60 = .ok (.iconst (-1), 1) := dk_2 (dk_at dksX9_begins_2 14 rfl rfl)
theorem dX9_begins_61 : decode cX9_begins 61 = .ok (.putfield 41, 3) := dk_181 0 41 (dk_at dksX9_begins_2 15 rfl rfl)
theorem dX9_begins_64 : decode cX9_begins 64 = .ok (.aload_n 0, 1) := dk_42 (dk_at dksX9_begins_2 18 rfl rfl)
theorem dX9_begins_65 : decode cX9_begins 65 = .ok (.iconst 0, 1) := dk_3 (dk_at dksX9_begins_2 19 rfl rfl)
theorem dX9_begins_66 : decode cX9_begins 66 = .ok (.putfield 137, 3) := dk_181 0 137 (dk_at dksX9_begins_2 20 rfl rfl)
theorem dX9_begins_69 : decode cX9_begins 69 = .ok (.aload_n 0, 1) := dk_42 (dk_at dksX9_begins_2 23 rfl rfl)
theorem dX9_begins_70 : decode cX9_begins 70 = .ok (.iconst 0, 1) := dk_3 (dk_at dksX9_begins_3 0 rfl rfl)
theorem dX9_begins_71 : decode cX9_begins 71 = .ok (.putfield 177, 3) := dk_181 0 177 (dk_at dksX9_begins_3 1 rfl rfl)
theorem dX9_begins_74 : decode cX9_begins 74 = .ok (.aload_n 0, 1) := dk_42 (dk_at dksX9_begins_3 4 rfl rfl)
theorem dX9_begins_75 : decode cX9_begins 75 = .ok (.invokevirtual 180, 3) := dk_182 0 180 (dk_at dksX9_begins_3 5 rfl rfl)
theorem dX9_begins_78 : decode cX9_begins 78 = .ok (.iconst 1, 1) := dk_4 (dk_at dksX9_begins_3 8 rfl rfl)
theorem dX9_begins_79 : decode cX9_begins 79 = .ok (.ireturn, 1) := dk_172 (dk_at dksX9_begins_3 9 rfl rfl)
abbrev cX9_ahead : ByteArray := prog_21_method_23_code
def yX9_ahead : MethodName := ⟨RX9, "ahead", "()V"⟩
def dkwX9_ahead_10 : List UInt8 := [177]
abbrev dktX9_ahead_10 : List UInt8 := dkwX9_ahead_10 ++ []
def dkwX9_ahead_9 : List UInt8 := [89, 180, 0, 137, 4, 96, 181, 0, 137, 42, 27, 16, 59, 160, 0, 7, 7, 167, 0, 4, 4, 181, 0, 149]
abbrev dktX9_ahead_9 : List UInt8 := dkwX9_ahead_9 ++ dktX9_ahead_10
def dkwX9_ahead_8 : List UInt8 := [180, 0, 137, 42, 180, 0, 143, 100, 7, 164, 0, 7, 4, 167, 0, 4, 6, 181, 0, 149, 167, 0, 28, 42]
abbrev dktX9_ahead_8 : List UInt8 := dkwX9_ahead_8 ++ dktX9_ahead_9
def dkwX9_ahead_7 : List UInt8 := [100, 184, 0, 159, 181, 0, 146, 42, 89, 180, 0, 137, 4, 96, 181, 0, 137, 167, 255, 204, 42, 42]
abbrev dktX9_ahead_7 : List UInt8 := dkwX9_ahead_7 ++ dktX9_ahead_8
def dkwX9_ahead_6 : List UInt8 := [153, 0, 44, 42, 18, 158, 16, 10, 42, 180, 0, 146, 104, 42, 42, 180, 0, 137, 182, 0, 140, 96, 16, 48]
abbrev dktX9_ahead_6 : List UInt8 := dkwX9_ahead_6 ++ dktX9_ahead_7
def dkwX9_ahead_5 : List UInt8 := [184, 0, 155, 153, 0, 88, 42, 3, 181, 0, 146, 42, 42, 180, 0, 137, 182, 0, 140, 184, 0, 155]
abbrev dktX9_ahead_5 : List UInt8 := dkwX9_ahead_5 ++ dktX9_ahead_6
def dkwX9_ahead_4 : List UInt8 := [42, 89, 180, 0, 137, 4, 96, 181, 0, 137, 167, 255, 232, 42, 5, 181, 0, 149, 167, 0, 120, 27]
abbrev dktX9_ahead_4 : List UInt8 := dkwX9_ahead_4 ++ dktX9_ahead_5
def dkwX9_ahead_3 : List UInt8 := [167, 0, 162, 27, 184, 0, 152, 153, 0, 38, 42, 42, 180, 0, 137, 182, 0, 140, 184, 0, 152, 153, 0, 16]
abbrev dktX9_ahead_3 : List UInt8 := dkwX9_ahead_3 ++ dktX9_ahead_4
def dkwX9_ahead_2 : List UInt8 := [42, 42, 180, 0, 137, 182, 0, 140, 60, 42, 27, 181, 0, 146, 27, 2, 160, 0, 11, 42, 3, 181, 0, 149]
abbrev dktX9_ahead_2 : List UInt8 := dkwX9_ahead_2 ++ dktX9_ahead_3
def dkwX9_ahead_1 : List UInt8 := [160, 0, 16, 42, 89, 180, 0, 137, 4, 96, 181, 0, 137, 167, 255, 220, 42, 42, 180, 0, 137, 181, 0, 143]
abbrev dktX9_ahead_1 : List UInt8 := dkwX9_ahead_1 ++ dktX9_ahead_2
def dkwX9_ahead_0 : List UInt8 := [42, 42, 180, 0, 137, 182, 0, 140, 16, 32, 159, 0, 16, 42, 42, 180, 0, 137, 182, 0, 140, 16, 10]
abbrev dktX9_ahead_0 : List UInt8 := dkwX9_ahead_0 ++ dktX9_ahead_1
theorem dksX9_ahead_0 : cX9_ahead.data.toList.drop 0 = dktX9_ahead_0 := by decide +kernel
theorem dksX9_ahead_1 : cX9_ahead.data.toList.drop 23 = dktX9_ahead_1 := dk_seg dksX9_ahead_0 23 rfl rfl
theorem dksX9_ahead_2 : cX9_ahead.data.toList.drop 47 = dktX9_ahead_2 := dk_seg dksX9_ahead_1 24 rfl rfl
theorem dksX9_ahead_3 : cX9_ahead.data.toList.drop 71 = dktX9_ahead_3 := dk_seg dksX9_ahead_2 24 rfl rfl
theorem dksX9_ahead_4 : cX9_ahead.data.toList.drop 95 = dktX9_ahead_4 := dk_seg dksX9_ahead_3 24 rfl rfl
theorem dksX9_ahead_5 : cX9_ahead.data.toList.drop 117 = dktX9_ahead_5 := dk_seg dksX9_ahead_4 22 rfl rfl
theorem dksX9_ahead_6 : cX9_ahead.data.toList.drop 139 = dktX9_ahead_6 := dk_seg dksX9_ahead_5 22 rfl rfl
theorem dksX9_ahead_7 : cX9_ahead.data.toList.drop 163 = dktX9_ahead_7 := dk_seg dksX9_ahead_6 24 rfl rfl
theorem dksX9_ahead_8 : cX9_ahead.data.toList.drop 185 = dktX9_ahead_8 := dk_seg dksX9_ahead_7 22 rfl rfl
theorem dksX9_ahead_9 : cX9_ahead.data.toList.drop 209 = dktX9_ahead_9 := dk_seg dksX9_ahead_8 24 rfl rfl
theorem dksX9_ahead_10 : cX9_ahead.data.toList.drop 233 = dktX9_ahead_10 := dk_seg dksX9_ahead_9 24 rfl rfl
theorem dX9_ahead_0 : decode cX9_ahead 0 = .ok (.aload_n 0, 1) := dk_42 (dk_at dksX9_ahead_0 0 rfl rfl)
theorem dX9_ahead_1 : decode cX9_ahead 1 = .ok (.aload_n 0, 1) := dk_42 (dk_at dksX9_ahead_0 1 rfl rfl)
theorem dX9_ahead_2 : decode cX9_ahead 2 = .ok (.getfield 137, 3) := dk_180 0 137 (dk_at dksX9_ahead_0 2 rfl rfl)
theorem dX9_ahead_5 : decode cX9_ahead 5 = .ok (.invokevirtual 140, 3) := dk_182 0 140 (dk_at dksX9_ahead_0 5 rfl rfl)
theorem dX9_ahead_8 : decode cX9_ahead 8 = .ok (.bipush 32, 2) := dk_16 32 (dk_at dksX9_ahead_0 8 rfl rfl)
theorem dX9_ahead_10 : decode cX9_ahead 10 = .ok (.if_icmp .eq 16, 3) := dk_159 0 16 (dk_at dksX9_ahead_0 10 rfl rfl)
theorem dX9_ahead_13 : decode cX9_ahead 13 = .ok (.aload_n 0, 1) := dk_42 (dk_at dksX9_ahead_0 13 rfl rfl)
theorem dX9_ahead_14 : decode cX9_ahead 14 = .ok (.aload_n 0, 1) := dk_42 (dk_at dksX9_ahead_0 14 rfl rfl)
theorem dX9_ahead_15 : decode cX9_ahead 15 = .ok (.getfield 137, 3) := dk_180 0 137 (dk_at dksX9_ahead_0 15 rfl rfl)
theorem dX9_ahead_18 : decode cX9_ahead 18 = .ok (.invokevirtual 140, 3) := dk_182 0 140 (dk_at dksX9_ahead_0 18 rfl rfl)
theorem dX9_ahead_21 : decode cX9_ahead 21 = .ok (.bipush 10, 2) := dk_16 10 (dk_at dksX9_ahead_0 21 rfl rfl)
theorem dX9_ahead_23 : decode cX9_ahead 23 = .ok (.if_icmp .ne 16, 3) := dk_160 0 16 (dk_at dksX9_ahead_1 0 rfl rfl)
theorem dX9_ahead_26 : decode cX9_ahead 26 = .ok (.aload_n 0, 1) := dk_42 (dk_at dksX9_ahead_1 3 rfl rfl)
theorem dX9_ahead_27 : decode cX9_ahead 27 = .ok (.dup, 1) := dk_89 (dk_at dksX9_ahead_1 4 rfl rfl)
theorem dX9_ahead_28 : decode cX9_ahead 28 = .ok (.getfield 137, 3) := dk_180 0 137 (dk_at dksX9_ahead_1 5 rfl rfl)
theorem dX9_ahead_31 : decode cX9_ahead 31 = .ok (.iconst 1, 1) := dk_4 (dk_at dksX9_ahead_1 8 rfl rfl)
theorem dX9_ahead_32 : decode cX9_ahead 32 = .ok (.iadd, 1) := dk_96 (dk_at dksX9_ahead_1 9 rfl rfl)
theorem dX9_ahead_33 : decode cX9_ahead 33 = .ok (.putfield 137, 3) := dk_181 0 137 (dk_at dksX9_ahead_1 10 rfl rfl)
theorem dX9_ahead_36 : decode cX9_ahead 36 = .ok (.goto (-36), 3) := dk_167 255 220 (dk_at dksX9_ahead_1 13 rfl rfl)
theorem dX9_ahead_39 : decode cX9_ahead 39 = .ok (.aload_n 0, 1) := dk_42 (dk_at dksX9_ahead_1 16 rfl rfl)
theorem dX9_ahead_40 : decode cX9_ahead 40 = .ok (.aload_n 0, 1) := dk_42 (dk_at dksX9_ahead_1 17 rfl rfl)
theorem dX9_ahead_41 : decode cX9_ahead 41 = .ok (.getfield 137, 3) := dk_180 0 137 (dk_at dksX9_ahead_1 18 rfl rfl)
theorem dX9_ahead_44 : decode cX9_ahead 44 = .ok (.putfield 143, 3) := dk_181 0 143 (dk_at dksX9_ahead_1 21 rfl rfl)
theorem dX9_ahead_47 : decode cX9_ahead 47 = .ok (.aload_n 0, 1) := dk_42 (dk_at dksX9_ahead_2 0 rfl rfl)
theorem dX9_ahead_48 : decode cX9_ahead 48 = .ok (.aload_n 0, 1) := dk_42 (dk_at dksX9_ahead_2 1 rfl rfl)
theorem dX9_ahead_49 : decode cX9_ahead 49 = .ok (.getfield 137, 3) := dk_180 0 137 (dk_at dksX9_ahead_2 2 rfl rfl)
theorem dX9_ahead_52 : decode cX9_ahead 52 = .ok (.invokevirtual 140, 3) := dk_182 0 140 (dk_at dksX9_ahead_2 5 rfl rfl)
theorem dX9_ahead_55 : decode cX9_ahead 55 = .ok (.istore_n 1, 1) := dk_60 (dk_at dksX9_ahead_2 8 rfl rfl)
theorem dX9_ahead_56 : decode cX9_ahead 56 = .ok (.aload_n 0, 1) := dk_42 (dk_at dksX9_ahead_2 9 rfl rfl)
theorem dX9_ahead_57 : decode cX9_ahead 57 = .ok (.iload_n 1, 1) := dk_27 (dk_at dksX9_ahead_2 10 rfl rfl)
theorem dX9_ahead_58 : decode cX9_ahead 58 = .ok (.putfield 146, 3) := dk_181 0 146 (dk_at dksX9_ahead_2 11 rfl rfl)
theorem dX9_ahead_61 : decode cX9_ahead 61 = .ok (.iload_n 1, 1) := dk_27 (dk_at dksX9_ahead_2 14 rfl rfl)
theorem dX9_ahead_62 : decode cX9_ahead 62 = .ok (.iconst (-1), 1) := dk_2 (dk_at dksX9_ahead_2 15 rfl rfl)
theorem dX9_ahead_63 : decode cX9_ahead 63 = .ok (.if_icmp .ne 11, 3) := dk_160 0 11 (dk_at dksX9_ahead_2 16 rfl rfl)
theorem dX9_ahead_66 : decode cX9_ahead 66 = .ok (.aload_n 0, 1) := dk_42 (dk_at dksX9_ahead_2 19 rfl rfl)
theorem dX9_ahead_67 : decode cX9_ahead 67 = .ok (.iconst 0, 1) := dk_3 (dk_at dksX9_ahead_2 20 rfl rfl)
theorem dX9_ahead_68 : decode cX9_ahead 68 = .ok (.putfield 149, 3) := dk_181 0 149 (dk_at dksX9_ahead_2 21 rfl rfl)
theorem dX9_ahead_71 : decode cX9_ahead 71 = .ok (.goto 162, 3) := dk_167 0 162 (dk_at dksX9_ahead_3 0 rfl rfl)
theorem dX9_ahead_74 : decode cX9_ahead 74 = .ok (.iload_n 1, 1) := dk_27 (dk_at dksX9_ahead_3 3 rfl rfl)
theorem dX9_ahead_75 : decode cX9_ahead 75 = .ok (.invokestatic 152, 3) := dk_184 0 152 (dk_at dksX9_ahead_3 4 rfl rfl)
theorem dX9_ahead_78 : decode cX9_ahead 78 = .ok (.ifCond .eq 38, 3) := dk_153 0 38 (dk_at dksX9_ahead_3 7 rfl rfl)
theorem dX9_ahead_81 : decode cX9_ahead 81 = .ok (.aload_n 0, 1) := dk_42 (dk_at dksX9_ahead_3 10 rfl rfl)
theorem dX9_ahead_82 : decode cX9_ahead 82 = .ok (.aload_n 0, 1) := dk_42 (dk_at dksX9_ahead_3 11 rfl rfl)
theorem dX9_ahead_83 : decode cX9_ahead 83 = .ok (.getfield 137, 3) := dk_180 0 137 (dk_at dksX9_ahead_3 12 rfl rfl)
theorem dX9_ahead_86 : decode cX9_ahead 86 = .ok (.invokevirtual 140, 3) := dk_182 0 140 (dk_at dksX9_ahead_3 15 rfl rfl)
theorem dX9_ahead_89 : decode cX9_ahead 89 = .ok (.invokestatic 152, 3) := dk_184 0 152 (dk_at dksX9_ahead_3 18 rfl rfl)
theorem dX9_ahead_92 : decode cX9_ahead 92 = .ok (.ifCond .eq 16, 3) := dk_153 0 16 (dk_at dksX9_ahead_3 21 rfl rfl)
theorem dX9_ahead_95 : decode cX9_ahead 95 = .ok (.aload_n 0, 1) := dk_42 (dk_at dksX9_ahead_4 0 rfl rfl)
theorem dX9_ahead_96 : decode cX9_ahead 96 = .ok (.dup, 1) := dk_89 (dk_at dksX9_ahead_4 1 rfl rfl)
theorem dX9_ahead_97 : decode cX9_ahead 97 = .ok (.getfield 137, 3) := dk_180 0 137 (dk_at dksX9_ahead_4 2 rfl rfl)
theorem dX9_ahead_100 : decode cX9_ahead 100 = .ok (.iconst 1, 1) := dk_4 (dk_at dksX9_ahead_4 5 rfl rfl)
theorem dX9_ahead_101 : decode cX9_ahead 101 = .ok (.iadd, 1) := dk_96 (dk_at dksX9_ahead_4 6 rfl rfl)
theorem dX9_ahead_102 : decode cX9_ahead 102 = .ok (.putfield 137, 3) := dk_181 0 137 (dk_at dksX9_ahead_4 7 rfl rfl)
theorem dX9_ahead_105 : decode cX9_ahead 105 = .ok (.goto (-24), 3) := dk_167 255 232 (dk_at dksX9_ahead_4 10 rfl rfl)
theorem dX9_ahead_108 : decode cX9_ahead 108 = .ok (.aload_n 0, 1) := dk_42 (dk_at dksX9_ahead_4 13 rfl rfl)
theorem dX9_ahead_109 : decode cX9_ahead 109 = .ok (.iconst 2, 1) := dk_5 (dk_at dksX9_ahead_4 14 rfl rfl)
theorem dX9_ahead_110 : decode cX9_ahead 110 = .ok (.putfield 149, 3) := dk_181 0 149 (dk_at dksX9_ahead_4 15 rfl rfl)
theorem dX9_ahead_113 : decode cX9_ahead 113 = .ok (.goto 120, 3) := dk_167 0 120 (dk_at dksX9_ahead_4 18 rfl rfl)
theorem dX9_ahead_116 : decode cX9_ahead 116 = .ok (.iload_n 1, 1) := dk_27 (dk_at dksX9_ahead_4 21 rfl rfl)
theorem dX9_ahead_117 : decode cX9_ahead 117 = .ok (.invokestatic 155, 3) := dk_184 0 155 (dk_at dksX9_ahead_5 0 rfl rfl)
theorem dX9_ahead_120 : decode cX9_ahead 120 = .ok (.ifCond .eq 88, 3) := dk_153 0 88 (dk_at dksX9_ahead_5 3 rfl rfl)
theorem dX9_ahead_123 : decode cX9_ahead 123 = .ok (.aload_n 0, 1) := dk_42 (dk_at dksX9_ahead_5 6 rfl rfl)
theorem dX9_ahead_124 : decode cX9_ahead 124 = .ok (.iconst 0, 1) := dk_3 (dk_at dksX9_ahead_5 7 rfl rfl)
theorem dX9_ahead_125 : decode cX9_ahead 125 = .ok (.putfield 146, 3) := dk_181 0 146 (dk_at dksX9_ahead_5 8 rfl rfl)
theorem dX9_ahead_128 : decode cX9_ahead 128 = .ok (.aload_n 0, 1) := dk_42 (dk_at dksX9_ahead_5 11 rfl rfl)
theorem dX9_ahead_129 : decode cX9_ahead 129 = .ok (.aload_n 0, 1) := dk_42 (dk_at dksX9_ahead_5 12 rfl rfl)
theorem dX9_ahead_130 : decode cX9_ahead 130 = .ok (.getfield 137, 3) := dk_180 0 137 (dk_at dksX9_ahead_5 13 rfl rfl)
theorem dX9_ahead_133 : decode cX9_ahead 133 = .ok (.invokevirtual 140, 3) := dk_182 0 140 (dk_at dksX9_ahead_5 16 rfl rfl)
theorem dX9_ahead_136 : decode cX9_ahead 136 = .ok (.invokestatic 155, 3) := dk_184 0 155 (dk_at dksX9_ahead_5 19 rfl rfl)
theorem dX9_ahead_139 : decode cX9_ahead 139 = .ok (.ifCond .eq 44, 3) := dk_153 0 44 (dk_at dksX9_ahead_6 0 rfl rfl)
theorem dX9_ahead_142 : decode cX9_ahead 142 = .ok (.aload_n 0, 1) := dk_42 (dk_at dksX9_ahead_6 3 rfl rfl)
theorem dX9_ahead_143 : decode cX9_ahead 143 = .ok (.ldc 158, 2) := dk_18 158 (dk_at dksX9_ahead_6 4 rfl rfl)
theorem dX9_ahead_145 : decode cX9_ahead 145 = .ok (.bipush 10, 2) := dk_16 10 (dk_at dksX9_ahead_6 6 rfl rfl)
theorem dX9_ahead_147 : decode cX9_ahead 147 = .ok (.aload_n 0, 1) := dk_42 (dk_at dksX9_ahead_6 8 rfl rfl)
theorem dX9_ahead_148 : decode cX9_ahead 148 = .ok (.getfield 146, 3) := dk_180 0 146 (dk_at dksX9_ahead_6 9 rfl rfl)
theorem dX9_ahead_151 : decode cX9_ahead 151 = .ok (.imul, 1) := dk_104 (dk_at dksX9_ahead_6 12 rfl rfl)
theorem dX9_ahead_152 : decode cX9_ahead 152 = .ok (.aload_n 0, 1) := dk_42 (dk_at dksX9_ahead_6 13 rfl rfl)
theorem dX9_ahead_153 : decode cX9_ahead 153 = .ok (.aload_n 0, 1) := dk_42 (dk_at dksX9_ahead_6 14 rfl rfl)
theorem dX9_ahead_154 : decode cX9_ahead 154 = .ok (.getfield 137, 3) := dk_180 0 137 (dk_at dksX9_ahead_6 15 rfl rfl)
theorem dX9_ahead_157 : decode cX9_ahead 157 = .ok (.invokevirtual 140, 3) := dk_182 0 140 (dk_at dksX9_ahead_6 18 rfl rfl)
theorem dX9_ahead_160 : decode cX9_ahead 160 = .ok (.iadd, 1) := dk_96 (dk_at dksX9_ahead_6 21 rfl rfl)
theorem dX9_ahead_161 : decode cX9_ahead 161 = .ok (.bipush 48, 2) := dk_16 48 (dk_at dksX9_ahead_6 22 rfl rfl)
theorem dX9_ahead_163 : decode cX9_ahead 163 = .ok (.isub, 1) := dk_100 (dk_at dksX9_ahead_7 0 rfl rfl)
theorem dX9_ahead_164 : decode cX9_ahead 164 = .ok (.invokestatic 159, 3) := dk_184 0 159 (dk_at dksX9_ahead_7 1 rfl rfl)
theorem dX9_ahead_167 : decode cX9_ahead 167 = .ok (.putfield 146, 3) := dk_181 0 146 (dk_at dksX9_ahead_7 4 rfl rfl)
theorem dX9_ahead_170 : decode cX9_ahead 170 = .ok (.aload_n 0, 1) := dk_42 (dk_at dksX9_ahead_7 7 rfl rfl)
theorem dX9_ahead_171 : decode cX9_ahead 171 = .ok (.dup, 1) := dk_89 (dk_at dksX9_ahead_7 8 rfl rfl)
theorem dX9_ahead_172 : decode cX9_ahead 172 = .ok (.getfield 137, 3) := dk_180 0 137 (dk_at dksX9_ahead_7 9 rfl rfl)
theorem dX9_ahead_175 : decode cX9_ahead 175 = .ok (.iconst 1, 1) := dk_4 (dk_at dksX9_ahead_7 12 rfl rfl)
theorem dX9_ahead_176 : decode cX9_ahead 176 = .ok (.iadd, 1) := dk_96 (dk_at dksX9_ahead_7 13 rfl rfl)
theorem dX9_ahead_177 : decode cX9_ahead 177 = .ok (.putfield 137, 3) := dk_181 0 137 (dk_at dksX9_ahead_7 14 rfl rfl)
theorem dX9_ahead_180 : decode cX9_ahead 180 = .ok (.goto (-52), 3) := dk_167 255 204 (dk_at dksX9_ahead_7 17 rfl rfl)
theorem dX9_ahead_183 : decode cX9_ahead 183 = .ok (.aload_n 0, 1) := dk_42 (dk_at dksX9_ahead_7 20 rfl rfl)
theorem dX9_ahead_184 : decode cX9_ahead 184 = .ok (.aload_n 0, 1) := dk_42 (dk_at dksX9_ahead_7 21 rfl rfl)
theorem dX9_ahead_185 : decode cX9_ahead 185 = .ok (.getfield 137, 3) := dk_180 0 137 (dk_at dksX9_ahead_8 0 rfl rfl)
theorem dX9_ahead_188 : decode cX9_ahead 188 = .ok (.aload_n 0, 1) := dk_42 (dk_at dksX9_ahead_8 3 rfl rfl)
theorem dX9_ahead_189 : decode cX9_ahead 189 = .ok (.getfield 143, 3) := dk_180 0 143 (dk_at dksX9_ahead_8 4 rfl rfl)
theorem dX9_ahead_192 : decode cX9_ahead 192 = .ok (.isub, 1) := dk_100 (dk_at dksX9_ahead_8 7 rfl rfl)
theorem dX9_ahead_193 : decode cX9_ahead 193 = .ok (.iconst 4, 1) := dk_7 (dk_at dksX9_ahead_8 8 rfl rfl)
theorem dX9_ahead_194 : decode cX9_ahead 194 = .ok (.if_icmp .le 7, 3) := dk_164 0 7 (dk_at dksX9_ahead_8 9 rfl rfl)
theorem dX9_ahead_197 : decode cX9_ahead 197 = .ok (.iconst 1, 1) := dk_4 (dk_at dksX9_ahead_8 12 rfl rfl)
theorem dX9_ahead_198 : decode cX9_ahead 198 = .ok (.goto 4, 3) := dk_167 0 4 (dk_at dksX9_ahead_8 13 rfl rfl)
theorem dX9_ahead_201 : decode cX9_ahead 201 = .ok (.iconst 3, 1) := dk_6 (dk_at dksX9_ahead_8 16 rfl rfl)
theorem dX9_ahead_202 : decode cX9_ahead 202 = .ok (.putfield 149, 3) := dk_181 0 149 (dk_at dksX9_ahead_8 17 rfl rfl)
theorem dX9_ahead_205 : decode cX9_ahead 205 = .ok (.goto 28, 3) := dk_167 0 28 (dk_at dksX9_ahead_8 20 rfl rfl)
theorem dX9_ahead_208 : decode cX9_ahead 208 = .ok (.aload_n 0, 1) := dk_42 (dk_at dksX9_ahead_8 23 rfl rfl)
theorem dX9_ahead_209 : decode cX9_ahead 209 = .ok (.dup, 1) := dk_89 (dk_at dksX9_ahead_9 0 rfl rfl)
theorem dX9_ahead_210 : decode cX9_ahead 210 = .ok (.getfield 137, 3) := dk_180 0 137 (dk_at dksX9_ahead_9 1 rfl rfl)
theorem dX9_ahead_213 : decode cX9_ahead 213 = .ok (.iconst 1, 1) := dk_4 (dk_at dksX9_ahead_9 4 rfl rfl)
theorem dX9_ahead_214 : decode cX9_ahead 214 = .ok (.iadd, 1) := dk_96 (dk_at dksX9_ahead_9 5 rfl rfl)
theorem dX9_ahead_215 : decode cX9_ahead 215 = .ok (.putfield 137, 3) := dk_181 0 137 (dk_at dksX9_ahead_9 6 rfl rfl)
theorem dX9_ahead_218 : decode cX9_ahead 218 = .ok (.aload_n 0, 1) := dk_42 (dk_at dksX9_ahead_9 9 rfl rfl)
theorem dX9_ahead_219 : decode cX9_ahead 219 = .ok (.iload_n 1, 1) := dk_27 (dk_at dksX9_ahead_9 10 rfl rfl)
theorem dX9_ahead_220 : decode cX9_ahead 220 = .ok (.bipush 59, 2) := dk_16 59 (dk_at dksX9_ahead_9 11 rfl rfl)
theorem dX9_ahead_222 : decode cX9_ahead 222 = .ok (.if_icmp .ne 7, 3) := dk_160 0 7 (dk_at dksX9_ahead_9 13 rfl rfl)
theorem dX9_ahead_225 : decode cX9_ahead 225 = .ok (.iconst 4, 1) := dk_7 (dk_at dksX9_ahead_9 16 rfl rfl)
theorem dX9_ahead_226 : decode cX9_ahead 226 = .ok (.goto 4, 3) := dk_167 0 4 (dk_at dksX9_ahead_9 17 rfl rfl)
theorem dX9_ahead_229 : decode cX9_ahead 229 = .ok (.iconst 1, 1) := dk_4 (dk_at dksX9_ahead_9 20 rfl rfl)
theorem dX9_ahead_230 : decode cX9_ahead 230 = .ok (.putfield 149, 3) := dk_181 0 149 (dk_at dksX9_ahead_9 21 rfl rfl)
theorem dX9_ahead_233 : decode cX9_ahead 233 = .ok (.return_, 1) := dk_177 (dk_at dksX9_ahead_10 0 rfl rfl)
abbrev cX9_byteAt : ByteArray := prog_21_method_20_code
def yX9_byteAt : MethodName := ⟨RX9, "byteAt", "(I)I"⟩
def dkwX9_byteAt_0 : List UInt8 := [27, 42, 180, 0, 134, 162, 0, 16, 42, 180, 0, 34, 27, 51, 17, 0, 255, 126, 167, 0, 4, 2, 172]
abbrev dktX9_byteAt_0 : List UInt8 := dkwX9_byteAt_0 ++ []
theorem dksX9_byteAt_0 : cX9_byteAt.data.toList.drop 0 = dktX9_byteAt_0 := by decide +kernel
theorem dX9_byteAt_0 : decode cX9_byteAt 0 = .ok (.iload_n 1, 1) := dk_27 (dk_at dksX9_byteAt_0 0 rfl rfl)
theorem dX9_byteAt_1 : decode cX9_byteAt 1 = .ok (.aload_n 0, 1) := dk_42 (dk_at dksX9_byteAt_0 1 rfl rfl)
theorem dX9_byteAt_2 : decode cX9_byteAt 2 = .ok (.getfield 134, 3) := dk_180 0 134 (dk_at dksX9_byteAt_0 2 rfl rfl)
theorem dX9_byteAt_5 : decode cX9_byteAt 5 = .ok (.if_icmp .ge 16, 3) := dk_162 0 16 (dk_at dksX9_byteAt_0 5 rfl rfl)
theorem dX9_byteAt_8 : decode cX9_byteAt 8 = .ok (.aload_n 0, 1) := dk_42 (dk_at dksX9_byteAt_0 8 rfl rfl)
theorem dX9_byteAt_9 : decode cX9_byteAt 9 = .ok (.getfield 34, 3) := dk_180 0 34 (dk_at dksX9_byteAt_0 9 rfl rfl)
theorem dX9_byteAt_12 : decode cX9_byteAt 12 = .ok (.iload_n 1, 1) := dk_27 (dk_at dksX9_byteAt_0 12 rfl rfl)
theorem dX9_byteAt_13 : decode cX9_byteAt 13 = .ok (.baload, 1) := dk_51 (dk_at dksX9_byteAt_0 13 rfl rfl)
theorem dX9_byteAt_14 : decode cX9_byteAt 14 = .ok (.sipush 255, 3) := dk_17 0 255 (dk_at dksX9_byteAt_0 14 rfl rfl)
theorem dX9_byteAt_17 : decode cX9_byteAt 17 = .ok (.iand, 1) := dk_126 (dk_at dksX9_byteAt_0 17 rfl rfl)
theorem dX9_byteAt_18 : decode cX9_byteAt 18 = .ok (.goto 4, 3) := dk_167 0 4 (dk_at dksX9_byteAt_0 18 rfl rfl)
theorem dX9_byteAt_21 : decode cX9_byteAt 21 = .ok (.iconst (-1), 1) := dk_2 (dk_at dksX9_byteAt_0 21 rfl rfl)
theorem dX9_byteAt_22 : decode cX9_byteAt 22 = .ok (.ireturn, 1) := dk_172 (dk_at dksX9_byteAt_0 22 rfl rfl)
abbrev cX9_isSmall : ByteArray := prog_21_method_21_code
def yX9_isSmall : MethodName := ⟨RX9, "isSmall", "(I)Z"⟩
def dkwX9_isSmall_0 : List UInt8 := [26, 16, 97, 161, 0, 13, 26, 16, 122, 163, 0, 7, 4, 167, 0, 4, 3, 172]
abbrev dktX9_isSmall_0 : List UInt8 := dkwX9_isSmall_0 ++ []
theorem dksX9_isSmall_0 : cX9_isSmall.data.toList.drop 0 = dktX9_isSmall_0 := by decide +kernel
theorem dX9_isSmall_0 : decode cX9_isSmall 0 = .ok (.iload_n 0, 1) := dk_26 (dk_at dksX9_isSmall_0 0 rfl rfl)
theorem dX9_isSmall_1 : decode cX9_isSmall 1 = .ok (.bipush 97, 2) := dk_16 97 (dk_at dksX9_isSmall_0 1 rfl rfl)
theorem dX9_isSmall_3 : decode cX9_isSmall 3 = .ok (.if_icmp .lt 13, 3) := dk_161 0 13 (dk_at dksX9_isSmall_0 3 rfl rfl)
theorem dX9_isSmall_6 : decode cX9_isSmall 6 = .ok (.iload_n 0, 1) := dk_26 (dk_at dksX9_isSmall_0 6 rfl rfl)
theorem dX9_isSmall_7 : decode cX9_isSmall 7 = .ok (.bipush 122, 2) := dk_16 122 (dk_at dksX9_isSmall_0 7 rfl rfl)
theorem dX9_isSmall_9 : decode cX9_isSmall 9 = .ok (.if_icmp .gt 7, 3) := dk_163 0 7 (dk_at dksX9_isSmall_0 9 rfl rfl)
theorem dX9_isSmall_12 : decode cX9_isSmall 12 = .ok (.iconst 1, 1) := dk_4 (dk_at dksX9_isSmall_0 12 rfl rfl)
theorem dX9_isSmall_13 : decode cX9_isSmall 13 = .ok (.goto 4, 3) := dk_167 0 4 (dk_at dksX9_isSmall_0 13 rfl rfl)
theorem dX9_isSmall_16 : decode cX9_isSmall 16 = .ok (.iconst 0, 1) := dk_3 (dk_at dksX9_isSmall_0 16 rfl rfl)
theorem dX9_isSmall_17 : decode cX9_isSmall 17 = .ok (.ireturn, 1) := dk_172 (dk_at dksX9_isSmall_0 17 rfl rfl)
abbrev cX9_isDigit : ByteArray := prog_21_method_22_code
def yX9_isDigit : MethodName := ⟨RX9, "isDigit", "(I)Z"⟩
def dkwX9_isDigit_0 : List UInt8 := [26, 16, 48, 161, 0, 13, 26, 16, 57, 163, 0, 7, 4, 167, 0, 4, 3, 172]
abbrev dktX9_isDigit_0 : List UInt8 := dkwX9_isDigit_0 ++ []
theorem dksX9_isDigit_0 : cX9_isDigit.data.toList.drop 0 = dktX9_isDigit_0 := by decide +kernel
theorem dX9_isDigit_0 : decode cX9_isDigit 0 = .ok (.iload_n 0, 1) := dk_26 (dk_at dksX9_isDigit_0 0 rfl rfl)
theorem dX9_isDigit_1 : decode cX9_isDigit 1 = .ok (.bipush 48, 2) := dk_16 48 (dk_at dksX9_isDigit_0 1 rfl rfl)
theorem dX9_isDigit_3 : decode cX9_isDigit 3 = .ok (.if_icmp .lt 13, 3) := dk_161 0 13 (dk_at dksX9_isDigit_0 3 rfl rfl)
theorem dX9_isDigit_6 : decode cX9_isDigit 6 = .ok (.iload_n 0, 1) := dk_26 (dk_at dksX9_isDigit_0 6 rfl rfl)
theorem dX9_isDigit_7 : decode cX9_isDigit 7 = .ok (.bipush 57, 2) := dk_16 57 (dk_at dksX9_isDigit_0 7 rfl rfl)
theorem dX9_isDigit_9 : decode cX9_isDigit 9 = .ok (.if_icmp .gt 7, 3) := dk_163 0 7 (dk_at dksX9_isDigit_0 9 rfl rfl)
theorem dX9_isDigit_12 : decode cX9_isDigit 12 = .ok (.iconst 1, 1) := dk_4 (dk_at dksX9_isDigit_0 12 rfl rfl)
theorem dX9_isDigit_13 : decode cX9_isDigit 13 = .ok (.goto 4, 3) := dk_167 0 4 (dk_at dksX9_isDigit_0 13 rfl rfl)
theorem dX9_isDigit_16 : decode cX9_isDigit 16 = .ok (.iconst 0, 1) := dk_3 (dk_at dksX9_isDigit_0 16 rfl rfl)
theorem dX9_isDigit_17 : decode cX9_isDigit 17 = .ok (.ireturn, 1) := dk_172 (dk_at dksX9_isDigit_0 17 rfl rfl)
abbrev cX9_refuse : ByteArray := prog_21_method_6_code
def yX9_refuse : MethodName := ⟨RX9, "refuse", "(I)I"⟩
def dkwX9_refuse_0 : List UInt8 := [42, 27, 181, 0, 97, 2, 172]
abbrev dktX9_refuse_0 : List UInt8 := dkwX9_refuse_0 ++ []
theorem dksX9_refuse_0 : cX9_refuse.data.toList.drop 0 = dktX9_refuse_0 := by decide +kernel
theorem dX9_refuse_0 : decode cX9_refuse 0 = .ok (.aload_n 0, 1) := dk_42 (dk_at dksX9_refuse_0 0 rfl rfl)
theorem dX9_refuse_1 : decode cX9_refuse 1 = .ok (.iload_n 1, 1) := dk_27 (dk_at dksX9_refuse_0 1 rfl rfl)
theorem dX9_refuse_2 : decode cX9_refuse 2 = .ok (.putfield 97, 3) := dk_181 0 97 (dk_at dksX9_refuse_0 2 rfl rfl)
theorem dX9_refuse_5 : decode cX9_refuse 5 = .ok (.iconst (-1), 1) := dk_2 (dk_at dksX9_refuse_0 5 rfl rfl)
theorem dX9_refuse_6 : decode cX9_refuse 6 = .ok (.ireturn, 1) := dk_172 (dk_at dksX9_refuse_0 6 rfl rfl)
abbrev cX9_townPart : ByteArray := prog_21_method_44_code
def yX9_townPart : MethodName := ⟨RX9, "townPart", "()Z"⟩
def dkwX9_townPart_5 : List UInt8 := [172, 27, 153, 0, 16, 42, 16, 59, 182, 0, 242, 153, 0, 7, 4, 167, 0, 4, 3, 172]
abbrev dktX9_townPart_5 : List UInt8 := dkwX9_townPart_5 ++ []
def dkwX9_townPart_4 : List UInt8 := [167, 0, 25, 42, 182, 0, 236, 60, 167, 0, 17, 42, 182, 0, 239, 60, 167, 0, 9, 42, 5, 182, 0, 186]
abbrev dktX9_townPart_4 : List UInt8 := dkwX9_townPart_4 ++ dktX9_townPart_5
def dkwX9_townPart_3 : List UInt8 := [167, 0, 4, 3, 96, 79, 167, 0, 41, 42, 182, 0, 230, 60, 167, 0, 33, 42, 182, 0, 233, 60]
abbrev dktX9_townPart_3 : List UInt8 := dkwX9_townPart_3 ++ dktX9_townPart_4
def dkwX9_townPart_2 : List UInt8 := [42, 3, 16, 6, 3, 182, 0, 217, 60, 42, 180, 0, 7, 17, 6, 184, 92, 46, 27, 153, 0, 7, 4]
abbrev dktX9_townPart_2 : List UInt8 := dkwX9_townPart_2 ++ dktX9_townPart_3
def dkwX9_townPart_1 : List UInt8 := [170, 0, 0, 0, 0, 98, 0, 0, 0, 0, 0, 0, 0, 4, 0, 0, 0, 34, 0, 0, 0, 66, 0, 0, 0, 74, 0, 0, 0, 82, 0, 0, 0, 90]
abbrev dktX9_townPart_1 : List UInt8 := dkwX9_townPart_1 ++ dktX9_townPart_2
def dkwX9_townPart_0 : List UInt8 := [42, 18, 200, 182, 0, 189]
abbrev dktX9_townPart_0 : List UInt8 := dkwX9_townPart_0 ++ dktX9_townPart_1
theorem dksX9_townPart_0 : cX9_townPart.data.toList.drop 0 = dktX9_townPart_0 := by decide +kernel
theorem dksX9_townPart_1 : cX9_townPart.data.toList.drop 6 = dktX9_townPart_1 := dk_seg dksX9_townPart_0 6 rfl rfl
theorem dksX9_townPart_2 : cX9_townPart.data.toList.drop 40 = dktX9_townPart_2 := dk_seg dksX9_townPart_1 34 rfl rfl
theorem dksX9_townPart_3 : cX9_townPart.data.toList.drop 63 = dktX9_townPart_3 := dk_seg dksX9_townPart_2 23 rfl rfl
theorem dksX9_townPart_4 : cX9_townPart.data.toList.drop 85 = dktX9_townPart_4 := dk_seg dksX9_townPart_3 22 rfl rfl
theorem dksX9_townPart_5 : cX9_townPart.data.toList.drop 109 = dktX9_townPart_5 := dk_seg dksX9_townPart_4 24 rfl rfl
theorem dX9_townPart_0 : decode cX9_townPart 0 = .ok (.aload_n 0, 1) := dk_42 (dk_at dksX9_townPart_0 0 rfl rfl)
theorem dX9_townPart_1 : decode cX9_townPart 1 = .ok (.ldc 200, 2) := dk_18 200 (dk_at dksX9_townPart_0 1 rfl rfl)
theorem dX9_townPart_3 : decode cX9_townPart 3 = .ok (.invokevirtual 189, 3) := dk_182 0 189 (dk_at dksX9_townPart_0 3 rfl rfl)
theorem dX9_townPart_6 : decode cX9_townPart 6 = .ok (.tableswitch 98 0 4 #[34, 66, 74, 82, 90], 34) := by decide +kernel
theorem dX9_townPart_40 : decode cX9_townPart 40 = .ok (.aload_n 0, 1) := dk_42 (dk_at dksX9_townPart_2 0 rfl rfl)
theorem dX9_townPart_41 : decode cX9_townPart 41 = .ok (.iconst 0, 1) := dk_3 (dk_at dksX9_townPart_2 1 rfl rfl)
theorem dX9_townPart_42 : decode cX9_townPart 42 = .ok (.bipush 6, 2) := dk_16 6 (dk_at dksX9_townPart_2 2 rfl rfl)
theorem dX9_townPart_44 : decode cX9_townPart 44 = .ok (.iconst 0, 1) := dk_3 (dk_at dksX9_townPart_2 4 rfl rfl)
theorem dX9_townPart_45 : decode cX9_townPart 45 = .ok (.invokevirtual 217, 3) := dk_182 0 217 (dk_at dksX9_townPart_2 5 rfl rfl)
theorem dX9_townPart_48 : decode cX9_townPart 48 = .ok (.istore_n 1, 1) := dk_60 (dk_at dksX9_townPart_2 8 rfl rfl)
theorem dX9_townPart_49 : decode cX9_townPart 49 = .ok (.aload_n 0, 1) := dk_42 (dk_at dksX9_townPart_2 9 rfl rfl)
theorem dX9_townPart_50 : decode cX9_townPart 50 = .ok (.getfield 7, 3) := dk_180 0 7 (dk_at dksX9_townPart_2 10 rfl rfl)
theorem dX9_townPart_53 : decode cX9_townPart 53 = .ok (.sipush 1720, 3) := dk_17 6 184 (dk_at dksX9_townPart_2 13 rfl rfl)
theorem dX9_townPart_56 : decode cX9_townPart 56 = .ok (.dup2, 1) := dk_92 (dk_at dksX9_townPart_2 16 rfl rfl)
theorem dX9_townPart_57 : decode cX9_townPart 57 = .ok (.iaload, 1) := dk_46 (dk_at dksX9_townPart_2 17 rfl rfl)
theorem dX9_townPart_58 : decode cX9_townPart 58 = .ok (.iload_n 1, 1) := dk_27 (dk_at dksX9_townPart_2 18 rfl rfl)
theorem dX9_townPart_59 : decode cX9_townPart 59 = .ok (.ifCond .eq 7, 3) := dk_153 0 7 (dk_at dksX9_townPart_2 19 rfl rfl)
theorem dX9_townPart_62 : decode cX9_townPart 62 = .ok (.iconst 1, 1) := dk_4 (dk_at dksX9_townPart_2 22 rfl rfl)
theorem dX9_townPart_63 : decode cX9_townPart 63 = .ok (.goto 4, 3) := dk_167 0 4 (dk_at dksX9_townPart_3 0 rfl rfl)
theorem dX9_townPart_66 : decode cX9_townPart 66 = .ok (.iconst 0, 1) := dk_3 (dk_at dksX9_townPart_3 3 rfl rfl)
theorem dX9_townPart_67 : decode cX9_townPart 67 = .ok (.iadd, 1) := dk_96 (dk_at dksX9_townPart_3 4 rfl rfl)
theorem dX9_townPart_68 : decode cX9_townPart 68 = .ok (.iastore, 1) := dk_79 (dk_at dksX9_townPart_3 5 rfl rfl)
theorem dX9_townPart_69 : decode cX9_townPart 69 = .ok (.goto 41, 3) := dk_167 0 41 (dk_at dksX9_townPart_3 6 rfl rfl)
theorem dX9_townPart_72 : decode cX9_townPart 72 = .ok (.aload_n 0, 1) := dk_42 (dk_at dksX9_townPart_3 9 rfl rfl)
theorem dX9_townPart_73 : decode cX9_townPart 73 = .ok (.invokevirtual 230, 3) := dk_182 0 230 (dk_at dksX9_townPart_3 10 rfl rfl)
theorem dX9_townPart_76 : decode cX9_townPart 76 = .ok (.istore_n 1, 1) := dk_60 (dk_at dksX9_townPart_3 13 rfl rfl)
theorem dX9_townPart_77 : decode cX9_townPart 77 = .ok (.goto 33, 3) := dk_167 0 33 (dk_at dksX9_townPart_3 14 rfl rfl)
theorem dX9_townPart_80 : decode cX9_townPart 80 = .ok (.aload_n 0, 1) := dk_42 (dk_at dksX9_townPart_3 17 rfl rfl)
theorem dX9_townPart_81 : decode cX9_townPart 81 = .ok (.invokevirtual 233, 3) := dk_182 0 233 (dk_at dksX9_townPart_3 18 rfl rfl)
theorem dX9_townPart_84 : decode cX9_townPart 84 = .ok (.istore_n 1, 1) := dk_60 (dk_at dksX9_townPart_3 21 rfl rfl)
theorem dX9_townPart_85 : decode cX9_townPart 85 = .ok (.goto 25, 3) := dk_167 0 25 (dk_at dksX9_townPart_4 0 rfl rfl)
theorem dX9_townPart_88 : decode cX9_townPart 88 = .ok (.aload_n 0, 1) := dk_42 (dk_at dksX9_townPart_4 3 rfl rfl)
theorem dX9_townPart_89 : decode cX9_townPart 89 = .ok (.invokevirtual 236, 3) := dk_182 0 236 (dk_at dksX9_townPart_4 4 rfl rfl)
theorem dX9_townPart_92 : decode cX9_townPart 92 = .ok (.istore_n 1, 1) := dk_60 (dk_at dksX9_townPart_4 7 rfl rfl)
theorem dX9_townPart_93 : decode cX9_townPart 93 = .ok (.goto 17, 3) := dk_167 0 17 (dk_at dksX9_townPart_4 8 rfl rfl)
theorem dX9_townPart_96 : decode cX9_townPart 96 = .ok (.aload_n 0, 1) := dk_42 (dk_at dksX9_townPart_4 11 rfl rfl)
theorem dX9_townPart_97 : decode cX9_townPart 97 = .ok (.invokevirtual 239, 3) := dk_182 0 239 (dk_at dksX9_townPart_4 12 rfl rfl)
theorem dX9_townPart_100 : decode cX9_townPart 100 = .ok (.istore_n 1, 1) := dk_60 (dk_at dksX9_townPart_4 15 rfl rfl)
theorem dX9_townPart_101 : decode cX9_townPart 101 = .ok (.goto 9, 3) := dk_167 0 9 (dk_at dksX9_townPart_4 16 rfl rfl)
theorem dX9_townPart_104 : decode cX9_townPart 104 = .ok (.aload_n 0, 1) := dk_42 (dk_at dksX9_townPart_4 19 rfl rfl)
theorem dX9_townPart_105 : decode cX9_townPart 105 = .ok (.iconst 2, 1) := dk_5 (dk_at dksX9_townPart_4 20 rfl rfl)
theorem dX9_townPart_106 : decode cX9_townPart 106 = .ok (.invokevirtual 186, 3) := dk_182 0 186 (dk_at dksX9_townPart_4 21 rfl rfl)
theorem dX9_townPart_109 : decode cX9_townPart 109 = .ok (.ireturn, 1) := dk_172 (dk_at dksX9_townPart_5 0 rfl rfl)
theorem dX9_townPart_110 : decode cX9_townPart 110 = .ok (.iload_n 1, 1) := dk_27 (dk_at dksX9_townPart_5 1 rfl rfl)
theorem dX9_townPart_111 : decode cX9_townPart 111 = .ok (.ifCond .eq 16, 3) := dk_153 0 16 (dk_at dksX9_townPart_5 2 rfl rfl)
theorem dX9_townPart_114 : decode cX9_townPart 114 = .ok (.aload_n 0, 1) := dk_42 (dk_at dksX9_townPart_5 5 rfl rfl)
theorem dX9_townPart_115 : decode cX9_townPart 115 = .ok (.bipush 59, 2) := dk_16 59 (dk_at dksX9_townPart_5 6 rfl rfl)
theorem dX9_townPart_117 : decode cX9_townPart 117 = .ok (.invokevirtual 242, 3) := dk_182 0 242 (dk_at dksX9_townPart_5 8 rfl rfl)
theorem dX9_townPart_120 : decode cX9_townPart 120 = .ok (.ifCond .eq 7, 3) := dk_153 0 7 (dk_at dksX9_townPart_5 11 rfl rfl)
theorem dX9_townPart_123 : decode cX9_townPart 123 = .ok (.iconst 1, 1) := dk_4 (dk_at dksX9_townPart_5 14 rfl rfl)
theorem dX9_townPart_124 : decode cX9_townPart 124 = .ok (.goto 4, 3) := dk_167 0 4 (dk_at dksX9_townPart_5 15 rfl rfl)
theorem dX9_townPart_127 : decode cX9_townPart 127 = .ok (.iconst 0, 1) := dk_3 (dk_at dksX9_townPart_5 18 rfl rfl)
theorem dX9_townPart_128 : decode cX9_townPart 128 = .ok (.ireturn, 1) := dk_172 (dk_at dksX9_townPart_5 19 rfl rfl)
abbrev cX9_inWords : ByteArray := prog_21_method_25_code
def yX9_inWords : MethodName := ⟨RX9, "inWords", "(Ljava/lang/String;)I"⟩
def dkwX9_inWords_5 : List UInt8 := [153, 0, 5, 28, 172, 132, 2, 1, 21, 4, 4, 96, 62, 167, 255, 140, 2, 172]
abbrev dktX9_inWords_5 : List UInt8 := dkwX9_inWords_5 ++ []
def dkwX9_inWords_4 : List UInt8 := [29, 100, 182, 0, 140, 160, 0, 7, 4, 167, 0, 4, 3, 54, 5, 132, 6, 1, 167, 255, 212, 21, 5]
abbrev dktX9_inWords_4 : List UInt8 := dkwX9_inWords_4 ++ dktX9_inWords_5
def dkwX9_inWords_3 : List UInt8 := [21, 4, 162, 0, 43, 21, 5, 153, 0, 38, 43, 21, 6, 182, 0, 170, 42, 42, 180, 0, 143, 21, 6, 96]
abbrev dktX9_inWords_3 : List UInt8 := dkwX9_inWords_3 ++ dktX9_inWords_4
def dkwX9_inWords_2 : List UInt8 := [180, 0, 137, 42, 180, 0, 143, 100, 160, 0, 7, 4, 167, 0, 4, 3, 54, 5, 29, 54, 6, 21, 6]
abbrev dktX9_inWords_2 : List UInt8 := dkwX9_inWords_2 ++ dktX9_inWords_3
def dkwX9_inWords_1 : List UInt8 := [54, 4, 43, 21, 4, 182, 0, 170, 16, 32, 159, 0, 9, 132, 4, 1, 167, 255, 242, 21, 4, 29, 100, 42]
abbrev dktX9_inWords_1 : List UInt8 := dkwX9_inWords_1 ++ dktX9_inWords_2
def dkwX9_inWords_0 : List UInt8 := [42, 180, 0, 149, 5, 159, 0, 5, 2, 172, 3, 61, 4, 62, 29, 43, 182, 0, 164, 162, 0, 114, 29]
abbrev dktX9_inWords_0 : List UInt8 := dkwX9_inWords_0 ++ dktX9_inWords_1
theorem dksX9_inWords_0 : cX9_inWords.data.toList.drop 0 = dktX9_inWords_0 := by decide +kernel
theorem dksX9_inWords_1 : cX9_inWords.data.toList.drop 23 = dktX9_inWords_1 := dk_seg dksX9_inWords_0 23 rfl rfl
theorem dksX9_inWords_2 : cX9_inWords.data.toList.drop 47 = dktX9_inWords_2 := dk_seg dksX9_inWords_1 24 rfl rfl
theorem dksX9_inWords_3 : cX9_inWords.data.toList.drop 70 = dktX9_inWords_3 := dk_seg dksX9_inWords_2 23 rfl rfl
theorem dksX9_inWords_4 : cX9_inWords.data.toList.drop 94 = dktX9_inWords_4 := dk_seg dksX9_inWords_3 24 rfl rfl
theorem dksX9_inWords_5 : cX9_inWords.data.toList.drop 117 = dktX9_inWords_5 := dk_seg dksX9_inWords_4 23 rfl rfl
theorem dX9_inWords_0 : decode cX9_inWords 0 = .ok (.aload_n 0, 1) := dk_42 (dk_at dksX9_inWords_0 0 rfl rfl)
theorem dX9_inWords_1 : decode cX9_inWords 1 = .ok (.getfield 149, 3) := dk_180 0 149 (dk_at dksX9_inWords_0 1 rfl rfl)
theorem dX9_inWords_4 : decode cX9_inWords 4 = .ok (.iconst 2, 1) := dk_5 (dk_at dksX9_inWords_0 4 rfl rfl)
theorem dX9_inWords_5 : decode cX9_inWords 5 = .ok (.if_icmp .eq 5, 3) := dk_159 0 5 (dk_at dksX9_inWords_0 5 rfl rfl)
theorem dX9_inWords_8 : decode cX9_inWords 8 = .ok (.iconst (-1), 1) := dk_2 (dk_at dksX9_inWords_0 8 rfl rfl)
theorem dX9_inWords_9 : decode cX9_inWords 9 = .ok (.ireturn, 1) := dk_172 (dk_at dksX9_inWords_0 9 rfl rfl)
theorem dX9_inWords_10 : decode cX9_inWords 10 = .ok (.iconst 0, 1) := dk_3 (dk_at dksX9_inWords_0 10 rfl rfl)
theorem dX9_inWords_11 : decode cX9_inWords 11 = .ok (.istore_n 2, 1) := dk_61 (dk_at dksX9_inWords_0 11 rfl rfl)
theorem dX9_inWords_12 : decode cX9_inWords 12 = .ok (.iconst 1, 1) := dk_4 (dk_at dksX9_inWords_0 12 rfl rfl)
theorem dX9_inWords_13 : decode cX9_inWords 13 = .ok (.istore_n 3, 1) := dk_62 (dk_at dksX9_inWords_0 13 rfl rfl)
theorem dX9_inWords_14 : decode cX9_inWords 14 = .ok (.iload_n 3, 1) := dk_29 (dk_at dksX9_inWords_0 14 rfl rfl)
theorem dX9_inWords_15 : decode cX9_inWords 15 = .ok (.aload_n 1, 1) := dk_43 (dk_at dksX9_inWords_0 15 rfl rfl)
theorem dX9_inWords_16 : decode cX9_inWords 16 = .ok (.invokevirtual 164, 3) := dk_182 0 164 (dk_at dksX9_inWords_0 16 rfl rfl)
theorem dX9_inWords_19 : decode cX9_inWords 19 = .ok (.if_icmp .ge 114, 3) := dk_162 0 114 (dk_at dksX9_inWords_0 19 rfl rfl)
theorem dX9_inWords_22 : decode cX9_inWords 22 = .ok (.iload_n 3, 1) := dk_29 (dk_at dksX9_inWords_0 22 rfl rfl)
theorem dX9_inWords_23 : decode cX9_inWords 23 = .ok (.istore 4, 2) := dk_54 4 (dk_at dksX9_inWords_1 0 rfl rfl)
theorem dX9_inWords_25 : decode cX9_inWords 25 = .ok (.aload_n 1, 1) := dk_43 (dk_at dksX9_inWords_1 2 rfl rfl)
theorem dX9_inWords_26 : decode cX9_inWords 26 = .ok (.iload 4, 2) := dk_21 4 (dk_at dksX9_inWords_1 3 rfl rfl)
theorem dX9_inWords_28 : decode cX9_inWords 28 = .ok (.invokevirtual 170, 3) := dk_182 0 170 (dk_at dksX9_inWords_1 5 rfl rfl)
theorem dX9_inWords_31 : decode cX9_inWords 31 = .ok (.bipush 32, 2) := dk_16 32 (dk_at dksX9_inWords_1 8 rfl rfl)
theorem dX9_inWords_33 : decode cX9_inWords 33 = .ok (.if_icmp .eq 9, 3) := dk_159 0 9 (dk_at dksX9_inWords_1 10 rfl rfl)
theorem dX9_inWords_36 : decode cX9_inWords 36 = .ok (.iinc 4 1, 3) := dk_132 4 1 (dk_at dksX9_inWords_1 13 rfl rfl)
theorem dX9_inWords_39 : decode cX9_inWords 39 = .ok (.goto (-14), 3) := dk_167 255 242 (dk_at dksX9_inWords_1 16 rfl rfl)
theorem dX9_inWords_42 : decode cX9_inWords 42 = .ok (.iload 4, 2) := dk_21 4 (dk_at dksX9_inWords_1 19 rfl rfl)
theorem dX9_inWords_44 : decode cX9_inWords 44 = .ok (.iload_n 3, 1) := dk_29 (dk_at dksX9_inWords_1 21 rfl rfl)
theorem dX9_inWords_45 : decode cX9_inWords 45 = .ok (.isub, 1) := dk_100 (dk_at dksX9_inWords_1 22 rfl rfl)
theorem dX9_inWords_46 : decode cX9_inWords 46 = .ok (.aload_n 0, 1) := dk_42 (dk_at dksX9_inWords_1 23 rfl rfl)
theorem dX9_inWords_47 : decode cX9_inWords 47 = .ok (.getfield 137, 3) := dk_180 0 137 (dk_at dksX9_inWords_2 0 rfl rfl)
theorem dX9_inWords_50 : decode cX9_inWords 50 = .ok (.aload_n 0, 1) := dk_42 (dk_at dksX9_inWords_2 3 rfl rfl)
theorem dX9_inWords_51 : decode cX9_inWords 51 = .ok (.getfield 143, 3) := dk_180 0 143 (dk_at dksX9_inWords_2 4 rfl rfl)
theorem dX9_inWords_54 : decode cX9_inWords 54 = .ok (.isub, 1) := dk_100 (dk_at dksX9_inWords_2 7 rfl rfl)
theorem dX9_inWords_55 : decode cX9_inWords 55 = .ok (.if_icmp .ne 7, 3) := dk_160 0 7 (dk_at dksX9_inWords_2 8 rfl rfl)
theorem dX9_inWords_58 : decode cX9_inWords 58 = .ok (.iconst 1, 1) := dk_4 (dk_at dksX9_inWords_2 11 rfl rfl)
theorem dX9_inWords_59 : decode cX9_inWords 59 = .ok (.goto 4, 3) := dk_167 0 4 (dk_at dksX9_inWords_2 12 rfl rfl)
theorem dX9_inWords_62 : decode cX9_inWords 62 = .ok (.iconst 0, 1) := dk_3 (dk_at dksX9_inWords_2 15 rfl rfl)
theorem dX9_inWords_63 : decode cX9_inWords 63 = .ok (.istore 5, 2) := dk_54 5 (dk_at dksX9_inWords_2 16 rfl rfl)
theorem dX9_inWords_65 : decode cX9_inWords 65 = .ok (.iload_n 3, 1) := dk_29 (dk_at dksX9_inWords_2 18 rfl rfl)
theorem dX9_inWords_66 : decode cX9_inWords 66 = .ok (.istore 6, 2) := dk_54 6 (dk_at dksX9_inWords_2 19 rfl rfl)
theorem dX9_inWords_68 : decode cX9_inWords 68 = .ok (.iload 6, 2) := dk_21 6 (dk_at dksX9_inWords_2 21 rfl rfl)
theorem dX9_inWords_70 : decode cX9_inWords 70 = .ok (.iload 4, 2) := dk_21 4 (dk_at dksX9_inWords_3 0 rfl rfl)
theorem dX9_inWords_72 : decode cX9_inWords 72 = .ok (.if_icmp .ge 43, 3) := dk_162 0 43 (dk_at dksX9_inWords_3 2 rfl rfl)
theorem dX9_inWords_75 : decode cX9_inWords 75 = .ok (.iload 5, 2) := dk_21 5 (dk_at dksX9_inWords_3 5 rfl rfl)
theorem dX9_inWords_77 : decode cX9_inWords 77 = .ok (.ifCond .eq 38, 3) := dk_153 0 38 (dk_at dksX9_inWords_3 7 rfl rfl)
theorem dX9_inWords_80 : decode cX9_inWords 80 = .ok (.aload_n 1, 1) := dk_43 (dk_at dksX9_inWords_3 10 rfl rfl)
theorem dX9_inWords_81 : decode cX9_inWords 81 = .ok (.iload 6, 2) := dk_21 6 (dk_at dksX9_inWords_3 11 rfl rfl)
theorem dX9_inWords_83 : decode cX9_inWords 83 = .ok (.invokevirtual 170, 3) := dk_182 0 170 (dk_at dksX9_inWords_3 13 rfl rfl)
theorem dX9_inWords_86 : decode cX9_inWords 86 = .ok (.aload_n 0, 1) := dk_42 (dk_at dksX9_inWords_3 16 rfl rfl)
theorem dX9_inWords_87 : decode cX9_inWords 87 = .ok (.aload_n 0, 1) := dk_42 (dk_at dksX9_inWords_3 17 rfl rfl)
theorem dX9_inWords_88 : decode cX9_inWords 88 = .ok (.getfield 143, 3) := dk_180 0 143 (dk_at dksX9_inWords_3 18 rfl rfl)
theorem dX9_inWords_91 : decode cX9_inWords 91 = .ok (.iload 6, 2) := dk_21 6 (dk_at dksX9_inWords_3 21 rfl rfl)
theorem dX9_inWords_93 : decode cX9_inWords 93 = .ok (.iadd, 1) := dk_96 (dk_at dksX9_inWords_3 23 rfl rfl)
theorem dX9_inWords_94 : decode cX9_inWords 94 = .ok (.iload_n 3, 1) := dk_29 (dk_at dksX9_inWords_4 0 rfl rfl)
theorem dX9_inWords_95 : decode cX9_inWords 95 = .ok (.isub, 1) := dk_100 (dk_at dksX9_inWords_4 1 rfl rfl)
theorem dX9_inWords_96 : decode cX9_inWords 96 = .ok (.invokevirtual 140, 3) := dk_182 0 140 (dk_at dksX9_inWords_4 2 rfl rfl)
theorem dX9_inWords_99 : decode cX9_inWords 99 = .ok (.if_icmp .ne 7, 3) := dk_160 0 7 (dk_at dksX9_inWords_4 5 rfl rfl)
theorem dX9_inWords_102 : decode cX9_inWords 102 = .ok (.iconst 1, 1) := dk_4 (dk_at dksX9_inWords_4 8 rfl rfl)
theorem dX9_inWords_103 : decode cX9_inWords 103 = .ok (.goto 4, 3) := dk_167 0 4 (dk_at dksX9_inWords_4 9 rfl rfl)
theorem dX9_inWords_106 : decode cX9_inWords 106 = .ok (.iconst 0, 1) := dk_3 (dk_at dksX9_inWords_4 12 rfl rfl)
theorem dX9_inWords_107 : decode cX9_inWords 107 = .ok (.istore 5, 2) := dk_54 5 (dk_at dksX9_inWords_4 13 rfl rfl)
theorem dX9_inWords_109 : decode cX9_inWords 109 = .ok (.iinc 6 1, 3) := dk_132 6 1 (dk_at dksX9_inWords_4 15 rfl rfl)
theorem dX9_inWords_112 : decode cX9_inWords 112 = .ok (.goto (-44), 3) := dk_167 255 212 (dk_at dksX9_inWords_4 18 rfl rfl)
theorem dX9_inWords_115 : decode cX9_inWords 115 = .ok (.iload 5, 2) := dk_21 5 (dk_at dksX9_inWords_4 21 rfl rfl)
theorem dX9_inWords_117 : decode cX9_inWords 117 = .ok (.ifCond .eq 5, 3) := dk_153 0 5 (dk_at dksX9_inWords_5 0 rfl rfl)
theorem dX9_inWords_120 : decode cX9_inWords 120 = .ok (.iload_n 2, 1) := dk_28 (dk_at dksX9_inWords_5 3 rfl rfl)
theorem dX9_inWords_121 : decode cX9_inWords 121 = .ok (.ireturn, 1) := dk_172 (dk_at dksX9_inWords_5 4 rfl rfl)
theorem dX9_inWords_122 : decode cX9_inWords 122 = .ok (.iinc 2 1, 3) := dk_132 2 1 (dk_at dksX9_inWords_5 5 rfl rfl)
theorem dX9_inWords_125 : decode cX9_inWords 125 = .ok (.iload 4, 2) := dk_21 4 (dk_at dksX9_inWords_5 8 rfl rfl)
theorem dX9_inWords_127 : decode cX9_inWords 127 = .ok (.iconst 1, 1) := dk_4 (dk_at dksX9_inWords_5 10 rfl rfl)
theorem dX9_inWords_128 : decode cX9_inWords 128 = .ok (.iadd, 1) := dk_96 (dk_at dksX9_inWords_5 11 rfl rfl)
theorem dX9_inWords_129 : decode cX9_inWords 129 = .ok (.istore_n 3, 1) := dk_62 (dk_at dksX9_inWords_5 12 rfl rfl)
theorem dX9_inWords_130 : decode cX9_inWords 130 = .ok (.goto (-116), 3) := dk_167 255 140 (dk_at dksX9_inWords_5 13 rfl rfl)
theorem dX9_inWords_133 : decode cX9_inWords 133 = .ok (.iconst (-1), 1) := dk_2 (dk_at dksX9_inWords_5 16 rfl rfl)
theorem dX9_inWords_134 : decode cX9_inWords 134 = .ok (.ireturn, 1) := dk_172 (dk_at dksX9_inWords_5 17 rfl rfl)
abbrev cX9_newOne : ByteArray := prog_21_method_37_code
def yX9_newOne : MethodName := ⟨RX9, "newOne", "(III)Z"⟩
def dkwX9_newOne_3 : List UInt8 := [27, 96, 46, 96, 42, 182, 0, 193, 80, 42, 182, 0, 180, 4, 172]
abbrev dktX9_newOne_3 : List UInt8 := dkwX9_newOne_3 ++ []
def dkwX9_newOne_2 : List UInt8 := [154, 0, 9, 42, 6, 182, 0, 186, 172, 42, 180, 0, 13, 16, 80, 29, 96, 42, 180, 0, 7, 17, 6, 184]
abbrev dktX9_newOne_2 : List UInt8 := dkwX9_newOne_2 ++ dktX9_newOne_3
def dkwX9_newOne_1 : List UInt8 := [182, 0, 180, 42, 18, 200, 182, 0, 202, 154, 0, 9, 42, 5, 182, 0, 186, 172, 42, 182, 0, 206]
abbrev dktX9_newOne_1 : List UInt8 := dkwX9_newOne_1 ++ dktX9_newOne_2
def dkwX9_newOne_0 : List UInt8 := [42, 180, 0, 7, 17, 6, 184, 27, 96, 46, 28, 160, 0, 10, 42, 16, 6, 182, 0, 186, 172, 42]
abbrev dktX9_newOne_0 : List UInt8 := dkwX9_newOne_0 ++ dktX9_newOne_1
theorem dksX9_newOne_0 : cX9_newOne.data.toList.drop 0 = dktX9_newOne_0 := by decide +kernel
theorem dksX9_newOne_1 : cX9_newOne.data.toList.drop 22 = dktX9_newOne_1 := dk_seg dksX9_newOne_0 22 rfl rfl
theorem dksX9_newOne_2 : cX9_newOne.data.toList.drop 44 = dktX9_newOne_2 := dk_seg dksX9_newOne_1 22 rfl rfl
theorem dksX9_newOne_3 : cX9_newOne.data.toList.drop 68 = dktX9_newOne_3 := dk_seg dksX9_newOne_2 24 rfl rfl
theorem dX9_newOne_0 : decode cX9_newOne 0 = .ok (.aload_n 0, 1) := dk_42 (dk_at dksX9_newOne_0 0 rfl rfl)
theorem dX9_newOne_1 : decode cX9_newOne 1 = .ok (.getfield 7, 3) := dk_180 0 7 (dk_at dksX9_newOne_0 1 rfl rfl)
theorem dX9_newOne_4 : decode cX9_newOne 4 = .ok (.sipush 1720, 3) := dk_17 6 184 (dk_at dksX9_newOne_0 4 rfl rfl)
theorem dX9_newOne_7 : decode cX9_newOne 7 = .ok (.iload_n 1, 1) := dk_27 (dk_at dksX9_newOne_0 7 rfl rfl)
theorem dX9_newOne_8 : decode cX9_newOne 8 = .ok (.iadd, 1) := dk_96 (dk_at dksX9_newOne_0 8 rfl rfl)
theorem dX9_newOne_9 : decode cX9_newOne 9 = .ok (.iaload, 1) := dk_46 (dk_at dksX9_newOne_0 9 rfl rfl)
theorem dX9_newOne_10 : decode cX9_newOne 10 = .ok (.iload_n 2, 1) := dk_28 (dk_at dksX9_newOne_0 10 rfl rfl)
theorem dX9_newOne_11 : decode cX9_newOne 11 = .ok (.if_icmp .ne 10, 3) := dk_160 0 10 (dk_at dksX9_newOne_0 11 rfl rfl)
theorem dX9_newOne_14 : decode cX9_newOne 14 = .ok (.aload_n 0, 1) := dk_42 (dk_at dksX9_newOne_0 14 rfl rfl)
theorem dX9_newOne_15 : decode cX9_newOne 15 = .ok (.bipush 6, 2) := dk_16 6 (dk_at dksX9_newOne_0 15 rfl rfl)
theorem dX9_newOne_17 : decode cX9_newOne 17 = .ok (.invokevirtual 186, 3) := dk_182 0 186 (dk_at dksX9_newOne_0 17 rfl rfl)
theorem dX9_newOne_20 : decode cX9_newOne 20 = .ok (.ireturn, 1) := dk_172 (dk_at dksX9_newOne_0 20 rfl rfl)
theorem dX9_newOne_21 : decode cX9_newOne 21 = .ok (.aload_n 0, 1) := dk_42 (dk_at dksX9_newOne_0 21 rfl rfl)
theorem dX9_newOne_22 : decode cX9_newOne 22 = .ok (.invokevirtual 180, 3) := dk_182 0 180 (dk_at dksX9_newOne_1 0 rfl rfl)
theorem dX9_newOne_25 : decode cX9_newOne 25 = .ok (.aload_n 0, 1) := dk_42 (dk_at dksX9_newOne_1 3 rfl rfl)
theorem dX9_newOne_26 : decode cX9_newOne 26 = .ok (.ldc 200, 2) := dk_18 200 (dk_at dksX9_newOne_1 4 rfl rfl)
theorem dX9_newOne_28 : decode cX9_newOne 28 = .ok (.invokevirtual 202, 3) := dk_182 0 202 (dk_at dksX9_newOne_1 6 rfl rfl)
theorem dX9_newOne_31 : decode cX9_newOne 31 = .ok (.ifCond .ne 9, 3) := dk_154 0 9 (dk_at dksX9_newOne_1 9 rfl rfl)
theorem dX9_newOne_34 : decode cX9_newOne 34 = .ok (.aload_n 0, 1) := dk_42 (dk_at dksX9_newOne_1 12 rfl rfl)
theorem dX9_newOne_35 : decode cX9_newOne 35 = .ok (.iconst 2, 1) := dk_5 (dk_at dksX9_newOne_1 13 rfl rfl)
theorem dX9_newOne_36 : decode cX9_newOne 36 = .ok (.invokevirtual 186, 3) := dk_182 0 186 (dk_at dksX9_newOne_1 14 rfl rfl)
theorem dX9_newOne_39 : decode cX9_newOne 39 = .ok (.ireturn, 1) := dk_172 (dk_at dksX9_newOne_1 17 rfl rfl)
theorem dX9_newOne_40 : decode cX9_newOne 40 = .ok (.aload_n 0, 1) := dk_42 (dk_at dksX9_newOne_1 18 rfl rfl)
theorem dX9_newOne_41 : decode cX9_newOne 41 = .ok (.invokevirtual 206, 3) := dk_182 0 206 (dk_at dksX9_newOne_1 19 rfl rfl)
theorem dX9_newOne_44 : decode cX9_newOne 44 = .ok (.ifCond .ne 9, 3) := dk_154 0 9 (dk_at dksX9_newOne_2 0 rfl rfl)
theorem dX9_newOne_47 : decode cX9_newOne 47 = .ok (.aload_n 0, 1) := dk_42 (dk_at dksX9_newOne_2 3 rfl rfl)
theorem dX9_newOne_48 : decode cX9_newOne 48 = .ok (.iconst 3, 1) := dk_6 (dk_at dksX9_newOne_2 4 rfl rfl)
theorem dX9_newOne_49 : decode cX9_newOne 49 = .ok (.invokevirtual 186, 3) := dk_182 0 186 (dk_at dksX9_newOne_2 5 rfl rfl)
theorem dX9_newOne_52 : decode cX9_newOne 52 = .ok (.ireturn, 1) := dk_172 (dk_at dksX9_newOne_2 8 rfl rfl)
theorem dX9_newOne_53 : decode cX9_newOne 53 = .ok (.aload_n 0, 1) := dk_42 (dk_at dksX9_newOne_2 9 rfl rfl)
theorem dX9_newOne_54 : decode cX9_newOne 54 = .ok (.getfield 13, 3) := dk_180 0 13 (dk_at dksX9_newOne_2 10 rfl rfl)
theorem dX9_newOne_57 : decode cX9_newOne 57 = .ok (.bipush 80, 2) := dk_16 80 (dk_at dksX9_newOne_2 13 rfl rfl)
theorem dX9_newOne_59 : decode cX9_newOne 59 = .ok (.iload_n 3, 1) := dk_29 (dk_at dksX9_newOne_2 15 rfl rfl)
theorem dX9_newOne_60 : decode cX9_newOne 60 = .ok (.iadd, 1) := dk_96 (dk_at dksX9_newOne_2 16 rfl rfl)
theorem dX9_newOne_61 : decode cX9_newOne 61 = .ok (.aload_n 0, 1) := dk_42 (dk_at dksX9_newOne_2 17 rfl rfl)
theorem dX9_newOne_62 : decode cX9_newOne 62 = .ok (.getfield 7, 3) := dk_180 0 7 (dk_at dksX9_newOne_2 18 rfl rfl)
theorem dX9_newOne_65 : decode cX9_newOne 65 = .ok (.sipush 1720, 3) := dk_17 6 184 (dk_at dksX9_newOne_2 21 rfl rfl)
theorem dX9_newOne_68 : decode cX9_newOne 68 = .ok (.iload_n 1, 1) := dk_27 (dk_at dksX9_newOne_3 0 rfl rfl)
theorem dX9_newOne_69 : decode cX9_newOne 69 = .ok (.iadd, 1) := dk_96 (dk_at dksX9_newOne_3 1 rfl rfl)
theorem dX9_newOne_70 : decode cX9_newOne 70 = .ok (.iaload, 1) := dk_46 (dk_at dksX9_newOne_3 2 rfl rfl)
theorem dX9_newOne_71 : decode cX9_newOne 71 = .ok (.iadd, 1) := dk_96 (dk_at dksX9_newOne_3 3 rfl rfl)
theorem dX9_newOne_72 : decode cX9_newOne 72 = .ok (.aload_n 0, 1) := dk_42 (dk_at dksX9_newOne_3 4 rfl rfl)
theorem dX9_newOne_73 : decode cX9_newOne 73 = .ok (.invokevirtual 193, 3) := dk_182 0 193 (dk_at dksX9_newOne_3 5 rfl rfl)
theorem dX9_newOne_76 : decode cX9_newOne 76 = .ok (.lastore, 1) := dk_80 (dk_at dksX9_newOne_3 8 rfl rfl)
theorem dX9_newOne_77 : decode cX9_newOne 77 = .ok (.aload_n 0, 1) := dk_42 (dk_at dksX9_newOne_3 9 rfl rfl)
theorem dX9_newOne_78 : decode cX9_newOne 78 = .ok (.invokevirtual 180, 3) := dk_182 0 180 (dk_at dksX9_newOne_3 10 rfl rfl)
theorem dX9_newOne_81 : decode cX9_newOne 81 = .ok (.iconst 1, 1) := dk_4 (dk_at dksX9_newOne_3 13 rfl rfl)
theorem dX9_newOne_82 : decode cX9_newOne 82 = .ok (.ireturn, 1) := dk_172 (dk_at dksX9_newOne_3 14 rfl rfl)
abbrev cX9_fails : ByteArray := prog_21_method_26_code
def yX9_fails : MethodName := ⟨RX9, "fails", "(I)Z"⟩
def dkwX9_fails_1 : List UInt8 := [42, 42, 180, 0, 143, 181, 0, 41, 3, 172]
abbrev dktX9_fails_1 : List UInt8 := dkwX9_fails_1 ++ []
def dkwX9_fails_0 : List UInt8 := [42, 180, 0, 174, 154, 0, 28, 42, 42, 180, 0, 149, 4, 160, 0, 7, 4, 167, 0, 4, 27, 181, 0, 174]
abbrev dktX9_fails_0 : List UInt8 := dkwX9_fails_0 ++ dktX9_fails_1
theorem dksX9_fails_0 : cX9_fails.data.toList.drop 0 = dktX9_fails_0 := by decide +kernel
theorem dksX9_fails_1 : cX9_fails.data.toList.drop 24 = dktX9_fails_1 := dk_seg dksX9_fails_0 24 rfl rfl
theorem dX9_fails_0 : decode cX9_fails 0 = .ok (.aload_n 0, 1) := dk_42 (dk_at dksX9_fails_0 0 rfl rfl)
theorem dX9_fails_1 : decode cX9_fails 1 = .ok (.getfield 174, 3) := dk_180 0 174 (dk_at dksX9_fails_0 1 rfl rfl)
theorem dX9_fails_4 : decode cX9_fails 4 = .ok (.ifCond .ne 28, 3) := dk_154 0 28 (dk_at dksX9_fails_0 4 rfl rfl)
theorem dX9_fails_7 : decode cX9_fails 7 = .ok (.aload_n 0, 1) := dk_42 (dk_at dksX9_fails_0 7 rfl rfl)
theorem dX9_fails_8 : decode cX9_fails 8 = .ok (.aload_n 0, 1) := dk_42 (dk_at dksX9_fails_0 8 rfl rfl)
theorem dX9_fails_9 : decode cX9_fails 9 = .ok (.getfield 149, 3) := dk_180 0 149 (dk_at dksX9_fails_0 9 rfl rfl)
theorem dX9_fails_12 : decode cX9_fails 12 = .ok (.iconst 1, 1) := dk_4 (dk_at dksX9_fails_0 12 rfl rfl)
theorem dX9_fails_13 : decode cX9_fails 13 = .ok (.if_icmp .ne 7, 3) := dk_160 0 7 (dk_at dksX9_fails_0 13 rfl rfl)
theorem dX9_fails_16 : decode cX9_fails 16 = .ok (.iconst 1, 1) := dk_4 (dk_at dksX9_fails_0 16 rfl rfl)
theorem dX9_fails_17 : decode cX9_fails 17 = .ok (.goto 4, 3) := dk_167 0 4 (dk_at dksX9_fails_0 17 rfl rfl)
theorem dX9_fails_20 : decode cX9_fails 20 = .ok (.iload_n 1, 1) := dk_27 (dk_at dksX9_fails_0 20 rfl rfl)
theorem dX9_fails_21 : decode cX9_fails 21 = .ok (.putfield 174, 3) := dk_181 0 174 (dk_at dksX9_fails_0 21 rfl rfl)
theorem dX9_fails_24 : decode cX9_fails 24 = .ok (.aload_n 0, 1) := dk_42 (dk_at dksX9_fails_1 0 rfl rfl)
theorem dX9_fails_25 : decode cX9_fails 25 = .ok (.aload_n 0, 1) := dk_42 (dk_at dksX9_fails_1 1 rfl rfl)
theorem dX9_fails_26 : decode cX9_fails 26 = .ok (.getfield 143, 3) := dk_180 0 143 (dk_at dksX9_fails_1 2 rfl rfl)
theorem dX9_fails_29 : decode cX9_fails 29 = .ok (.putfield 41, 3) := dk_181 0 41 (dk_at dksX9_fails_1 5 rfl rfl)
theorem dX9_fails_32 : decode cX9_fails 32 = .ok (.iconst 0, 1) := dk_3 (dk_at dksX9_fails_1 8 rfl rfl)
theorem dX9_fails_33 : decode cX9_fails 33 = .ok (.ireturn, 1) := dk_172 (dk_at dksX9_fails_1 9 rfl rfl)
abbrev cX9_isName : ByteArray := prog_21_method_31_code
def yX9_isName : MethodName := ⟨RX9, "isName", "(Ljava/lang/String;)Z"⟩
def dkwX9_isName_1 : List UInt8 := [182, 0, 189, 2, 160, 0, 7, 4, 167, 0, 4, 3, 172]
abbrev dktX9_isName_1 : List UInt8 := dkwX9_isName_1 ++ []
def dkwX9_isName_0 : List UInt8 := [42, 180, 0, 149, 5, 160, 0, 30, 42, 180, 0, 137, 42, 180, 0, 143, 100, 16, 8, 163, 0, 16, 42, 43]
abbrev dktX9_isName_0 : List UInt8 := dkwX9_isName_0 ++ dktX9_isName_1
theorem dksX9_isName_0 : cX9_isName.data.toList.drop 0 = dktX9_isName_0 := by decide +kernel
theorem dksX9_isName_1 : cX9_isName.data.toList.drop 24 = dktX9_isName_1 := dk_seg dksX9_isName_0 24 rfl rfl
theorem dX9_isName_0 : decode cX9_isName 0 = .ok (.aload_n 0, 1) := dk_42 (dk_at dksX9_isName_0 0 rfl rfl)
theorem dX9_isName_1 : decode cX9_isName 1 = .ok (.getfield 149, 3) := dk_180 0 149 (dk_at dksX9_isName_0 1 rfl rfl)
theorem dX9_isName_4 : decode cX9_isName 4 = .ok (.iconst 2, 1) := dk_5 (dk_at dksX9_isName_0 4 rfl rfl)
theorem dX9_isName_5 : decode cX9_isName 5 = .ok (.if_icmp .ne 30, 3) := dk_160 0 30 (dk_at dksX9_isName_0 5 rfl rfl)
theorem dX9_isName_8 : decode cX9_isName 8 = .ok (.aload_n 0, 1) := dk_42 (dk_at dksX9_isName_0 8 rfl rfl)
theorem dX9_isName_9 : decode cX9_isName 9 = .ok (.getfield 137, 3) := dk_180 0 137 (dk_at dksX9_isName_0 9 rfl rfl)
theorem dX9_isName_12 : decode cX9_isName 12 = .ok (.aload_n 0, 1) := dk_42 (dk_at dksX9_isName_0 12 rfl rfl)
theorem dX9_isName_13 : decode cX9_isName 13 = .ok (.getfield 143, 3) := dk_180 0 143 (dk_at dksX9_isName_0 13 rfl rfl)
theorem dX9_isName_16 : decode cX9_isName 16 = .ok (.isub, 1) := dk_100 (dk_at dksX9_isName_0 16 rfl rfl)
theorem dX9_isName_17 : decode cX9_isName 17 = .ok (.bipush 8, 2) := dk_16 8 (dk_at dksX9_isName_0 17 rfl rfl)
theorem dX9_isName_19 : decode cX9_isName 19 = .ok (.if_icmp .gt 16, 3) := dk_163 0 16 (dk_at dksX9_isName_0 19 rfl rfl)
theorem dX9_isName_22 : decode cX9_isName 22 = .ok (.aload_n 0, 1) := dk_42 (dk_at dksX9_isName_0 22 rfl rfl)
theorem dX9_isName_23 : decode cX9_isName 23 = .ok (.aload_n 1, 1) := dk_43 (dk_at dksX9_isName_0 23 rfl rfl)
theorem dX9_isName_24 : decode cX9_isName 24 = .ok (.invokevirtual 189, 3) := dk_182 0 189 (dk_at dksX9_isName_1 0 rfl rfl)
theorem dX9_isName_27 : decode cX9_isName 27 = .ok (.iconst (-1), 1) := dk_2 (dk_at dksX9_isName_1 3 rfl rfl)
theorem dX9_isName_28 : decode cX9_isName 28 = .ok (.if_icmp .ne 7, 3) := dk_160 0 7 (dk_at dksX9_isName_1 4 rfl rfl)
theorem dX9_isName_31 : decode cX9_isName 31 = .ok (.iconst 1, 1) := dk_4 (dk_at dksX9_isName_1 7 rfl rfl)
theorem dX9_isName_32 : decode cX9_isName 32 = .ok (.goto 4, 3) := dk_167 0 4 (dk_at dksX9_isName_1 8 rfl rfl)
theorem dX9_isName_35 : decode cX9_isName 35 = .ok (.iconst 0, 1) := dk_3 (dk_at dksX9_isName_1 11 rfl rfl)
theorem dX9_isName_36 : decode cX9_isName 36 = .ok (.ireturn, 1) := dk_172 (dk_at dksX9_isName_1 12 rfl rfl)
abbrev cX9_isFree : ByteArray := prog_21_method_36_code
def yX9_isFree : MethodName := ⟨RX9, "isFree", "()Z"⟩
def dkwX9_isFree_3 : List UInt8 := [160, 0, 7, 4, 167, 0, 4, 3, 172]
abbrev dktX9_isFree_3 : List UInt8 := dkwX9_isFree_3 ++ []
def dkwX9_isFree_2 : List UInt8 := [46, 182, 0, 197, 2, 160, 0, 25, 42, 16, 98, 42, 180, 0, 7, 17, 6, 187, 46, 182, 0, 197, 2]
abbrev dktX9_isFree_2 : List UInt8 := dkwX9_isFree_2 ++ dktX9_isFree_3
def dkwX9_isFree_1 : List UInt8 := [180, 0, 7, 17, 6, 185, 46, 182, 0, 197, 2, 160, 0, 43, 42, 16, 94, 42, 180, 0, 7, 17, 6, 186]
abbrev dktX9_isFree_1 : List UInt8 := dkwX9_isFree_1 ++ dktX9_isFree_2
def dkwX9_isFree_0 : List UInt8 := [42, 16, 80, 42, 180, 0, 7, 17, 6, 184, 46, 182, 0, 197, 2, 160, 0, 61, 42, 16, 86, 42]
abbrev dktX9_isFree_0 : List UInt8 := dkwX9_isFree_0 ++ dktX9_isFree_1
theorem dksX9_isFree_0 : cX9_isFree.data.toList.drop 0 = dktX9_isFree_0 := by decide +kernel
theorem dksX9_isFree_1 : cX9_isFree.data.toList.drop 22 = dktX9_isFree_1 := dk_seg dksX9_isFree_0 22 rfl rfl
theorem dksX9_isFree_2 : cX9_isFree.data.toList.drop 46 = dktX9_isFree_2 := dk_seg dksX9_isFree_1 24 rfl rfl
theorem dksX9_isFree_3 : cX9_isFree.data.toList.drop 69 = dktX9_isFree_3 := dk_seg dksX9_isFree_2 23 rfl rfl
theorem dX9_isFree_0 : decode cX9_isFree 0 = .ok (.aload_n 0, 1) := dk_42 (dk_at dksX9_isFree_0 0 rfl rfl)
theorem dX9_isFree_1 : decode cX9_isFree 1 = .ok (.bipush 80, 2) := dk_16 80 (dk_at dksX9_isFree_0 1 rfl rfl)
theorem dX9_isFree_3 : decode cX9_isFree 3 = .ok (.aload_n 0, 1) := dk_42 (dk_at dksX9_isFree_0 3 rfl rfl)
theorem dX9_isFree_4 : decode cX9_isFree 4 = .ok (.getfield 7, 3) := dk_180 0 7 (dk_at dksX9_isFree_0 4 rfl rfl)
theorem dX9_isFree_7 : decode cX9_isFree 7 = .ok (.sipush 1720, 3) := dk_17 6 184 (dk_at dksX9_isFree_0 7 rfl rfl)
theorem dX9_isFree_10 : decode cX9_isFree 10 = .ok (.iaload, 1) := dk_46 (dk_at dksX9_isFree_0 10 rfl rfl)
theorem dX9_isFree_11 : decode cX9_isFree 11 = .ok (.invokevirtual 197, 3) := dk_182 0 197 (dk_at dksX9_isFree_0 11 rfl rfl)
theorem dX9_isFree_14 : decode cX9_isFree 14 = .ok (.iconst (-1), 1) := dk_2 (dk_at dksX9_isFree_0 14 rfl rfl)
theorem dX9_isFree_15 : decode cX9_isFree 15 = .ok (.if_icmp .ne 61, 3) := dk_160 0 61 (dk_at dksX9_isFree_0 15 rfl rfl)
theorem dX9_isFree_18 : decode cX9_isFree 18 = .ok (.aload_n 0, 1) := dk_42 (dk_at dksX9_isFree_0 18 rfl rfl)
theorem dX9_isFree_19 : decode cX9_isFree 19 = .ok (.bipush 86, 2) := dk_16 86 (dk_at dksX9_isFree_0 19 rfl rfl)
theorem dX9_isFree_21 : decode cX9_isFree 21 = .ok (.aload_n 0, 1) := dk_42 (dk_at dksX9_isFree_0 21 rfl rfl)
theorem dX9_isFree_22 : decode cX9_isFree 22 = .ok (.getfield 7, 3) := dk_180 0 7 (dk_at dksX9_isFree_1 0 rfl rfl)
theorem dX9_isFree_25 : decode cX9_isFree 25 = .ok (.sipush 1721, 3) := dk_17 6 185 (dk_at dksX9_isFree_1 3 rfl rfl)
theorem dX9_isFree_28 : decode cX9_isFree 28 = .ok (.iaload, 1) := dk_46 (dk_at dksX9_isFree_1 6 rfl rfl)
theorem dX9_isFree_29 : decode cX9_isFree 29 = .ok (.invokevirtual 197, 3) := dk_182 0 197 (dk_at dksX9_isFree_1 7 rfl rfl)
theorem dX9_isFree_32 : decode cX9_isFree 32 = .ok (.iconst (-1), 1) := dk_2 (dk_at dksX9_isFree_1 10 rfl rfl)
theorem dX9_isFree_33 : decode cX9_isFree 33 = .ok (.if_icmp .ne 43, 3) := dk_160 0 43 (dk_at dksX9_isFree_1 11 rfl rfl)
theorem dX9_isFree_36 : decode cX9_isFree 36 = .ok (.aload_n 0, 1) := dk_42 (dk_at dksX9_isFree_1 14 rfl rfl)
theorem dX9_isFree_37 : decode cX9_isFree 37 = .ok (.bipush 94, 2) := dk_16 94 (dk_at dksX9_isFree_1 15 rfl rfl)
theorem dX9_isFree_39 : decode cX9_isFree 39 = .ok (.aload_n 0, 1) := dk_42 (dk_at dksX9_isFree_1 17 rfl rfl)
theorem dX9_isFree_40 : decode cX9_isFree 40 = .ok (.getfield 7, 3) := dk_180 0 7 (dk_at dksX9_isFree_1 18 rfl rfl)
theorem dX9_isFree_43 : decode cX9_isFree 43 = .ok (.sipush 1722, 3) := dk_17 6 186 (dk_at dksX9_isFree_1 21 rfl rfl)
theorem dX9_isFree_46 : decode cX9_isFree 46 = .ok (.iaload, 1) := dk_46 (dk_at dksX9_isFree_2 0 rfl rfl)
theorem dX9_isFree_47 : decode cX9_isFree 47 = .ok (.invokevirtual 197, 3) := dk_182 0 197 (dk_at dksX9_isFree_2 1 rfl rfl)
theorem dX9_isFree_50 : decode cX9_isFree 50 = .ok (.iconst (-1), 1) := dk_2 (dk_at dksX9_isFree_2 4 rfl rfl)
theorem dX9_isFree_51 : decode cX9_isFree 51 = .ok (.if_icmp .ne 25, 3) := dk_160 0 25 (dk_at dksX9_isFree_2 5 rfl rfl)
theorem dX9_isFree_54 : decode cX9_isFree 54 = .ok (.aload_n 0, 1) := dk_42 (dk_at dksX9_isFree_2 8 rfl rfl)
theorem dX9_isFree_55 : decode cX9_isFree 55 = .ok (.bipush 98, 2) := dk_16 98 (dk_at dksX9_isFree_2 9 rfl rfl)
theorem dX9_isFree_57 : decode cX9_isFree 57 = .ok (.aload_n 0, 1) := dk_42 (dk_at dksX9_isFree_2 11 rfl rfl)
theorem dX9_isFree_58 : decode cX9_isFree 58 = .ok (.getfield 7, 3) := dk_180 0 7 (dk_at dksX9_isFree_2 12 rfl rfl)
theorem dX9_isFree_61 : decode cX9_isFree 61 = .ok (.sipush 1723, 3) := dk_17 6 187 (dk_at dksX9_isFree_2 15 rfl rfl)
theorem dX9_isFree_64 : decode cX9_isFree 64 = .ok (.iaload, 1) := dk_46 (dk_at dksX9_isFree_2 18 rfl rfl)
theorem dX9_isFree_65 : decode cX9_isFree 65 = .ok (.invokevirtual 197, 3) := dk_182 0 197 (dk_at dksX9_isFree_2 19 rfl rfl)
theorem dX9_isFree_68 : decode cX9_isFree 68 = .ok (.iconst (-1), 1) := dk_2 (dk_at dksX9_isFree_2 22 rfl rfl)
theorem dX9_isFree_69 : decode cX9_isFree 69 = .ok (.if_icmp .ne 7, 3) := dk_160 0 7 (dk_at dksX9_isFree_3 0 rfl rfl)
theorem dX9_isFree_72 : decode cX9_isFree 72 = .ok (.iconst 1, 1) := dk_4 (dk_at dksX9_isFree_3 3 rfl rfl)
theorem dX9_isFree_73 : decode cX9_isFree 73 = .ok (.goto 4, 3) := dk_167 0 4 (dk_at dksX9_isFree_3 4 rfl rfl)
theorem dX9_isFree_76 : decode cX9_isFree 76 = .ok (.iconst 0, 1) := dk_3 (dk_at dksX9_isFree_3 7 rfl rfl)
theorem dX9_isFree_77 : decode cX9_isFree 77 = .ok (.ireturn, 1) := dk_172 (dk_at dksX9_isFree_3 8 rfl rfl)
abbrev cX9_findHere : ByteArray := prog_21_method_33_code
def yX9_findHere : MethodName := ⟨RX9, "findHere", "(II)I"⟩
def dkwX9_findHere_1 : List UInt8 := [172, 132, 3, 1, 167, 255, 230, 2, 172]
abbrev dktX9_findHere_1 : List UInt8 := dkwX9_findHere_1 ++ []
def dkwX9_findHere_0 : List UInt8 := [3, 62, 29, 28, 162, 0, 27, 42, 180, 0, 13, 27, 29, 96, 47, 42, 182, 0, 193, 148, 154, 0, 5, 29]
abbrev dktX9_findHere_0 : List UInt8 := dkwX9_findHere_0 ++ dktX9_findHere_1
theorem dksX9_findHere_0 : cX9_findHere.data.toList.drop 0 = dktX9_findHere_0 := by decide +kernel
theorem dksX9_findHere_1 : cX9_findHere.data.toList.drop 24 = dktX9_findHere_1 := dk_seg dksX9_findHere_0 24 rfl rfl
theorem dX9_findHere_0 : decode cX9_findHere 0 = .ok (.iconst 0, 1) := dk_3 (dk_at dksX9_findHere_0 0 rfl rfl)
theorem dX9_findHere_1 : decode cX9_findHere 1 = .ok (.istore_n 3, 1) := dk_62 (dk_at dksX9_findHere_0 1 rfl rfl)
theorem dX9_findHere_2 : decode cX9_findHere 2 = .ok (.iload_n 3, 1) := dk_29 (dk_at dksX9_findHere_0 2 rfl rfl)
theorem dX9_findHere_3 : decode cX9_findHere 3 = .ok (.iload_n 2, 1) := dk_28 (dk_at dksX9_findHere_0 3 rfl rfl)
theorem dX9_findHere_4 : decode cX9_findHere 4 = .ok (.if_icmp .ge 27, 3) := dk_162 0 27 (dk_at dksX9_findHere_0 4 rfl rfl)
theorem dX9_findHere_7 : decode cX9_findHere 7 = .ok (.aload_n 0, 1) := dk_42 (dk_at dksX9_findHere_0 7 rfl rfl)
theorem dX9_findHere_8 : decode cX9_findHere 8 = .ok (.getfield 13, 3) := dk_180 0 13 (dk_at dksX9_findHere_0 8 rfl rfl)
theorem dX9_findHere_11 : decode cX9_findHere 11 = .ok (.iload_n 1, 1) := dk_27 (dk_at dksX9_findHere_0 11 rfl rfl)
theorem dX9_findHere_12 : decode cX9_findHere 12 = .ok (.iload_n 3, 1) := dk_29 (dk_at dksX9_findHere_0 12 rfl rfl)
theorem dX9_findHere_13 : decode cX9_findHere 13 = .ok (.iadd, 1) := dk_96 (dk_at dksX9_findHere_0 13 rfl rfl)
theorem dX9_findHere_14 : decode cX9_findHere 14 = .ok (.laload, 1) := dk_47 (dk_at dksX9_findHere_0 14 rfl rfl)
theorem dX9_findHere_15 : decode cX9_findHere 15 = .ok (.aload_n 0, 1) := dk_42 (dk_at dksX9_findHere_0 15 rfl rfl)
theorem dX9_findHere_16 : decode cX9_findHere 16 = .ok (.invokevirtual 193, 3) := dk_182 0 193 (dk_at dksX9_findHere_0 16 rfl rfl)
theorem dX9_findHere_19 : decode cX9_findHere 19 = .ok (.lcmp, 1) := dk_148 (dk_at dksX9_findHere_0 19 rfl rfl)
theorem dX9_findHere_20 : decode cX9_findHere 20 = .ok (.ifCond .ne 5, 3) := dk_154 0 5 (dk_at dksX9_findHere_0 20 rfl rfl)
theorem dX9_findHere_23 : decode cX9_findHere 23 = .ok (.iload_n 3, 1) := dk_29 (dk_at dksX9_findHere_0 23 rfl rfl)
theorem dX9_findHere_24 : decode cX9_findHere 24 = .ok (.ireturn, 1) := dk_172 (dk_at dksX9_findHere_1 0 rfl rfl)
theorem dX9_findHere_25 : decode cX9_findHere 25 = .ok (.iinc 3 1, 3) := dk_132 3 1 (dk_at dksX9_findHere_1 1 rfl rfl)
theorem dX9_findHere_28 : decode cX9_findHere 28 = .ok (.goto (-26), 3) := dk_167 255 230 (dk_at dksX9_findHere_1 4 rfl rfl)
theorem dX9_findHere_31 : decode cX9_findHere 31 = .ok (.iconst (-1), 1) := dk_2 (dk_at dksX9_findHere_1 7 rfl rfl)
theorem dX9_findHere_32 : decode cX9_findHere 32 = .ok (.ireturn, 1) := dk_172 (dk_at dksX9_findHere_1 8 rfl rfl)
abbrev cX9_nameHere : ByteArray := prog_21_method_32_code
def yX9_nameHere : MethodName := ⟨RX9, "nameHere", "()J"⟩
def dkwX9_nameHere_1 : List UInt8 := [133, 129, 64, 132, 3, 1, 167, 255, 233, 31, 173]
abbrev dktX9_nameHere_1 : List UInt8 := dkwX9_nameHere_1 ++ []
def dkwX9_nameHere_0 : List UInt8 := [9, 64, 42, 180, 0, 143, 62, 29, 42, 180, 0, 137, 162, 0, 21, 31, 16, 8, 121, 42, 29, 182, 0, 140]
abbrev dktX9_nameHere_0 : List UInt8 := dkwX9_nameHere_0 ++ dktX9_nameHere_1
theorem dksX9_nameHere_0 : cX9_nameHere.data.toList.drop 0 = dktX9_nameHere_0 := by decide +kernel
theorem dksX9_nameHere_1 : cX9_nameHere.data.toList.drop 24 = dktX9_nameHere_1 := dk_seg dksX9_nameHere_0 24 rfl rfl
theorem dX9_nameHere_0 : decode cX9_nameHere 0 = .ok (.lconst 0, 1) := dk_9 (dk_at dksX9_nameHere_0 0 rfl rfl)
theorem dX9_nameHere_1 : decode cX9_nameHere 1 = .ok (.lstore_n 1, 1) := dk_64 (dk_at dksX9_nameHere_0 1 rfl rfl)
theorem dX9_nameHere_2 : decode cX9_nameHere 2 = .ok (.aload_n 0, 1) := dk_42 (dk_at dksX9_nameHere_0 2 rfl rfl)
theorem dX9_nameHere_3 : decode cX9_nameHere 3 = .ok (.getfield 143, 3) := dk_180 0 143 (dk_at dksX9_nameHere_0 3 rfl rfl)
theorem dX9_nameHere_6 : decode cX9_nameHere 6 = .ok (.istore_n 3, 1) := dk_62 (dk_at dksX9_nameHere_0 6 rfl rfl)
theorem dX9_nameHere_7 : decode cX9_nameHere 7 = .ok (.iload_n 3, 1) := dk_29 (dk_at dksX9_nameHere_0 7 rfl rfl)
theorem dX9_nameHere_8 : decode cX9_nameHere 8 = .ok (.aload_n 0, 1) := dk_42 (dk_at dksX9_nameHere_0 8 rfl rfl)
theorem dX9_nameHere_9 : decode cX9_nameHere 9 = .ok (.getfield 137, 3) := dk_180 0 137 (dk_at dksX9_nameHere_0 9 rfl rfl)
theorem dX9_nameHere_12 : decode cX9_nameHere 12 = .ok (.if_icmp .ge 21, 3) := dk_162 0 21 (dk_at dksX9_nameHere_0 12 rfl rfl)
theorem dX9_nameHere_15 : decode cX9_nameHere 15 = .ok (.lload_n 1, 1) := dk_31 (dk_at dksX9_nameHere_0 15 rfl rfl)
theorem dX9_nameHere_16 : decode cX9_nameHere 16 = .ok (.bipush 8, 2) := dk_16 8 (dk_at dksX9_nameHere_0 16 rfl rfl)
theorem dX9_nameHere_18 : decode cX9_nameHere 18 = .ok (.lshl, 1) := dk_121 (dk_at dksX9_nameHere_0 18 rfl rfl)
theorem dX9_nameHere_19 : decode cX9_nameHere 19 = .ok (.aload_n 0, 1) := dk_42 (dk_at dksX9_nameHere_0 19 rfl rfl)
theorem dX9_nameHere_20 : decode cX9_nameHere 20 = .ok (.iload_n 3, 1) := dk_29 (dk_at dksX9_nameHere_0 20 rfl rfl)
theorem dX9_nameHere_21 : decode cX9_nameHere 21 = .ok (.invokevirtual 140, 3) := dk_182 0 140 (dk_at dksX9_nameHere_0 21 rfl rfl)
theorem dX9_nameHere_24 : decode cX9_nameHere 24 = .ok (.i2l, 1) := dk_133 (dk_at dksX9_nameHere_1 0 rfl rfl)
theorem dX9_nameHere_25 : decode cX9_nameHere 25 = .ok (.lor, 1) := dk_129 (dk_at dksX9_nameHere_1 1 rfl rfl)
theorem dX9_nameHere_26 : decode cX9_nameHere 26 = .ok (.lstore_n 1, 1) := dk_64 (dk_at dksX9_nameHere_1 2 rfl rfl)
theorem dX9_nameHere_27 : decode cX9_nameHere 27 = .ok (.iinc 3 1, 3) := dk_132 3 1 (dk_at dksX9_nameHere_1 3 rfl rfl)
theorem dX9_nameHere_30 : decode cX9_nameHere 30 = .ok (.goto (-23), 3) := dk_167 255 233 (dk_at dksX9_nameHere_1 6 rfl rfl)
theorem dX9_nameHere_33 : decode cX9_nameHere 33 = .ok (.lload_n 1, 1) := dk_31 (dk_at dksX9_nameHere_1 9 rfl rfl)
theorem dX9_nameHere_34 : decode cX9_nameHere 34 = .ok (.lreturn, 1) := dk_173 (dk_at dksX9_nameHere_1 10 rfl rfl)
abbrev cX9_aBridge : ByteArray := prog_21_method_40_code
def yX9_aBridge : MethodName := ⟨RX9, "aBridge", "()Z"⟩
def dkwX9_aBridge_14 : List UInt8 := [172, 132, 3, 1, 167, 255, 156, 42, 180, 0, 7, 17, 6, 185, 92, 46, 4, 96, 79, 4, 172]
abbrev dktX9_aBridge_14 : List UInt8 := dkwX9_aBridge_14 ++ []
def dkwX9_aBridge_13 : List UInt8 := [16, 15, 167, 0, 5, 16, 99, 54, 5, 42, 27, 29, 96, 21, 4, 21, 5, 182, 0, 227, 154, 0, 5, 3]
abbrev dktX9_aBridge_13 : List UInt8 := dkwX9_aBridge_13 ++ dktX9_aBridge_14
def dkwX9_aBridge_12 : List UInt8 := [160, 0, 7, 6, 167, 0, 27, 29, 8, 160, 0, 9, 17, 39, 15, 167, 0, 16, 29, 16, 8, 160, 0, 8]
abbrev dktX9_aBridge_12 : List UInt8 := dkwX9_aBridge_12 ++ dktX9_aBridge_13
def dkwX9_aBridge_11 : List UInt8 := [182, 0, 180, 29, 7, 159, 0, 9, 29, 16, 7, 160, 0, 7, 4, 167, 0, 4, 3, 54, 4, 29, 7]
abbrev dktX9_aBridge_11 : List UInt8 := dkwX9_aBridge_11 ++ dktX9_aBridge_12
def dkwX9_aBridge_10 : List UInt8 := [163, 0, 100, 42, 18, 200, 182, 0, 189, 16, 9, 29, 96, 7, 100, 159, 0, 6, 167, 0, 76, 42]
abbrev dktX9_aBridge_10 : List UInt8 := dkwX9_aBridge_10 ++ dktX9_aBridge_11
def dkwX9_aBridge_9 : List UInt8 := [153, 0, 17, 42, 27, 6, 96, 3, 17, 3, 231, 182, 0, 227, 154, 0, 5, 3, 172, 7, 62, 29, 16, 8]
abbrev dktX9_aBridge_9 : List UInt8 := dkwX9_aBridge_9 ++ dktX9_aBridge_10
def dkwX9_aBridge_8 : List UInt8 := [182, 0, 220, 153, 0, 38, 42, 27, 5, 96, 182, 0, 224, 153, 0, 28, 42, 18, 200, 16, 8, 182, 0, 220]
abbrev dktX9_aBridge_8 : List UInt8 := dkwX9_aBridge_8 ++ dktX9_aBridge_9
def dkwX9_aBridge_7 : List UInt8 := [160, 0, 9, 42, 8, 182, 0, 186, 172, 42, 27, 4, 96, 182, 0, 224, 153, 0, 49, 42, 18, 200, 16, 7]
abbrev dktX9_aBridge_7 : List UInt8 := dkwX9_aBridge_7 ++ dktX9_aBridge_8
def dkwX9_aBridge_6 : List UInt8 := [182, 0, 197, 61, 28, 2, 160, 0, 9, 42, 6, 182, 0, 186, 172, 28, 42, 180, 0, 7, 27, 46]
abbrev dktX9_aBridge_6 : List UInt8 := dkwX9_aBridge_6 ++ dktX9_aBridge_7
def dkwX9_aBridge_5 : List UInt8 := [182, 0, 202, 154, 0, 9, 42, 5, 182, 0, 186, 172, 42, 16, 80, 42, 180, 0, 7, 17, 6, 184, 46]
abbrev dktX9_aBridge_5 : List UInt8 := dkwX9_aBridge_5 ++ dktX9_aBridge_6
def dkwX9_aBridge_4 : List UInt8 := [182, 0, 224, 153, 0, 14, 42, 18, 200, 16, 6, 182, 0, 220, 154, 0, 5, 3, 172, 42, 18, 200]
abbrev dktX9_aBridge_4 : List UInt8 := dkwX9_aBridge_4 ++ dktX9_aBridge_5
def dkwX9_aBridge_3 : List UInt8 := [167, 0, 4, 3, 79, 132, 2, 1, 167, 255, 212, 42, 18, 200, 8, 182, 0, 220, 153, 0, 22, 42, 27]
abbrev dktX9_aBridge_3 : List UInt8 := dkwX9_aBridge_3 ++ dktX9_aBridge_4
def dkwX9_aBridge_2 : List UInt8 := [8, 160, 0, 9, 17, 39, 15, 167, 0, 19, 28, 7, 159, 0, 9, 28, 16, 7, 160, 0, 7, 4]
abbrev dktX9_aBridge_2 : List UInt8 := dkwX9_aBridge_2 ++ dktX9_aBridge_3
def dkwX9_aBridge_1 : List UInt8 := [182, 0, 217, 154, 0, 5, 3, 172, 3, 61, 28, 16, 9, 162, 0, 44, 42, 180, 0, 7, 27, 28, 96, 28]
abbrev dktX9_aBridge_1 : List UInt8 := dkwX9_aBridge_1 ++ dktX9_aBridge_2
def dkwX9_aBridge_0 : List UInt8 := [17, 6, 198, 16, 9, 42, 180, 0, 7, 17, 6, 185, 46, 104, 96, 60, 42, 4, 16, 8, 16, 6]
abbrev dktX9_aBridge_0 : List UInt8 := dkwX9_aBridge_0 ++ dktX9_aBridge_1
theorem dksX9_aBridge_0 : cX9_aBridge.data.toList.drop 0 = dktX9_aBridge_0 := by decide +kernel
theorem dksX9_aBridge_1 : cX9_aBridge.data.toList.drop 22 = dktX9_aBridge_1 := dk_seg dksX9_aBridge_0 22 rfl rfl
theorem dksX9_aBridge_2 : cX9_aBridge.data.toList.drop 46 = dktX9_aBridge_2 := dk_seg dksX9_aBridge_1 24 rfl rfl
theorem dksX9_aBridge_3 : cX9_aBridge.data.toList.drop 68 = dktX9_aBridge_3 := dk_seg dksX9_aBridge_2 22 rfl rfl
theorem dksX9_aBridge_4 : cX9_aBridge.data.toList.drop 91 = dktX9_aBridge_4 := dk_seg dksX9_aBridge_3 23 rfl rfl
theorem dksX9_aBridge_5 : cX9_aBridge.data.toList.drop 113 = dktX9_aBridge_5 := dk_seg dksX9_aBridge_4 22 rfl rfl
theorem dksX9_aBridge_6 : cX9_aBridge.data.toList.drop 136 = dktX9_aBridge_6 := dk_seg dksX9_aBridge_5 23 rfl rfl
theorem dksX9_aBridge_7 : cX9_aBridge.data.toList.drop 158 = dktX9_aBridge_7 := dk_seg dksX9_aBridge_6 22 rfl rfl
theorem dksX9_aBridge_8 : cX9_aBridge.data.toList.drop 182 = dktX9_aBridge_8 := dk_seg dksX9_aBridge_7 24 rfl rfl
theorem dksX9_aBridge_9 : cX9_aBridge.data.toList.drop 206 = dktX9_aBridge_9 := dk_seg dksX9_aBridge_8 24 rfl rfl
theorem dksX9_aBridge_10 : cX9_aBridge.data.toList.drop 230 = dktX9_aBridge_10 := dk_seg dksX9_aBridge_9 24 rfl rfl
theorem dksX9_aBridge_11 : cX9_aBridge.data.toList.drop 252 = dktX9_aBridge_11 := dk_seg dksX9_aBridge_10 22 rfl rfl
theorem dksX9_aBridge_12 : cX9_aBridge.data.toList.drop 275 = dktX9_aBridge_12 := dk_seg dksX9_aBridge_11 23 rfl rfl
theorem dksX9_aBridge_13 : cX9_aBridge.data.toList.drop 299 = dktX9_aBridge_13 := dk_seg dksX9_aBridge_12 24 rfl rfl
theorem dksX9_aBridge_14 : cX9_aBridge.data.toList.drop 323 = dktX9_aBridge_14 := dk_seg dksX9_aBridge_13 24 rfl rfl
theorem dX9_aBridge_0 : decode cX9_aBridge 0 = .ok (.sipush 1734, 3) := dk_17 6 198 (dk_at dksX9_aBridge_0 0 rfl rfl)
theorem dX9_aBridge_3 : decode cX9_aBridge 3 = .ok (.bipush 9, 2) := dk_16 9 (dk_at dksX9_aBridge_0 3 rfl rfl)
theorem dX9_aBridge_5 : decode cX9_aBridge 5 = .ok (.aload_n 0, 1) := dk_42 (dk_at dksX9_aBridge_0 5 rfl rfl)
theorem dX9_aBridge_6 : decode cX9_aBridge 6 = .ok (.getfield 7, 3) := dk_180 0 7 (dk_at dksX9_aBridge_0 6 rfl rfl)
theorem dX9_aBridge_9 : decode cX9_aBridge 9 = .ok (.sipush 1721, 3) := dk_17 6 185 (dk_at dksX9_aBridge_0 9 rfl rfl)
theorem dX9_aBridge_12 : decode cX9_aBridge 12 = .ok (.iaload, 1) := dk_46 (dk_at dksX9_aBridge_0 12 rfl rfl)
theorem dX9_aBridge_13 : decode cX9_aBridge 13 = .ok (.imul, 1) := dk_104 (dk_at dksX9_aBridge_0 13 rfl rfl)
theorem dX9_aBridge_14 : decode cX9_aBridge 14 = .ok (.iadd, 1) := dk_96 (dk_at dksX9_aBridge_0 14 rfl rfl)
theorem dX9_aBridge_15 : decode cX9_aBridge 15 = .ok (.istore_n 1, 1) := dk_60 (dk_at dksX9_aBridge_0 15 rfl rfl)
theorem dX9_aBridge_16 : decode cX9_aBridge 16 = .ok (.aload_n 0, 1) := dk_42 (dk_at dksX9_aBridge_0 16 rfl rfl)
theorem dX9_aBridge_17 : decode cX9_aBridge 17 = .ok (.iconst 1, 1) := dk_4 (dk_at dksX9_aBridge_0 17 rfl rfl)
theorem dX9_aBridge_18 : decode cX9_aBridge 18 = .ok (.bipush 8, 2) := dk_16 8 (dk_at dksX9_aBridge_0 18 rfl rfl)
theorem dX9_aBridge_20 : decode cX9_aBridge 20 = .ok (.bipush 6, 2) := dk_16 6 (dk_at dksX9_aBridge_0 20 rfl rfl)
theorem dX9_aBridge_22 : decode cX9_aBridge 22 = .ok (.invokevirtual 217, 3) := dk_182 0 217 (dk_at dksX9_aBridge_1 0 rfl rfl)
theorem dX9_aBridge_25 : decode cX9_aBridge 25 = .ok (.ifCond .ne 5, 3) := dk_154 0 5 (dk_at dksX9_aBridge_1 3 rfl rfl)
theorem dX9_aBridge_28 : decode cX9_aBridge 28 = .ok (.iconst 0, 1) := dk_3 (dk_at dksX9_aBridge_1 6 rfl rfl)
theorem dX9_aBridge_29 : decode cX9_aBridge 29 = .ok (.ireturn, 1) := dk_172 (dk_at dksX9_aBridge_1 7 rfl rfl)
theorem dX9_aBridge_30 : decode cX9_aBridge 30 = .ok (.iconst 0, 1) := dk_3 (dk_at dksX9_aBridge_1 8 rfl rfl)
theorem dX9_aBridge_31 : decode cX9_aBridge 31 = .ok (.istore_n 2, 1) := dk_61 (dk_at dksX9_aBridge_1 9 rfl rfl)
theorem dX9_aBridge_32 : decode cX9_aBridge 32 = .ok (.iload_n 2, 1) := dk_28 (dk_at dksX9_aBridge_1 10 rfl rfl)
theorem dX9_aBridge_33 : decode cX9_aBridge 33 = .ok (.bipush 9, 2) := dk_16 9 (dk_at dksX9_aBridge_1 11 rfl rfl)
theorem dX9_aBridge_35 : decode cX9_aBridge 35 = .ok (.if_icmp .ge 44, 3) := dk_162 0 44 (dk_at dksX9_aBridge_1 13 rfl rfl)
theorem dX9_aBridge_38 : decode cX9_aBridge 38 = .ok (.aload_n 0, 1) := dk_42 (dk_at dksX9_aBridge_1 16 rfl rfl)
theorem dX9_aBridge_39 : decode cX9_aBridge 39 = .ok (.getfield 7, 3) := dk_180 0 7 (dk_at dksX9_aBridge_1 17 rfl rfl)
theorem dX9_aBridge_42 : decode cX9_aBridge 42 = .ok (.iload_n 1, 1) := dk_27 (dk_at dksX9_aBridge_1 20 rfl rfl)
theorem dX9_aBridge_43 : decode cX9_aBridge 43 = .ok (.iload_n 2, 1) := dk_28 (dk_at dksX9_aBridge_1 21 rfl rfl)
theorem dX9_aBridge_44 : decode cX9_aBridge 44 = .ok (.iadd, 1) := dk_96 (dk_at dksX9_aBridge_1 22 rfl rfl)
theorem dX9_aBridge_45 : decode cX9_aBridge 45 = .ok (.iload_n 2, 1) := dk_28 (dk_at dksX9_aBridge_1 23 rfl rfl)
theorem dX9_aBridge_46 : decode cX9_aBridge 46 = .ok (.iconst 5, 1) := dk_8 (dk_at dksX9_aBridge_2 0 rfl rfl)
theorem dX9_aBridge_47 : decode cX9_aBridge 47 = .ok (.if_icmp .ne 9, 3) := dk_160 0 9 (dk_at dksX9_aBridge_2 1 rfl rfl)
theorem dX9_aBridge_50 : decode cX9_aBridge 50 = .ok (.sipush 9999, 3) := dk_17 39 15 (dk_at dksX9_aBridge_2 4 rfl rfl)
theorem dX9_aBridge_53 : decode cX9_aBridge 53 = .ok (.goto 19, 3) := dk_167 0 19 (dk_at dksX9_aBridge_2 7 rfl rfl)
theorem dX9_aBridge_56 : decode cX9_aBridge 56 = .ok (.iload_n 2, 1) := dk_28 (dk_at dksX9_aBridge_2 10 rfl rfl)
theorem dX9_aBridge_57 : decode cX9_aBridge 57 = .ok (.iconst 4, 1) := dk_7 (dk_at dksX9_aBridge_2 11 rfl rfl)
theorem dX9_aBridge_58 : decode cX9_aBridge 58 = .ok (.if_icmp .eq 9, 3) := dk_159 0 9 (dk_at dksX9_aBridge_2 12 rfl rfl)
theorem dX9_aBridge_61 : decode cX9_aBridge 61 = .ok (.iload_n 2, 1) := dk_28 (dk_at dksX9_aBridge_2 15 rfl rfl)
theorem dX9_aBridge_62 : decode cX9_aBridge 62 = .ok (.bipush 7, 2) := dk_16 7 (dk_at dksX9_aBridge_2 16 rfl rfl)
theorem dX9_aBridge_64 : decode cX9_aBridge 64 = .ok (.if_icmp .ne 7, 3) := dk_160 0 7 (dk_at dksX9_aBridge_2 18 rfl rfl)
theorem dX9_aBridge_67 : decode cX9_aBridge 67 = .ok (.iconst 1, 1) := dk_4 (dk_at dksX9_aBridge_2 21 rfl rfl)
theorem dX9_aBridge_68 : decode cX9_aBridge 68 = .ok (.goto 4, 3) := dk_167 0 4 (dk_at dksX9_aBridge_3 0 rfl rfl)
theorem dX9_aBridge_71 : decode cX9_aBridge 71 = .ok (.iconst 0, 1) := dk_3 (dk_at dksX9_aBridge_3 3 rfl rfl)
theorem dX9_aBridge_72 : decode cX9_aBridge 72 = .ok (.iastore, 1) := dk_79 (dk_at dksX9_aBridge_3 4 rfl rfl)
theorem dX9_aBridge_73 : decode cX9_aBridge 73 = .ok (.iinc 2 1, 3) := dk_132 2 1 (dk_at dksX9_aBridge_3 5 rfl rfl)
theorem dX9_aBridge_76 : decode cX9_aBridge 76 = .ok (.goto (-44), 3) := dk_167 255 212 (dk_at dksX9_aBridge_3 8 rfl rfl)
theorem dX9_aBridge_79 : decode cX9_aBridge 79 = .ok (.aload_n 0, 1) := dk_42 (dk_at dksX9_aBridge_3 11 rfl rfl)
theorem dX9_aBridge_80 : decode cX9_aBridge 80 = .ok (.ldc 200, 2) := dk_18 200 (dk_at dksX9_aBridge_3 12 rfl rfl)
theorem dX9_aBridge_82 : decode cX9_aBridge 82 = .ok (.iconst 5, 1) := dk_8 (dk_at dksX9_aBridge_3 14 rfl rfl)
theorem dX9_aBridge_83 : decode cX9_aBridge 83 = .ok (.invokevirtual 220, 3) := dk_182 0 220 (dk_at dksX9_aBridge_3 15 rfl rfl)
theorem dX9_aBridge_86 : decode cX9_aBridge 86 = .ok (.ifCond .eq 22, 3) := dk_153 0 22 (dk_at dksX9_aBridge_3 18 rfl rfl)
theorem dX9_aBridge_89 : decode cX9_aBridge 89 = .ok (.aload_n 0, 1) := dk_42 (dk_at dksX9_aBridge_3 21 rfl rfl)
theorem dX9_aBridge_90 : decode cX9_aBridge 90 = .ok (.iload_n 1, 1) := dk_27 (dk_at dksX9_aBridge_3 22 rfl rfl)
theorem dX9_aBridge_91 : decode cX9_aBridge 91 = .ok (.invokevirtual 224, 3) := dk_182 0 224 (dk_at dksX9_aBridge_4 0 rfl rfl)
theorem dX9_aBridge_94 : decode cX9_aBridge 94 = .ok (.ifCond .eq 14, 3) := dk_153 0 14 (dk_at dksX9_aBridge_4 3 rfl rfl)
theorem dX9_aBridge_97 : decode cX9_aBridge 97 = .ok (.aload_n 0, 1) := dk_42 (dk_at dksX9_aBridge_4 6 rfl rfl)
theorem dX9_aBridge_98 : decode cX9_aBridge 98 = .ok (.ldc 200, 2) := dk_18 200 (dk_at dksX9_aBridge_4 7 rfl rfl)
theorem dX9_aBridge_100 : decode cX9_aBridge 100 = .ok (.bipush 6, 2) := dk_16 6 (dk_at dksX9_aBridge_4 9 rfl rfl)
theorem dX9_aBridge_102 : decode cX9_aBridge 102 = .ok (.invokevirtual 220, 3) := dk_182 0 220 (dk_at dksX9_aBridge_4 11 rfl rfl)
theorem dX9_aBridge_105 : decode cX9_aBridge 105 = .ok (.ifCond .ne 5, 3) := dk_154 0 5 (dk_at dksX9_aBridge_4 14 rfl rfl)
theorem dX9_aBridge_108 : decode cX9_aBridge 108 = .ok (.iconst 0, 1) := dk_3 (dk_at dksX9_aBridge_4 17 rfl rfl)
theorem dX9_aBridge_109 : decode cX9_aBridge 109 = .ok (.ireturn, 1) := dk_172 (dk_at dksX9_aBridge_4 18 rfl rfl)
theorem dX9_aBridge_110 : decode cX9_aBridge 110 = .ok (.aload_n 0, 1) := dk_42 (dk_at dksX9_aBridge_4 19 rfl rfl)
theorem dX9_aBridge_111 : decode cX9_aBridge 111 = .ok (.ldc 200, 2) := dk_18 200 (dk_at dksX9_aBridge_4 20 rfl rfl)
theorem dX9_aBridge_113 : decode cX9_aBridge 113 = .ok (.invokevirtual 202, 3) := dk_182 0 202 (dk_at dksX9_aBridge_5 0 rfl rfl)
theorem dX9_aBridge_116 : decode cX9_aBridge 116 = .ok (.ifCond .ne 9, 3) := dk_154 0 9 (dk_at dksX9_aBridge_5 3 rfl rfl)
theorem dX9_aBridge_119 : decode cX9_aBridge 119 = .ok (.aload_n 0, 1) := dk_42 (dk_at dksX9_aBridge_5 6 rfl rfl)
theorem dX9_aBridge_120 : decode cX9_aBridge 120 = .ok (.iconst 2, 1) := dk_5 (dk_at dksX9_aBridge_5 7 rfl rfl)
theorem dX9_aBridge_121 : decode cX9_aBridge 121 = .ok (.invokevirtual 186, 3) := dk_182 0 186 (dk_at dksX9_aBridge_5 8 rfl rfl)
theorem dX9_aBridge_124 : decode cX9_aBridge 124 = .ok (.ireturn, 1) := dk_172 (dk_at dksX9_aBridge_5 11 rfl rfl)
theorem dX9_aBridge_125 : decode cX9_aBridge 125 = .ok (.aload_n 0, 1) := dk_42 (dk_at dksX9_aBridge_5 12 rfl rfl)
theorem dX9_aBridge_126 : decode cX9_aBridge 126 = .ok (.bipush 80, 2) := dk_16 80 (dk_at dksX9_aBridge_5 13 rfl rfl)
theorem dX9_aBridge_128 : decode cX9_aBridge 128 = .ok (.aload_n 0, 1) := dk_42 (dk_at dksX9_aBridge_5 15 rfl rfl)
theorem dX9_aBridge_129 : decode cX9_aBridge 129 = .ok (.getfield 7, 3) := dk_180 0 7 (dk_at dksX9_aBridge_5 16 rfl rfl)
theorem dX9_aBridge_132 : decode cX9_aBridge 132 = .ok (.sipush 1720, 3) := dk_17 6 184 (dk_at dksX9_aBridge_5 19 rfl rfl)
theorem dX9_aBridge_135 : decode cX9_aBridge 135 = .ok (.iaload, 1) := dk_46 (dk_at dksX9_aBridge_5 22 rfl rfl)
theorem dX9_aBridge_136 : decode cX9_aBridge 136 = .ok (.invokevirtual 197, 3) := dk_182 0 197 (dk_at dksX9_aBridge_6 0 rfl rfl)
theorem dX9_aBridge_139 : decode cX9_aBridge 139 = .ok (.istore_n 2, 1) := dk_61 (dk_at dksX9_aBridge_6 3 rfl rfl)
theorem dX9_aBridge_140 : decode cX9_aBridge 140 = .ok (.iload_n 2, 1) := dk_28 (dk_at dksX9_aBridge_6 4 rfl rfl)
theorem dX9_aBridge_141 : decode cX9_aBridge 141 = .ok (.iconst (-1), 1) := dk_2 (dk_at dksX9_aBridge_6 5 rfl rfl)
theorem dX9_aBridge_142 : decode cX9_aBridge 142 = .ok (.if_icmp .ne 9, 3) := dk_160 0 9 (dk_at dksX9_aBridge_6 6 rfl rfl)
theorem dX9_aBridge_145 : decode cX9_aBridge 145 = .ok (.aload_n 0, 1) := dk_42 (dk_at dksX9_aBridge_6 9 rfl rfl)
theorem dX9_aBridge_146 : decode cX9_aBridge 146 = .ok (.iconst 3, 1) := dk_6 (dk_at dksX9_aBridge_6 10 rfl rfl)
theorem dX9_aBridge_147 : decode cX9_aBridge 147 = .ok (.invokevirtual 186, 3) := dk_182 0 186 (dk_at dksX9_aBridge_6 11 rfl rfl)
theorem dX9_aBridge_150 : decode cX9_aBridge 150 = .ok (.ireturn, 1) := dk_172 (dk_at dksX9_aBridge_6 14 rfl rfl)
theorem dX9_aBridge_151 : decode cX9_aBridge 151 = .ok (.iload_n 2, 1) := dk_28 (dk_at dksX9_aBridge_6 15 rfl rfl)
theorem dX9_aBridge_152 : decode cX9_aBridge 152 = .ok (.aload_n 0, 1) := dk_42 (dk_at dksX9_aBridge_6 16 rfl rfl)
theorem dX9_aBridge_153 : decode cX9_aBridge 153 = .ok (.getfield 7, 3) := dk_180 0 7 (dk_at dksX9_aBridge_6 17 rfl rfl)
theorem dX9_aBridge_156 : decode cX9_aBridge 156 = .ok (.iload_n 1, 1) := dk_27 (dk_at dksX9_aBridge_6 20 rfl rfl)
theorem dX9_aBridge_157 : decode cX9_aBridge 157 = .ok (.iaload, 1) := dk_46 (dk_at dksX9_aBridge_6 21 rfl rfl)
theorem dX9_aBridge_158 : decode cX9_aBridge 158 = .ok (.if_icmp .ne 9, 3) := dk_160 0 9 (dk_at dksX9_aBridge_7 0 rfl rfl)
theorem dX9_aBridge_161 : decode cX9_aBridge 161 = .ok (.aload_n 0, 1) := dk_42 (dk_at dksX9_aBridge_7 3 rfl rfl)
theorem dX9_aBridge_162 : decode cX9_aBridge 162 = .ok (.iconst 5, 1) := dk_8 (dk_at dksX9_aBridge_7 4 rfl rfl)
theorem dX9_aBridge_163 : decode cX9_aBridge 163 = .ok (.invokevirtual 186, 3) := dk_182 0 186 (dk_at dksX9_aBridge_7 5 rfl rfl)
theorem dX9_aBridge_166 : decode cX9_aBridge 166 = .ok (.ireturn, 1) := dk_172 (dk_at dksX9_aBridge_7 8 rfl rfl)
theorem dX9_aBridge_167 : decode cX9_aBridge 167 = .ok (.aload_n 0, 1) := dk_42 (dk_at dksX9_aBridge_7 9 rfl rfl)
theorem dX9_aBridge_168 : decode cX9_aBridge 168 = .ok (.iload_n 1, 1) := dk_27 (dk_at dksX9_aBridge_7 10 rfl rfl)
theorem dX9_aBridge_169 : decode cX9_aBridge 169 = .ok (.iconst 1, 1) := dk_4 (dk_at dksX9_aBridge_7 11 rfl rfl)
theorem dX9_aBridge_170 : decode cX9_aBridge 170 = .ok (.iadd, 1) := dk_96 (dk_at dksX9_aBridge_7 12 rfl rfl)
theorem dX9_aBridge_171 : decode cX9_aBridge 171 = .ok (.invokevirtual 224, 3) := dk_182 0 224 (dk_at dksX9_aBridge_7 13 rfl rfl)
theorem dX9_aBridge_174 : decode cX9_aBridge 174 = .ok (.ifCond .eq 49, 3) := dk_153 0 49 (dk_at dksX9_aBridge_7 16 rfl rfl)
theorem dX9_aBridge_177 : decode cX9_aBridge 177 = .ok (.aload_n 0, 1) := dk_42 (dk_at dksX9_aBridge_7 19 rfl rfl)
theorem dX9_aBridge_178 : decode cX9_aBridge 178 = .ok (.ldc 200, 2) := dk_18 200 (dk_at dksX9_aBridge_7 20 rfl rfl)
theorem dX9_aBridge_180 : decode cX9_aBridge 180 = .ok (.bipush 7, 2) := dk_16 7 (dk_at dksX9_aBridge_7 22 rfl rfl)
theorem dX9_aBridge_182 : decode cX9_aBridge 182 = .ok (.invokevirtual 220, 3) := dk_182 0 220 (dk_at dksX9_aBridge_8 0 rfl rfl)
theorem dX9_aBridge_185 : decode cX9_aBridge 185 = .ok (.ifCond .eq 38, 3) := dk_153 0 38 (dk_at dksX9_aBridge_8 3 rfl rfl)
theorem dX9_aBridge_188 : decode cX9_aBridge 188 = .ok (.aload_n 0, 1) := dk_42 (dk_at dksX9_aBridge_8 6 rfl rfl)
theorem dX9_aBridge_189 : decode cX9_aBridge 189 = .ok (.iload_n 1, 1) := dk_27 (dk_at dksX9_aBridge_8 7 rfl rfl)
theorem dX9_aBridge_190 : decode cX9_aBridge 190 = .ok (.iconst 2, 1) := dk_5 (dk_at dksX9_aBridge_8 8 rfl rfl)
theorem dX9_aBridge_191 : decode cX9_aBridge 191 = .ok (.iadd, 1) := dk_96 (dk_at dksX9_aBridge_8 9 rfl rfl)
theorem dX9_aBridge_192 : decode cX9_aBridge 192 = .ok (.invokevirtual 224, 3) := dk_182 0 224 (dk_at dksX9_aBridge_8 10 rfl rfl)
theorem dX9_aBridge_195 : decode cX9_aBridge 195 = .ok (.ifCond .eq 28, 3) := dk_153 0 28 (dk_at dksX9_aBridge_8 13 rfl rfl)
theorem dX9_aBridge_198 : decode cX9_aBridge 198 = .ok (.aload_n 0, 1) := dk_42 (dk_at dksX9_aBridge_8 16 rfl rfl)
theorem dX9_aBridge_199 : decode cX9_aBridge 199 = .ok (.ldc 200, 2) := dk_18 200 (dk_at dksX9_aBridge_8 17 rfl rfl)
theorem dX9_aBridge_201 : decode cX9_aBridge 201 = .ok (.bipush 8, 2) := dk_16 8 (dk_at dksX9_aBridge_8 19 rfl rfl)
theorem dX9_aBridge_203 : decode cX9_aBridge 203 = .ok (.invokevirtual 220, 3) := dk_182 0 220 (dk_at dksX9_aBridge_8 21 rfl rfl)
theorem dX9_aBridge_206 : decode cX9_aBridge 206 = .ok (.ifCond .eq 17, 3) := dk_153 0 17 (dk_at dksX9_aBridge_9 0 rfl rfl)
theorem dX9_aBridge_209 : decode cX9_aBridge 209 = .ok (.aload_n 0, 1) := dk_42 (dk_at dksX9_aBridge_9 3 rfl rfl)
theorem dX9_aBridge_210 : decode cX9_aBridge 210 = .ok (.iload_n 1, 1) := dk_27 (dk_at dksX9_aBridge_9 4 rfl rfl)
theorem dX9_aBridge_211 : decode cX9_aBridge 211 = .ok (.iconst 3, 1) := dk_6 (dk_at dksX9_aBridge_9 5 rfl rfl)
theorem dX9_aBridge_212 : decode cX9_aBridge 212 = .ok (.iadd, 1) := dk_96 (dk_at dksX9_aBridge_9 6 rfl rfl)
theorem dX9_aBridge_213 : decode cX9_aBridge 213 = .ok (.iconst 0, 1) := dk_3 (dk_at dksX9_aBridge_9 7 rfl rfl)
theorem dX9_aBridge_214 : decode cX9_aBridge 214 = .ok (.sipush 999, 3) := dk_17 3 231 (dk_at dksX9_aBridge_9 8 rfl rfl)
theorem dX9_aBridge_217 : decode cX9_aBridge 217 = .ok (.invokevirtual 227, 3) := dk_182 0 227 (dk_at dksX9_aBridge_9 11 rfl rfl)
theorem dX9_aBridge_220 : decode cX9_aBridge 220 = .ok (.ifCond .ne 5, 3) := dk_154 0 5 (dk_at dksX9_aBridge_9 14 rfl rfl)
theorem dX9_aBridge_223 : decode cX9_aBridge 223 = .ok (.iconst 0, 1) := dk_3 (dk_at dksX9_aBridge_9 17 rfl rfl)
theorem dX9_aBridge_224 : decode cX9_aBridge 224 = .ok (.ireturn, 1) := dk_172 (dk_at dksX9_aBridge_9 18 rfl rfl)
theorem dX9_aBridge_225 : decode cX9_aBridge 225 = .ok (.iconst 4, 1) := dk_7 (dk_at dksX9_aBridge_9 19 rfl rfl)
theorem dX9_aBridge_226 : decode cX9_aBridge 226 = .ok (.istore_n 3, 1) := dk_62 (dk_at dksX9_aBridge_9 20 rfl rfl)
theorem dX9_aBridge_227 : decode cX9_aBridge 227 = .ok (.iload_n 3, 1) := dk_29 (dk_at dksX9_aBridge_9 21 rfl rfl)
theorem dX9_aBridge_228 : decode cX9_aBridge 228 = .ok (.bipush 8, 2) := dk_16 8 (dk_at dksX9_aBridge_9 22 rfl rfl)
theorem dX9_aBridge_230 : decode cX9_aBridge 230 = .ok (.if_icmp .gt 100, 3) := dk_163 0 100 (dk_at dksX9_aBridge_10 0 rfl rfl)
theorem dX9_aBridge_233 : decode cX9_aBridge 233 = .ok (.aload_n 0, 1) := dk_42 (dk_at dksX9_aBridge_10 3 rfl rfl)
theorem dX9_aBridge_234 : decode cX9_aBridge 234 = .ok (.ldc 200, 2) := dk_18 200 (dk_at dksX9_aBridge_10 4 rfl rfl)
theorem dX9_aBridge_236 : decode cX9_aBridge 236 = .ok (.invokevirtual 189, 3) := dk_182 0 189 (dk_at dksX9_aBridge_10 6 rfl rfl)
theorem dX9_aBridge_239 : decode cX9_aBridge 239 = .ok (.bipush 9, 2) := dk_16 9 (dk_at dksX9_aBridge_10 9 rfl rfl)
theorem dX9_aBridge_241 : decode cX9_aBridge 241 = .ok (.iload_n 3, 1) := dk_29 (dk_at dksX9_aBridge_10 11 rfl rfl)
theorem dX9_aBridge_242 : decode cX9_aBridge 242 = .ok (.iadd, 1) := dk_96 (dk_at dksX9_aBridge_10 12 rfl rfl)
theorem dX9_aBridge_243 : decode cX9_aBridge 243 = .ok (.iconst 4, 1) := dk_7 (dk_at dksX9_aBridge_10 13 rfl rfl)
theorem dX9_aBridge_244 : decode cX9_aBridge 244 = .ok (.isub, 1) := dk_100 (dk_at dksX9_aBridge_10 14 rfl rfl)
theorem dX9_aBridge_245 : decode cX9_aBridge 245 = .ok (.if_icmp .eq 6, 3) := dk_159 0 6 (dk_at dksX9_aBridge_10 15 rfl rfl)
theorem dX9_aBridge_248 : decode cX9_aBridge 248 = .ok (.goto 76, 3) := dk_167 0 76 (dk_at dksX9_aBridge_10 18 rfl rfl)
theorem dX9_aBridge_251 : decode cX9_aBridge 251 = .ok (.aload_n 0, 1) := dk_42 (dk_at dksX9_aBridge_10 21 rfl rfl)
theorem dX9_aBridge_252 : decode cX9_aBridge 252 = .ok (.invokevirtual 180, 3) := dk_182 0 180 (dk_at dksX9_aBridge_11 0 rfl rfl)
theorem dX9_aBridge_255 : decode cX9_aBridge 255 = .ok (.iload_n 3, 1) := dk_29 (dk_at dksX9_aBridge_11 3 rfl rfl)
theorem dX9_aBridge_256 : decode cX9_aBridge 256 = .ok (.iconst 4, 1) := dk_7 (dk_at dksX9_aBridge_11 4 rfl rfl)
theorem dX9_aBridge_257 : decode cX9_aBridge 257 = .ok (.if_icmp .eq 9, 3) := dk_159 0 9 (dk_at dksX9_aBridge_11 5 rfl rfl)
theorem dX9_aBridge_260 : decode cX9_aBridge 260 = .ok (.iload_n 3, 1) := dk_29 (dk_at dksX9_aBridge_11 8 rfl rfl)
theorem dX9_aBridge_261 : decode cX9_aBridge 261 = .ok (.bipush 7, 2) := dk_16 7 (dk_at dksX9_aBridge_11 9 rfl rfl)
theorem dX9_aBridge_263 : decode cX9_aBridge 263 = .ok (.if_icmp .ne 7, 3) := dk_160 0 7 (dk_at dksX9_aBridge_11 11 rfl rfl)
theorem dX9_aBridge_266 : decode cX9_aBridge 266 = .ok (.iconst 1, 1) := dk_4 (dk_at dksX9_aBridge_11 14 rfl rfl)
theorem dX9_aBridge_267 : decode cX9_aBridge 267 = .ok (.goto 4, 3) := dk_167 0 4 (dk_at dksX9_aBridge_11 15 rfl rfl)
theorem dX9_aBridge_270 : decode cX9_aBridge 270 = .ok (.iconst 0, 1) := dk_3 (dk_at dksX9_aBridge_11 18 rfl rfl)
theorem dX9_aBridge_271 : decode cX9_aBridge 271 = .ok (.istore 4, 2) := dk_54 4 (dk_at dksX9_aBridge_11 19 rfl rfl)
theorem dX9_aBridge_273 : decode cX9_aBridge 273 = .ok (.iload_n 3, 1) := dk_29 (dk_at dksX9_aBridge_11 21 rfl rfl)
theorem dX9_aBridge_274 : decode cX9_aBridge 274 = .ok (.iconst 4, 1) := dk_7 (dk_at dksX9_aBridge_11 22 rfl rfl)
theorem dX9_aBridge_275 : decode cX9_aBridge 275 = .ok (.if_icmp .ne 7, 3) := dk_160 0 7 (dk_at dksX9_aBridge_12 0 rfl rfl)
theorem dX9_aBridge_278 : decode cX9_aBridge 278 = .ok (.iconst 3, 1) := dk_6 (dk_at dksX9_aBridge_12 3 rfl rfl)
theorem dX9_aBridge_279 : decode cX9_aBridge 279 = .ok (.goto 27, 3) := dk_167 0 27 (dk_at dksX9_aBridge_12 4 rfl rfl)
theorem dX9_aBridge_282 : decode cX9_aBridge 282 = .ok (.iload_n 3, 1) := dk_29 (dk_at dksX9_aBridge_12 7 rfl rfl)
theorem dX9_aBridge_283 : decode cX9_aBridge 283 = .ok (.iconst 5, 1) := dk_8 (dk_at dksX9_aBridge_12 8 rfl rfl)
theorem dX9_aBridge_284 : decode cX9_aBridge 284 = .ok (.if_icmp .ne 9, 3) := dk_160 0 9 (dk_at dksX9_aBridge_12 9 rfl rfl)
theorem dX9_aBridge_287 : decode cX9_aBridge 287 = .ok (.sipush 9999, 3) := dk_17 39 15 (dk_at dksX9_aBridge_12 12 rfl rfl)
theorem dX9_aBridge_290 : decode cX9_aBridge 290 = .ok (.goto 16, 3) := dk_167 0 16 (dk_at dksX9_aBridge_12 15 rfl rfl)
theorem dX9_aBridge_293 : decode cX9_aBridge 293 = .ok (.iload_n 3, 1) := dk_29 (dk_at dksX9_aBridge_12 18 rfl rfl)
theorem dX9_aBridge_294 : decode cX9_aBridge 294 = .ok (.bipush 8, 2) := dk_16 8 (dk_at dksX9_aBridge_12 19 rfl rfl)
theorem dX9_aBridge_296 : decode cX9_aBridge 296 = .ok (.if_icmp .ne 8, 3) := dk_160 0 8 (dk_at dksX9_aBridge_12 21 rfl rfl)
theorem dX9_aBridge_299 : decode cX9_aBridge 299 = .ok (.bipush 15, 2) := dk_16 15 (dk_at dksX9_aBridge_13 0 rfl rfl)
theorem dX9_aBridge_301 : decode cX9_aBridge 301 = .ok (.goto 5, 3) := dk_167 0 5 (dk_at dksX9_aBridge_13 2 rfl rfl)
theorem dX9_aBridge_304 : decode cX9_aBridge 304 = .ok (.bipush 99, 2) := dk_16 99 (dk_at dksX9_aBridge_13 5 rfl rfl)
theorem dX9_aBridge_306 : decode cX9_aBridge 306 = .ok (.istore 5, 2) := dk_54 5 (dk_at dksX9_aBridge_13 7 rfl rfl)
theorem dX9_aBridge_308 : decode cX9_aBridge 308 = .ok (.aload_n 0, 1) := dk_42 (dk_at dksX9_aBridge_13 9 rfl rfl)
theorem dX9_aBridge_309 : decode cX9_aBridge 309 = .ok (.iload_n 1, 1) := dk_27 (dk_at dksX9_aBridge_13 10 rfl rfl)
theorem dX9_aBridge_310 : decode cX9_aBridge 310 = .ok (.iload_n 3, 1) := dk_29 (dk_at dksX9_aBridge_13 11 rfl rfl)
theorem dX9_aBridge_311 : decode cX9_aBridge 311 = .ok (.iadd, 1) := dk_96 (dk_at dksX9_aBridge_13 12 rfl rfl)
theorem dX9_aBridge_312 : decode cX9_aBridge 312 = .ok (.iload 4, 2) := dk_21 4 (dk_at dksX9_aBridge_13 13 rfl rfl)
theorem dX9_aBridge_314 : decode cX9_aBridge 314 = .ok (.iload 5, 2) := dk_21 5 (dk_at dksX9_aBridge_13 15 rfl rfl)
theorem dX9_aBridge_316 : decode cX9_aBridge 316 = .ok (.invokevirtual 227, 3) := dk_182 0 227 (dk_at dksX9_aBridge_13 17 rfl rfl)
theorem dX9_aBridge_319 : decode cX9_aBridge 319 = .ok (.ifCond .ne 5, 3) := dk_154 0 5 (dk_at dksX9_aBridge_13 20 rfl rfl)
theorem dX9_aBridge_322 : decode cX9_aBridge 322 = .ok (.iconst 0, 1) := dk_3 (dk_at dksX9_aBridge_13 23 rfl rfl)
theorem dX9_aBridge_323 : decode cX9_aBridge 323 = .ok (.ireturn, 1) := dk_172 (dk_at dksX9_aBridge_14 0 rfl rfl)
theorem dX9_aBridge_324 : decode cX9_aBridge 324 = .ok (.iinc 3 1, 3) := dk_132 3 1 (dk_at dksX9_aBridge_14 1 rfl rfl)
theorem dX9_aBridge_327 : decode cX9_aBridge 327 = .ok (.goto (-100), 3) := dk_167 255 156 (dk_at dksX9_aBridge_14 4 rfl rfl)
theorem dX9_aBridge_330 : decode cX9_aBridge 330 = .ok (.aload_n 0, 1) := dk_42 (dk_at dksX9_aBridge_14 7 rfl rfl)
theorem dX9_aBridge_331 : decode cX9_aBridge 331 = .ok (.getfield 7, 3) := dk_180 0 7 (dk_at dksX9_aBridge_14 8 rfl rfl)
theorem dX9_aBridge_334 : decode cX9_aBridge 334 = .ok (.sipush 1721, 3) := dk_17 6 185 (dk_at dksX9_aBridge_14 11 rfl rfl)
theorem dX9_aBridge_337 : decode cX9_aBridge 337 = .ok (.dup2, 1) := dk_92 (dk_at dksX9_aBridge_14 14 rfl rfl)
theorem dX9_aBridge_338 : decode cX9_aBridge 338 = .ok (.iaload, 1) := dk_46 (dk_at dksX9_aBridge_14 15 rfl rfl)
theorem dX9_aBridge_339 : decode cX9_aBridge 339 = .ok (.iconst 1, 1) := dk_4 (dk_at dksX9_aBridge_14 16 rfl rfl)
theorem dX9_aBridge_340 : decode cX9_aBridge 340 = .ok (.iadd, 1) := dk_96 (dk_at dksX9_aBridge_14 17 rfl rfl)
theorem dX9_aBridge_341 : decode cX9_aBridge 341 = .ok (.iastore, 1) := dk_79 (dk_at dksX9_aBridge_14 18 rfl rfl)
theorem dX9_aBridge_342 : decode cX9_aBridge 342 = .ok (.iconst 1, 1) := dk_4 (dk_at dksX9_aBridge_14 19 rfl rfl)
theorem dX9_aBridge_343 : decode cX9_aBridge 343 = .ok (.ireturn, 1) := dk_172 (dk_at dksX9_aBridge_14 20 rfl rfl)
abbrev cX9_wantWord : ByteArray := prog_21_method_29_code
def yX9_wantWord : MethodName := ⟨RX9, "wantWord", "(Ljava/lang/String;I)Z"⟩
def dkwX9_wantWord_0 : List UInt8 := [42, 43, 182, 0, 189, 28, 159, 0, 9, 42, 5, 182, 0, 186, 172, 42, 182, 0, 180, 4, 172]
abbrev dktX9_wantWord_0 : List UInt8 := dkwX9_wantWord_0 ++ []
theorem dksX9_wantWord_0 : cX9_wantWord.data.toList.drop 0 = dktX9_wantWord_0 := by decide +kernel
theorem dX9_wantWord_0 : decode cX9_wantWord 0 = .ok (.aload_n 0, 1) := dk_42 (dk_at dksX9_wantWord_0 0 rfl rfl)
theorem dX9_wantWord_1 : decode cX9_wantWord 1 = .ok (.aload_n 1, 1) := dk_43 (dk_at dksX9_wantWord_0 1 rfl rfl)
theorem dX9_wantWord_2 : decode cX9_wantWord 2 = .ok (.invokevirtual 189, 3) := dk_182 0 189 (dk_at dksX9_wantWord_0 2 rfl rfl)
theorem dX9_wantWord_5 : decode cX9_wantWord 5 = .ok (.iload_n 2, 1) := dk_28 (dk_at dksX9_wantWord_0 5 rfl rfl)
theorem dX9_wantWord_6 : decode cX9_wantWord 6 = .ok (.if_icmp .eq 9, 3) := dk_159 0 9 (dk_at dksX9_wantWord_0 6 rfl rfl)
theorem dX9_wantWord_9 : decode cX9_wantWord 9 = .ok (.aload_n 0, 1) := dk_42 (dk_at dksX9_wantWord_0 9 rfl rfl)
theorem dX9_wantWord_10 : decode cX9_wantWord 10 = .ok (.iconst 2, 1) := dk_5 (dk_at dksX9_wantWord_0 10 rfl rfl)
theorem dX9_wantWord_11 : decode cX9_wantWord 11 = .ok (.invokevirtual 186, 3) := dk_182 0 186 (dk_at dksX9_wantWord_0 11 rfl rfl)
theorem dX9_wantWord_14 : decode cX9_wantWord 14 = .ok (.ireturn, 1) := dk_172 (dk_at dksX9_wantWord_0 14 rfl rfl)
theorem dX9_wantWord_15 : decode cX9_wantWord 15 = .ok (.aload_n 0, 1) := dk_42 (dk_at dksX9_wantWord_0 15 rfl rfl)
theorem dX9_wantWord_16 : decode cX9_wantWord 16 = .ok (.invokevirtual 180, 3) := dk_182 0 180 (dk_at dksX9_wantWord_0 16 rfl rfl)
theorem dX9_wantWord_19 : decode cX9_wantWord 19 = .ok (.iconst 1, 1) := dk_4 (dk_at dksX9_wantWord_0 19 rfl rfl)
theorem dX9_wantWord_20 : decode cX9_wantWord 20 = .ok (.ireturn, 1) := dk_172 (dk_at dksX9_wantWord_0 20 rfl rfl)
abbrev cX9_aPlaceTo : ByteArray := prog_21_method_39_code
def yX9_aPlaceTo : MethodName := ⟨RX9, "aPlaceTo", "(I)Z"⟩
def dkwX9_aPlaceTo_1 : List UInt8 := [27, 42, 180, 0, 210, 79, 4, 172]
abbrev dktX9_aPlaceTo_1 : List UInt8 := dkwX9_aPlaceTo_1 ++ []
def dkwX9_aPlaceTo_0 : List UInt8 := [42, 16, 80, 42, 180, 0, 7, 17, 6, 184, 46, 3, 182, 0, 213, 154, 0, 5, 3, 172, 42, 180, 0, 7]
abbrev dktX9_aPlaceTo_0 : List UInt8 := dkwX9_aPlaceTo_0 ++ dktX9_aPlaceTo_1
theorem dksX9_aPlaceTo_0 : cX9_aPlaceTo.data.toList.drop 0 = dktX9_aPlaceTo_0 := by decide +kernel
theorem dksX9_aPlaceTo_1 : cX9_aPlaceTo.data.toList.drop 24 = dktX9_aPlaceTo_1 := dk_seg dksX9_aPlaceTo_0 24 rfl rfl
theorem dX9_aPlaceTo_0 : decode cX9_aPlaceTo 0 = .ok (.aload_n 0, 1) := dk_42 (dk_at dksX9_aPlaceTo_0 0 rfl rfl)
theorem dX9_aPlaceTo_1 : decode cX9_aPlaceTo 1 = .ok (.bipush 80, 2) := dk_16 80 (dk_at dksX9_aPlaceTo_0 1 rfl rfl)
theorem dX9_aPlaceTo_3 : decode cX9_aPlaceTo 3 = .ok (.aload_n 0, 1) := dk_42 (dk_at dksX9_aPlaceTo_0 3 rfl rfl)
theorem dX9_aPlaceTo_4 : decode cX9_aPlaceTo 4 = .ok (.getfield 7, 3) := dk_180 0 7 (dk_at dksX9_aPlaceTo_0 4 rfl rfl)
theorem dX9_aPlaceTo_7 : decode cX9_aPlaceTo 7 = .ok (.sipush 1720, 3) := dk_17 6 184 (dk_at dksX9_aPlaceTo_0 7 rfl rfl)
theorem dX9_aPlaceTo_10 : decode cX9_aPlaceTo 10 = .ok (.iaload, 1) := dk_46 (dk_at dksX9_aPlaceTo_0 10 rfl rfl)
theorem dX9_aPlaceTo_11 : decode cX9_aPlaceTo 11 = .ok (.iconst 0, 1) := dk_3 (dk_at dksX9_aPlaceTo_0 11 rfl rfl)
theorem dX9_aPlaceTo_12 : decode cX9_aPlaceTo 12 = .ok (.invokevirtual 213, 3) := dk_182 0 213 (dk_at dksX9_aPlaceTo_0 12 rfl rfl)
theorem dX9_aPlaceTo_15 : decode cX9_aPlaceTo 15 = .ok (.ifCond .ne 5, 3) := dk_154 0 5 (dk_at dksX9_aPlaceTo_0 15 rfl rfl)
theorem dX9_aPlaceTo_18 : decode cX9_aPlaceTo 18 = .ok (.iconst 0, 1) := dk_3 (dk_at dksX9_aPlaceTo_0 18 rfl rfl)
theorem dX9_aPlaceTo_19 : decode cX9_aPlaceTo 19 = .ok (.ireturn, 1) := dk_172 (dk_at dksX9_aPlaceTo_0 19 rfl rfl)
theorem dX9_aPlaceTo_20 : decode cX9_aPlaceTo 20 = .ok (.aload_n 0, 1) := dk_42 (dk_at dksX9_aPlaceTo_0 20 rfl rfl)
theorem dX9_aPlaceTo_21 : decode cX9_aPlaceTo 21 = .ok (.getfield 7, 3) := dk_180 0 7 (dk_at dksX9_aPlaceTo_0 21 rfl rfl)
theorem dX9_aPlaceTo_24 : decode cX9_aPlaceTo 24 = .ok (.iload_n 1, 1) := dk_27 (dk_at dksX9_aPlaceTo_1 0 rfl rfl)
theorem dX9_aPlaceTo_25 : decode cX9_aPlaceTo 25 = .ok (.aload_n 0, 1) := dk_42 (dk_at dksX9_aPlaceTo_1 1 rfl rfl)
theorem dX9_aPlaceTo_26 : decode cX9_aPlaceTo 26 = .ok (.getfield 210, 3) := dk_180 0 210 (dk_at dksX9_aPlaceTo_1 2 rfl rfl)
theorem dX9_aPlaceTo_29 : decode cX9_aPlaceTo 29 = .ok (.iastore, 1) := dk_79 (dk_at dksX9_aPlaceTo_1 5 rfl rfl)
theorem dX9_aPlaceTo_30 : decode cX9_aPlaceTo 30 = .ok (.iconst 1, 1) := dk_4 (dk_at dksX9_aPlaceTo_1 6 rfl rfl)
theorem dX9_aPlaceTo_31 : decode cX9_aPlaceTo 31 = .ok (.ireturn, 1) := dk_172 (dk_at dksX9_aPlaceTo_1 7 rfl rfl)
abbrev cX9_oldOne : ByteArray := prog_21_method_38_code
def yX9_oldOne : MethodName := ⟨RX9, "oldOne", "(III)Z"⟩
def dkwX9_oldOne_1 : List UInt8 := [181, 0, 210, 42, 180, 0, 210, 2, 160, 0, 9, 42, 6, 182, 0, 186, 172, 42, 182, 0, 180, 4, 172]
abbrev dktX9_oldOne_1 : List UInt8 := dkwX9_oldOne_1 ++ []
def dkwX9_oldOne_0 : List UInt8 := [42, 18, 200, 182, 0, 202, 154, 0, 9, 42, 5, 182, 0, 186, 172, 42, 42, 27, 29, 96, 28, 182, 0, 197]
abbrev dktX9_oldOne_0 : List UInt8 := dkwX9_oldOne_0 ++ dktX9_oldOne_1
theorem dksX9_oldOne_0 : cX9_oldOne.data.toList.drop 0 = dktX9_oldOne_0 := by decide +kernel
theorem dksX9_oldOne_1 : cX9_oldOne.data.toList.drop 24 = dktX9_oldOne_1 := dk_seg dksX9_oldOne_0 24 rfl rfl
theorem dX9_oldOne_0 : decode cX9_oldOne 0 = .ok (.aload_n 0, 1) := dk_42 (dk_at dksX9_oldOne_0 0 rfl rfl)
theorem dX9_oldOne_1 : decode cX9_oldOne 1 = .ok (.ldc 200, 2) := dk_18 200 (dk_at dksX9_oldOne_0 1 rfl rfl)
theorem dX9_oldOne_3 : decode cX9_oldOne 3 = .ok (.invokevirtual 202, 3) := dk_182 0 202 (dk_at dksX9_oldOne_0 3 rfl rfl)
theorem dX9_oldOne_6 : decode cX9_oldOne 6 = .ok (.ifCond .ne 9, 3) := dk_154 0 9 (dk_at dksX9_oldOne_0 6 rfl rfl)
theorem dX9_oldOne_9 : decode cX9_oldOne 9 = .ok (.aload_n 0, 1) := dk_42 (dk_at dksX9_oldOne_0 9 rfl rfl)
theorem dX9_oldOne_10 : decode cX9_oldOne 10 = .ok (.iconst 2, 1) := dk_5 (dk_at dksX9_oldOne_0 10 rfl rfl)
theorem dX9_oldOne_11 : decode cX9_oldOne 11 = .ok (.invokevirtual 186, 3) := dk_182 0 186 (dk_at dksX9_oldOne_0 11 rfl rfl)
theorem dX9_oldOne_14 : decode cX9_oldOne 14 = .ok (.ireturn, 1) := dk_172 (dk_at dksX9_oldOne_0 14 rfl rfl)
theorem dX9_oldOne_15 : decode cX9_oldOne 15 = .ok (.aload_n 0, 1) := dk_42 (dk_at dksX9_oldOne_0 15 rfl rfl)
theorem dX9_oldOne_16 : decode cX9_oldOne 16 = .ok (.aload_n 0, 1) := dk_42 (dk_at dksX9_oldOne_0 16 rfl rfl)
theorem dX9_oldOne_17 : decode cX9_oldOne 17 = .ok (.iload_n 1, 1) := dk_27 (dk_at dksX9_oldOne_0 17 rfl rfl)
theorem dX9_oldOne_18 : decode cX9_oldOne 18 = .ok (.iload_n 3, 1) := dk_29 (dk_at dksX9_oldOne_0 18 rfl rfl)
theorem dX9_oldOne_19 : decode cX9_oldOne 19 = .ok (.iadd, 1) := dk_96 (dk_at dksX9_oldOne_0 19 rfl rfl)
theorem dX9_oldOne_20 : decode cX9_oldOne 20 = .ok (.iload_n 2, 1) := dk_28 (dk_at dksX9_oldOne_0 20 rfl rfl)
theorem dX9_oldOne_21 : decode cX9_oldOne 21 = .ok (.invokevirtual 197, 3) := dk_182 0 197 (dk_at dksX9_oldOne_0 21 rfl rfl)
theorem dX9_oldOne_24 : decode cX9_oldOne 24 = .ok (.putfield 210, 3) := dk_181 0 210 (dk_at dksX9_oldOne_1 0 rfl rfl)
theorem dX9_oldOne_27 : decode cX9_oldOne 27 = .ok (.aload_n 0, 1) := dk_42 (dk_at dksX9_oldOne_1 3 rfl rfl)
theorem dX9_oldOne_28 : decode cX9_oldOne 28 = .ok (.getfield 210, 3) := dk_180 0 210 (dk_at dksX9_oldOne_1 4 rfl rfl)
theorem dX9_oldOne_31 : decode cX9_oldOne 31 = .ok (.iconst (-1), 1) := dk_2 (dk_at dksX9_oldOne_1 7 rfl rfl)
theorem dX9_oldOne_32 : decode cX9_oldOne 32 = .ok (.if_icmp .ne 9, 3) := dk_160 0 9 (dk_at dksX9_oldOne_1 8 rfl rfl)
theorem dX9_oldOne_35 : decode cX9_oldOne 35 = .ok (.aload_n 0, 1) := dk_42 (dk_at dksX9_oldOne_1 11 rfl rfl)
theorem dX9_oldOne_36 : decode cX9_oldOne 36 = .ok (.iconst 3, 1) := dk_6 (dk_at dksX9_oldOne_1 12 rfl rfl)
theorem dX9_oldOne_37 : decode cX9_oldOne 37 = .ok (.invokevirtual 186, 3) := dk_182 0 186 (dk_at dksX9_oldOne_1 13 rfl rfl)
theorem dX9_oldOne_40 : decode cX9_oldOne 40 = .ok (.ireturn, 1) := dk_172 (dk_at dksX9_oldOne_1 16 rfl rfl)
theorem dX9_oldOne_41 : decode cX9_oldOne 41 = .ok (.aload_n 0, 1) := dk_42 (dk_at dksX9_oldOne_1 17 rfl rfl)
theorem dX9_oldOne_42 : decode cX9_oldOne 42 = .ok (.invokevirtual 180, 3) := dk_182 0 180 (dk_at dksX9_oldOne_1 18 rfl rfl)
theorem dX9_oldOne_45 : decode cX9_oldOne 45 = .ok (.iconst 1, 1) := dk_4 (dk_at dksX9_oldOne_1 21 rfl rfl)
theorem dX9_oldOne_46 : decode cX9_oldOne 46 = .ok (.ireturn, 1) := dk_172 (dk_at dksX9_oldOne_1 22 rfl rfl)
abbrev cX9_number : ByteArray := prog_21_method_30_code
def yX9_number : MethodName := ⟨RX9, "number", "(III)Z"⟩
def dkwX9_number_2 : List UInt8 := [182, 0, 180, 4, 172]
abbrev dktX9_number_2 : List UInt8 := dkwX9_number_2 ++ []
def dkwX9_number_1 : List UInt8 := [180, 0, 146, 29, 164, 0, 9, 42, 7, 182, 0, 186, 172, 42, 180, 0, 7, 27, 42, 180, 0, 146, 79, 42]
abbrev dktX9_number_1 : List UInt8 := dkwX9_number_1 ++ dktX9_number_2
def dkwX9_number_0 : List UInt8 := [42, 180, 0, 149, 6, 159, 0, 9, 42, 5, 182, 0, 186, 172, 42, 180, 0, 146, 28, 161, 0, 11, 42]
abbrev dktX9_number_0 : List UInt8 := dkwX9_number_0 ++ dktX9_number_1
theorem dksX9_number_0 : cX9_number.data.toList.drop 0 = dktX9_number_0 := by decide +kernel
theorem dksX9_number_1 : cX9_number.data.toList.drop 23 = dktX9_number_1 := dk_seg dksX9_number_0 23 rfl rfl
theorem dksX9_number_2 : cX9_number.data.toList.drop 47 = dktX9_number_2 := dk_seg dksX9_number_1 24 rfl rfl
theorem dX9_number_0 : decode cX9_number 0 = .ok (.aload_n 0, 1) := dk_42 (dk_at dksX9_number_0 0 rfl rfl)
theorem dX9_number_1 : decode cX9_number 1 = .ok (.getfield 149, 3) := dk_180 0 149 (dk_at dksX9_number_0 1 rfl rfl)
theorem dX9_number_4 : decode cX9_number 4 = .ok (.iconst 3, 1) := dk_6 (dk_at dksX9_number_0 4 rfl rfl)
theorem dX9_number_5 : decode cX9_number 5 = .ok (.if_icmp .eq 9, 3) := dk_159 0 9 (dk_at dksX9_number_0 5 rfl rfl)
theorem dX9_number_8 : decode cX9_number 8 = .ok (.aload_n 0, 1) := dk_42 (dk_at dksX9_number_0 8 rfl rfl)
theorem dX9_number_9 : decode cX9_number 9 = .ok (.iconst 2, 1) := dk_5 (dk_at dksX9_number_0 9 rfl rfl)
theorem dX9_number_10 : decode cX9_number 10 = .ok (.invokevirtual 186, 3) := dk_182 0 186 (dk_at dksX9_number_0 10 rfl rfl)
theorem dX9_number_13 : decode cX9_number 13 = .ok (.ireturn, 1) := dk_172 (dk_at dksX9_number_0 13 rfl rfl)
theorem dX9_number_14 : decode cX9_number 14 = .ok (.aload_n 0, 1) := dk_42 (dk_at dksX9_number_0 14 rfl rfl)
theorem dX9_number_15 : decode cX9_number 15 = .ok (.getfield 146, 3) := dk_180 0 146 (dk_at dksX9_number_0 15 rfl rfl)
theorem dX9_number_18 : decode cX9_number 18 = .ok (.iload_n 2, 1) := dk_28 (dk_at dksX9_number_0 18 rfl rfl)
theorem dX9_number_19 : decode cX9_number 19 = .ok (.if_icmp .lt 11, 3) := dk_161 0 11 (dk_at dksX9_number_0 19 rfl rfl)
theorem dX9_number_22 : decode cX9_number 22 = .ok (.aload_n 0, 1) := dk_42 (dk_at dksX9_number_0 22 rfl rfl)
theorem dX9_number_23 : decode cX9_number 23 = .ok (.getfield 146, 3) := dk_180 0 146 (dk_at dksX9_number_1 0 rfl rfl)
theorem dX9_number_26 : decode cX9_number 26 = .ok (.iload_n 3, 1) := dk_29 (dk_at dksX9_number_1 3 rfl rfl)
theorem dX9_number_27 : decode cX9_number 27 = .ok (.if_icmp .le 9, 3) := dk_164 0 9 (dk_at dksX9_number_1 4 rfl rfl)
theorem dX9_number_30 : decode cX9_number 30 = .ok (.aload_n 0, 1) := dk_42 (dk_at dksX9_number_1 7 rfl rfl)
theorem dX9_number_31 : decode cX9_number 31 = .ok (.iconst 4, 1) := dk_7 (dk_at dksX9_number_1 8 rfl rfl)
theorem dX9_number_32 : decode cX9_number 32 = .ok (.invokevirtual 186, 3) := dk_182 0 186 (dk_at dksX9_number_1 9 rfl rfl)
theorem dX9_number_35 : decode cX9_number 35 = .ok (.ireturn, 1) := dk_172 (dk_at dksX9_number_1 12 rfl rfl)
theorem dX9_number_36 : decode cX9_number 36 = .ok (.aload_n 0, 1) := dk_42 (dk_at dksX9_number_1 13 rfl rfl)
theorem dX9_number_37 : decode cX9_number 37 = .ok (.getfield 7, 3) := dk_180 0 7 (dk_at dksX9_number_1 14 rfl rfl)
theorem dX9_number_40 : decode cX9_number 40 = .ok (.iload_n 1, 1) := dk_27 (dk_at dksX9_number_1 17 rfl rfl)
theorem dX9_number_41 : decode cX9_number 41 = .ok (.aload_n 0, 1) := dk_42 (dk_at dksX9_number_1 18 rfl rfl)
theorem dX9_number_42 : decode cX9_number 42 = .ok (.getfield 146, 3) := dk_180 0 146 (dk_at dksX9_number_1 19 rfl rfl)
theorem dX9_number_45 : decode cX9_number 45 = .ok (.iastore, 1) := dk_79 (dk_at dksX9_number_1 22 rfl rfl)
theorem dX9_number_46 : decode cX9_number 46 = .ok (.aload_n 0, 1) := dk_42 (dk_at dksX9_number_1 23 rfl rfl)
theorem dX9_number_47 : decode cX9_number 47 = .ok (.invokevirtual 180, 3) := dk_182 0 180 (dk_at dksX9_number_2 0 rfl rfl)
theorem dX9_number_50 : decode cX9_number 50 = .ok (.iconst 1, 1) := dk_4 (dk_at dksX9_number_2 3 rfl rfl)
theorem dX9_number_51 : decode cX9_number 51 = .ok (.ireturn, 1) := dk_172 (dk_at dksX9_number_2 4 rfl rfl)
abbrev cX9_aPerson : ByteArray := prog_21_method_41_code
def yX9_aPerson : MethodName := ⟨RX9, "aPerson", "()Z"⟩
def dkwX9_aPerson_8 : List UInt8 := [180, 0, 7, 17, 6, 186, 92, 46, 4, 96, 79, 4, 172]
abbrev dktX9_aPerson_8 : List UInt8 := dkwX9_aPerson_8 ++ []
def dkwX9_aPerson_7 : List UInt8 := [182, 0, 189, 16, 18, 160, 0, 16, 42, 180, 0, 7, 27, 7, 96, 4, 79, 42, 182, 0, 180, 42]
abbrev dktX9_aPerson_7 : List UInt8 := dkwX9_aPerson_7 ++ dktX9_aPerson_8
def dkwX9_aPerson_6 : List UInt8 := [182, 0, 180, 42, 27, 6, 96, 3, 17, 3, 231, 182, 0, 227, 154, 0, 5, 3, 172, 42, 18, 200]
abbrev dktX9_aPerson_6 : List UInt8 := dkwX9_aPerson_6 ++ dktX9_aPerson_7
def dkwX9_aPerson_5 : List UInt8 := [27, 5, 96, 182, 0, 224, 154, 0, 5, 3, 172, 42, 18, 200, 182, 0, 189, 16, 17, 160, 0, 23, 42]
abbrev dktX9_aPerson_5 : List UInt8 := dkwX9_aPerson_5 ++ dktX9_aPerson_6
def dkwX9_aPerson_4 : List UInt8 := [182, 0, 224, 154, 0, 5, 3, 172, 42, 18, 200, 182, 0, 189, 16, 16, 160, 0, 19, 42, 182, 0, 180, 42]
abbrev dktX9_aPerson_4 : List UInt8 := dkwX9_aPerson_4 ++ dktX9_aPerson_5
def dkwX9_aPerson_3 : List UInt8 := [17, 3, 231, 182, 0, 227, 153, 0, 24, 42, 18, 200, 16, 15, 182, 0, 220, 153, 0, 13, 42, 27, 4, 96]
abbrev dktX9_aPerson_3 : List UInt8 := dkwX9_aPerson_3 ++ dktX9_aPerson_4
def dkwX9_aPerson_2 : List UInt8 := [180, 0, 7, 27, 7, 96, 3, 79, 42, 18, 200, 16, 14, 182, 0, 220, 153, 0, 36, 42, 27, 4]
abbrev dktX9_aPerson_2 : List UInt8 := dkwX9_aPerson_2 ++ dktX9_aPerson_3
def dkwX9_aPerson_1 : List UInt8 := [154, 0, 5, 3, 172, 42, 180, 0, 7, 27, 5, 96, 2, 79, 42, 180, 0, 7, 27, 6, 96, 3, 79, 42]
abbrev dktX9_aPerson_1 : List UInt8 := dkwX9_aPerson_1 ++ dktX9_aPerson_2
def dkwX9_aPerson_0 : List UInt8 := [17, 7, 14, 8, 42, 180, 0, 7, 17, 6, 186, 46, 104, 96, 60, 42, 5, 7, 16, 14, 182, 0, 217]
abbrev dktX9_aPerson_0 : List UInt8 := dkwX9_aPerson_0 ++ dktX9_aPerson_1
theorem dksX9_aPerson_0 : cX9_aPerson.data.toList.drop 0 = dktX9_aPerson_0 := by decide +kernel
theorem dksX9_aPerson_1 : cX9_aPerson.data.toList.drop 23 = dktX9_aPerson_1 := dk_seg dksX9_aPerson_0 23 rfl rfl
theorem dksX9_aPerson_2 : cX9_aPerson.data.toList.drop 47 = dktX9_aPerson_2 := dk_seg dksX9_aPerson_1 24 rfl rfl
theorem dksX9_aPerson_3 : cX9_aPerson.data.toList.drop 69 = dktX9_aPerson_3 := dk_seg dksX9_aPerson_2 22 rfl rfl
theorem dksX9_aPerson_4 : cX9_aPerson.data.toList.drop 93 = dktX9_aPerson_4 := dk_seg dksX9_aPerson_3 24 rfl rfl
theorem dksX9_aPerson_5 : cX9_aPerson.data.toList.drop 117 = dktX9_aPerson_5 := dk_seg dksX9_aPerson_4 24 rfl rfl
theorem dksX9_aPerson_6 : cX9_aPerson.data.toList.drop 140 = dktX9_aPerson_6 := dk_seg dksX9_aPerson_5 23 rfl rfl
theorem dksX9_aPerson_7 : cX9_aPerson.data.toList.drop 162 = dktX9_aPerson_7 := dk_seg dksX9_aPerson_6 22 rfl rfl
theorem dksX9_aPerson_8 : cX9_aPerson.data.toList.drop 184 = dktX9_aPerson_8 := dk_seg dksX9_aPerson_7 22 rfl rfl
theorem dX9_aPerson_0 : decode cX9_aPerson 0 = .ok (.sipush 1806, 3) := dk_17 7 14 (dk_at dksX9_aPerson_0 0 rfl rfl)
theorem dX9_aPerson_3 : decode cX9_aPerson 3 = .ok (.iconst 5, 1) := dk_8 (dk_at dksX9_aPerson_0 3 rfl rfl)
theorem dX9_aPerson_4 : decode cX9_aPerson 4 = .ok (.aload_n 0, 1) := dk_42 (dk_at dksX9_aPerson_0 4 rfl rfl)
theorem dX9_aPerson_5 : decode cX9_aPerson 5 = .ok (.getfield 7, 3) := dk_180 0 7 (dk_at dksX9_aPerson_0 5 rfl rfl)
theorem dX9_aPerson_8 : decode cX9_aPerson 8 = .ok (.sipush 1722, 3) := dk_17 6 186 (dk_at dksX9_aPerson_0 8 rfl rfl)
theorem dX9_aPerson_11 : decode cX9_aPerson 11 = .ok (.iaload, 1) := dk_46 (dk_at dksX9_aPerson_0 11 rfl rfl)
theorem dX9_aPerson_12 : decode cX9_aPerson 12 = .ok (.imul, 1) := dk_104 (dk_at dksX9_aPerson_0 12 rfl rfl)
theorem dX9_aPerson_13 : decode cX9_aPerson 13 = .ok (.iadd, 1) := dk_96 (dk_at dksX9_aPerson_0 13 rfl rfl)
theorem dX9_aPerson_14 : decode cX9_aPerson 14 = .ok (.istore_n 1, 1) := dk_60 (dk_at dksX9_aPerson_0 14 rfl rfl)
theorem dX9_aPerson_15 : decode cX9_aPerson 15 = .ok (.aload_n 0, 1) := dk_42 (dk_at dksX9_aPerson_0 15 rfl rfl)
theorem dX9_aPerson_16 : decode cX9_aPerson 16 = .ok (.iconst 2, 1) := dk_5 (dk_at dksX9_aPerson_0 16 rfl rfl)
theorem dX9_aPerson_17 : decode cX9_aPerson 17 = .ok (.iconst 4, 1) := dk_7 (dk_at dksX9_aPerson_0 17 rfl rfl)
theorem dX9_aPerson_18 : decode cX9_aPerson 18 = .ok (.bipush 14, 2) := dk_16 14 (dk_at dksX9_aPerson_0 18 rfl rfl)
theorem dX9_aPerson_20 : decode cX9_aPerson 20 = .ok (.invokevirtual 217, 3) := dk_182 0 217 (dk_at dksX9_aPerson_0 20 rfl rfl)
theorem dX9_aPerson_23 : decode cX9_aPerson 23 = .ok (.ifCond .ne 5, 3) := dk_154 0 5 (dk_at dksX9_aPerson_1 0 rfl rfl)
theorem dX9_aPerson_26 : decode cX9_aPerson 26 = .ok (.iconst 0, 1) := dk_3 (dk_at dksX9_aPerson_1 3 rfl rfl)
theorem dX9_aPerson_27 : decode cX9_aPerson 27 = .ok (.ireturn, 1) := dk_172 (dk_at dksX9_aPerson_1 4 rfl rfl)
theorem dX9_aPerson_28 : decode cX9_aPerson 28 = .ok (.aload_n 0, 1) := dk_42 (dk_at dksX9_aPerson_1 5 rfl rfl)
theorem dX9_aPerson_29 : decode cX9_aPerson 29 = .ok (.getfield 7, 3) := dk_180 0 7 (dk_at dksX9_aPerson_1 6 rfl rfl)
theorem dX9_aPerson_32 : decode cX9_aPerson 32 = .ok (.iload_n 1, 1) := dk_27 (dk_at dksX9_aPerson_1 9 rfl rfl)
theorem dX9_aPerson_33 : decode cX9_aPerson 33 = .ok (.iconst 2, 1) := dk_5 (dk_at dksX9_aPerson_1 10 rfl rfl)
theorem dX9_aPerson_34 : decode cX9_aPerson 34 = .ok (.iadd, 1) := dk_96 (dk_at dksX9_aPerson_1 11 rfl rfl)
theorem dX9_aPerson_35 : decode cX9_aPerson 35 = .ok (.iconst (-1), 1) := dk_2 (dk_at dksX9_aPerson_1 12 rfl rfl)
theorem dX9_aPerson_36 : decode cX9_aPerson 36 = .ok (.iastore, 1) := dk_79 (dk_at dksX9_aPerson_1 13 rfl rfl)
theorem dX9_aPerson_37 : decode cX9_aPerson 37 = .ok (.aload_n 0, 1) := dk_42 (dk_at dksX9_aPerson_1 14 rfl rfl)
theorem dX9_aPerson_38 : decode cX9_aPerson 38 = .ok (.getfield 7, 3) := dk_180 0 7 (dk_at dksX9_aPerson_1 15 rfl rfl)
theorem dX9_aPerson_41 : decode cX9_aPerson 41 = .ok (.iload_n 1, 1) := dk_27 (dk_at dksX9_aPerson_1 18 rfl rfl)
theorem dX9_aPerson_42 : decode cX9_aPerson 42 = .ok (.iconst 3, 1) := dk_6 (dk_at dksX9_aPerson_1 19 rfl rfl)
theorem dX9_aPerson_43 : decode cX9_aPerson 43 = .ok (.iadd, 1) := dk_96 (dk_at dksX9_aPerson_1 20 rfl rfl)
theorem dX9_aPerson_44 : decode cX9_aPerson 44 = .ok (.iconst 0, 1) := dk_3 (dk_at dksX9_aPerson_1 21 rfl rfl)
theorem dX9_aPerson_45 : decode cX9_aPerson 45 = .ok (.iastore, 1) := dk_79 (dk_at dksX9_aPerson_1 22 rfl rfl)
theorem dX9_aPerson_46 : decode cX9_aPerson 46 = .ok (.aload_n 0, 1) := dk_42 (dk_at dksX9_aPerson_1 23 rfl rfl)
theorem dX9_aPerson_47 : decode cX9_aPerson 47 = .ok (.getfield 7, 3) := dk_180 0 7 (dk_at dksX9_aPerson_2 0 rfl rfl)
theorem dX9_aPerson_50 : decode cX9_aPerson 50 = .ok (.iload_n 1, 1) := dk_27 (dk_at dksX9_aPerson_2 3 rfl rfl)
theorem dX9_aPerson_51 : decode cX9_aPerson 51 = .ok (.iconst 4, 1) := dk_7 (dk_at dksX9_aPerson_2 4 rfl rfl)
theorem dX9_aPerson_52 : decode cX9_aPerson 52 = .ok (.iadd, 1) := dk_96 (dk_at dksX9_aPerson_2 5 rfl rfl)
theorem dX9_aPerson_53 : decode cX9_aPerson 53 = .ok (.iconst 0, 1) := dk_3 (dk_at dksX9_aPerson_2 6 rfl rfl)
theorem dX9_aPerson_54 : decode cX9_aPerson 54 = .ok (.iastore, 1) := dk_79 (dk_at dksX9_aPerson_2 7 rfl rfl)
theorem dX9_aPerson_55 : decode cX9_aPerson 55 = .ok (.aload_n 0, 1) := dk_42 (dk_at dksX9_aPerson_2 8 rfl rfl)
theorem dX9_aPerson_56 : decode cX9_aPerson 56 = .ok (.ldc 200, 2) := dk_18 200 (dk_at dksX9_aPerson_2 9 rfl rfl)
theorem dX9_aPerson_58 : decode cX9_aPerson 58 = .ok (.bipush 14, 2) := dk_16 14 (dk_at dksX9_aPerson_2 11 rfl rfl)
theorem dX9_aPerson_60 : decode cX9_aPerson 60 = .ok (.invokevirtual 220, 3) := dk_182 0 220 (dk_at dksX9_aPerson_2 13 rfl rfl)
theorem dX9_aPerson_63 : decode cX9_aPerson 63 = .ok (.ifCond .eq 36, 3) := dk_153 0 36 (dk_at dksX9_aPerson_2 16 rfl rfl)
theorem dX9_aPerson_66 : decode cX9_aPerson 66 = .ok (.aload_n 0, 1) := dk_42 (dk_at dksX9_aPerson_2 19 rfl rfl)
theorem dX9_aPerson_67 : decode cX9_aPerson 67 = .ok (.iload_n 1, 1) := dk_27 (dk_at dksX9_aPerson_2 20 rfl rfl)
theorem dX9_aPerson_68 : decode cX9_aPerson 68 = .ok (.iconst 1, 1) := dk_4 (dk_at dksX9_aPerson_2 21 rfl rfl)
theorem dX9_aPerson_69 : decode cX9_aPerson 69 = .ok (.sipush 999, 3) := dk_17 3 231 (dk_at dksX9_aPerson_3 0 rfl rfl)
theorem dX9_aPerson_72 : decode cX9_aPerson 72 = .ok (.invokevirtual 227, 3) := dk_182 0 227 (dk_at dksX9_aPerson_3 3 rfl rfl)
theorem dX9_aPerson_75 : decode cX9_aPerson 75 = .ok (.ifCond .eq 24, 3) := dk_153 0 24 (dk_at dksX9_aPerson_3 6 rfl rfl)
theorem dX9_aPerson_78 : decode cX9_aPerson 78 = .ok (.aload_n 0, 1) := dk_42 (dk_at dksX9_aPerson_3 9 rfl rfl)
theorem dX9_aPerson_79 : decode cX9_aPerson 79 = .ok (.ldc 200, 2) := dk_18 200 (dk_at dksX9_aPerson_3 10 rfl rfl)
theorem dX9_aPerson_81 : decode cX9_aPerson 81 = .ok (.bipush 15, 2) := dk_16 15 (dk_at dksX9_aPerson_3 12 rfl rfl)
theorem dX9_aPerson_83 : decode cX9_aPerson 83 = .ok (.invokevirtual 220, 3) := dk_182 0 220 (dk_at dksX9_aPerson_3 14 rfl rfl)
theorem dX9_aPerson_86 : decode cX9_aPerson 86 = .ok (.ifCond .eq 13, 3) := dk_153 0 13 (dk_at dksX9_aPerson_3 17 rfl rfl)
theorem dX9_aPerson_89 : decode cX9_aPerson 89 = .ok (.aload_n 0, 1) := dk_42 (dk_at dksX9_aPerson_3 20 rfl rfl)
theorem dX9_aPerson_90 : decode cX9_aPerson 90 = .ok (.iload_n 1, 1) := dk_27 (dk_at dksX9_aPerson_3 21 rfl rfl)
theorem dX9_aPerson_91 : decode cX9_aPerson 91 = .ok (.iconst 1, 1) := dk_4 (dk_at dksX9_aPerson_3 22 rfl rfl)
theorem dX9_aPerson_92 : decode cX9_aPerson 92 = .ok (.iadd, 1) := dk_96 (dk_at dksX9_aPerson_3 23 rfl rfl)
theorem dX9_aPerson_93 : decode cX9_aPerson 93 = .ok (.invokevirtual 224, 3) := dk_182 0 224 (dk_at dksX9_aPerson_4 0 rfl rfl)
theorem dX9_aPerson_96 : decode cX9_aPerson 96 = .ok (.ifCond .ne 5, 3) := dk_154 0 5 (dk_at dksX9_aPerson_4 3 rfl rfl)
theorem dX9_aPerson_99 : decode cX9_aPerson 99 = .ok (.iconst 0, 1) := dk_3 (dk_at dksX9_aPerson_4 6 rfl rfl)
theorem dX9_aPerson_100 : decode cX9_aPerson 100 = .ok (.ireturn, 1) := dk_172 (dk_at dksX9_aPerson_4 7 rfl rfl)
theorem dX9_aPerson_101 : decode cX9_aPerson 101 = .ok (.aload_n 0, 1) := dk_42 (dk_at dksX9_aPerson_4 8 rfl rfl)
theorem dX9_aPerson_102 : decode cX9_aPerson 102 = .ok (.ldc 200, 2) := dk_18 200 (dk_at dksX9_aPerson_4 9 rfl rfl)
theorem dX9_aPerson_104 : decode cX9_aPerson 104 = .ok (.invokevirtual 189, 3) := dk_182 0 189 (dk_at dksX9_aPerson_4 11 rfl rfl)
theorem dX9_aPerson_107 : decode cX9_aPerson 107 = .ok (.bipush 16, 2) := dk_16 16 (dk_at dksX9_aPerson_4 14 rfl rfl)
theorem dX9_aPerson_109 : decode cX9_aPerson 109 = .ok (.if_icmp .ne 19, 3) := dk_160 0 19 (dk_at dksX9_aPerson_4 16 rfl rfl)
theorem dX9_aPerson_112 : decode cX9_aPerson 112 = .ok (.aload_n 0, 1) := dk_42 (dk_at dksX9_aPerson_4 19 rfl rfl)
theorem dX9_aPerson_113 : decode cX9_aPerson 113 = .ok (.invokevirtual 180, 3) := dk_182 0 180 (dk_at dksX9_aPerson_4 20 rfl rfl)
theorem dX9_aPerson_116 : decode cX9_aPerson 116 = .ok (.aload_n 0, 1) := dk_42 (dk_at dksX9_aPerson_4 23 rfl rfl)
theorem dX9_aPerson_117 : decode cX9_aPerson 117 = .ok (.iload_n 1, 1) := dk_27 (dk_at dksX9_aPerson_5 0 rfl rfl)
theorem dX9_aPerson_118 : decode cX9_aPerson 118 = .ok (.iconst 2, 1) := dk_5 (dk_at dksX9_aPerson_5 1 rfl rfl)
theorem dX9_aPerson_119 : decode cX9_aPerson 119 = .ok (.iadd, 1) := dk_96 (dk_at dksX9_aPerson_5 2 rfl rfl)
theorem dX9_aPerson_120 : decode cX9_aPerson 120 = .ok (.invokevirtual 224, 3) := dk_182 0 224 (dk_at dksX9_aPerson_5 3 rfl rfl)
theorem dX9_aPerson_123 : decode cX9_aPerson 123 = .ok (.ifCond .ne 5, 3) := dk_154 0 5 (dk_at dksX9_aPerson_5 6 rfl rfl)
theorem dX9_aPerson_126 : decode cX9_aPerson 126 = .ok (.iconst 0, 1) := dk_3 (dk_at dksX9_aPerson_5 9 rfl rfl)
theorem dX9_aPerson_127 : decode cX9_aPerson 127 = .ok (.ireturn, 1) := dk_172 (dk_at dksX9_aPerson_5 10 rfl rfl)
theorem dX9_aPerson_128 : decode cX9_aPerson 128 = .ok (.aload_n 0, 1) := dk_42 (dk_at dksX9_aPerson_5 11 rfl rfl)
theorem dX9_aPerson_129 : decode cX9_aPerson 129 = .ok (.ldc 200, 2) := dk_18 200 (dk_at dksX9_aPerson_5 12 rfl rfl)
theorem dX9_aPerson_131 : decode cX9_aPerson 131 = .ok (.invokevirtual 189, 3) := dk_182 0 189 (dk_at dksX9_aPerson_5 14 rfl rfl)
theorem dX9_aPerson_134 : decode cX9_aPerson 134 = .ok (.bipush 17, 2) := dk_16 17 (dk_at dksX9_aPerson_5 17 rfl rfl)
theorem dX9_aPerson_136 : decode cX9_aPerson 136 = .ok (.if_icmp .ne 23, 3) := dk_160 0 23 (dk_at dksX9_aPerson_5 19 rfl rfl)
theorem dX9_aPerson_139 : decode cX9_aPerson 139 = .ok (.aload_n 0, 1) := dk_42 (dk_at dksX9_aPerson_5 22 rfl rfl)
theorem dX9_aPerson_140 : decode cX9_aPerson 140 = .ok (.invokevirtual 180, 3) := dk_182 0 180 (dk_at dksX9_aPerson_6 0 rfl rfl)
theorem dX9_aPerson_143 : decode cX9_aPerson 143 = .ok (.aload_n 0, 1) := dk_42 (dk_at dksX9_aPerson_6 3 rfl rfl)
theorem dX9_aPerson_144 : decode cX9_aPerson 144 = .ok (.iload_n 1, 1) := dk_27 (dk_at dksX9_aPerson_6 4 rfl rfl)
theorem dX9_aPerson_145 : decode cX9_aPerson 145 = .ok (.iconst 3, 1) := dk_6 (dk_at dksX9_aPerson_6 5 rfl rfl)
theorem dX9_aPerson_146 : decode cX9_aPerson 146 = .ok (.iadd, 1) := dk_96 (dk_at dksX9_aPerson_6 6 rfl rfl)
theorem dX9_aPerson_147 : decode cX9_aPerson 147 = .ok (.iconst 0, 1) := dk_3 (dk_at dksX9_aPerson_6 7 rfl rfl)
theorem dX9_aPerson_148 : decode cX9_aPerson 148 = .ok (.sipush 999, 3) := dk_17 3 231 (dk_at dksX9_aPerson_6 8 rfl rfl)
theorem dX9_aPerson_151 : decode cX9_aPerson 151 = .ok (.invokevirtual 227, 3) := dk_182 0 227 (dk_at dksX9_aPerson_6 11 rfl rfl)
theorem dX9_aPerson_154 : decode cX9_aPerson 154 = .ok (.ifCond .ne 5, 3) := dk_154 0 5 (dk_at dksX9_aPerson_6 14 rfl rfl)
theorem dX9_aPerson_157 : decode cX9_aPerson 157 = .ok (.iconst 0, 1) := dk_3 (dk_at dksX9_aPerson_6 17 rfl rfl)
theorem dX9_aPerson_158 : decode cX9_aPerson 158 = .ok (.ireturn, 1) := dk_172 (dk_at dksX9_aPerson_6 18 rfl rfl)
theorem dX9_aPerson_159 : decode cX9_aPerson 159 = .ok (.aload_n 0, 1) := dk_42 (dk_at dksX9_aPerson_6 19 rfl rfl)
theorem dX9_aPerson_160 : decode cX9_aPerson 160 = .ok (.ldc 200, 2) := dk_18 200 (dk_at dksX9_aPerson_6 20 rfl rfl)
theorem dX9_aPerson_162 : decode cX9_aPerson 162 = .ok (.invokevirtual 189, 3) := dk_182 0 189 (dk_at dksX9_aPerson_7 0 rfl rfl)
theorem dX9_aPerson_165 : decode cX9_aPerson 165 = .ok (.bipush 18, 2) := dk_16 18 (dk_at dksX9_aPerson_7 3 rfl rfl)
theorem dX9_aPerson_167 : decode cX9_aPerson 167 = .ok (.if_icmp .ne 16, 3) := dk_160 0 16 (dk_at dksX9_aPerson_7 5 rfl rfl)
theorem dX9_aPerson_170 : decode cX9_aPerson 170 = .ok (.aload_n 0, 1) := dk_42 (dk_at dksX9_aPerson_7 8 rfl rfl)
theorem dX9_aPerson_171 : decode cX9_aPerson 171 = .ok (.getfield 7, 3) := dk_180 0 7 (dk_at dksX9_aPerson_7 9 rfl rfl)
theorem dX9_aPerson_174 : decode cX9_aPerson 174 = .ok (.iload_n 1, 1) := dk_27 (dk_at dksX9_aPerson_7 12 rfl rfl)
theorem dX9_aPerson_175 : decode cX9_aPerson 175 = .ok (.iconst 4, 1) := dk_7 (dk_at dksX9_aPerson_7 13 rfl rfl)
theorem dX9_aPerson_176 : decode cX9_aPerson 176 = .ok (.iadd, 1) := dk_96 (dk_at dksX9_aPerson_7 14 rfl rfl)
theorem dX9_aPerson_177 : decode cX9_aPerson 177 = .ok (.iconst 1, 1) := dk_4 (dk_at dksX9_aPerson_7 15 rfl rfl)
theorem dX9_aPerson_178 : decode cX9_aPerson 178 = .ok (.iastore, 1) := dk_79 (dk_at dksX9_aPerson_7 16 rfl rfl)
theorem dX9_aPerson_179 : decode cX9_aPerson 179 = .ok (.aload_n 0, 1) := dk_42 (dk_at dksX9_aPerson_7 17 rfl rfl)
theorem dX9_aPerson_180 : decode cX9_aPerson 180 = .ok (.invokevirtual 180, 3) := dk_182 0 180 (dk_at dksX9_aPerson_7 18 rfl rfl)
theorem dX9_aPerson_183 : decode cX9_aPerson 183 = .ok (.aload_n 0, 1) := dk_42 (dk_at dksX9_aPerson_7 21 rfl rfl)
theorem dX9_aPerson_184 : decode cX9_aPerson 184 = .ok (.getfield 7, 3) := dk_180 0 7 (dk_at dksX9_aPerson_8 0 rfl rfl)
theorem dX9_aPerson_187 : decode cX9_aPerson 187 = .ok (.sipush 1722, 3) := dk_17 6 186 (dk_at dksX9_aPerson_8 3 rfl rfl)
theorem dX9_aPerson_190 : decode cX9_aPerson 190 = .ok (.dup2, 1) := dk_92 (dk_at dksX9_aPerson_8 6 rfl rfl)
theorem dX9_aPerson_191 : decode cX9_aPerson 191 = .ok (.iaload, 1) := dk_46 (dk_at dksX9_aPerson_8 7 rfl rfl)
theorem dX9_aPerson_192 : decode cX9_aPerson 192 = .ok (.iconst 1, 1) := dk_4 (dk_at dksX9_aPerson_8 8 rfl rfl)
theorem dX9_aPerson_193 : decode cX9_aPerson 193 = .ok (.iadd, 1) := dk_96 (dk_at dksX9_aPerson_8 9 rfl rfl)
theorem dX9_aPerson_194 : decode cX9_aPerson 194 = .ok (.iastore, 1) := dk_79 (dk_at dksX9_aPerson_8 10 rfl rfl)
theorem dX9_aPerson_195 : decode cX9_aPerson 195 = .ok (.iconst 1, 1) := dk_4 (dk_at dksX9_aPerson_8 11 rfl rfl)
theorem dX9_aPerson_196 : decode cX9_aPerson 196 = .ok (.ireturn, 1) := dk_172 (dk_at dksX9_aPerson_8 12 rfl rfl)
abbrev cX9_aLoad : ByteArray := prog_21_method_42_code
def yX9_aLoad : MethodName := ⟨RX9, "aLoad", "()Z"⟩
def dkwX9_aLoad_3 : List UInt8 := [154, 0, 5, 3, 172, 42, 180, 0, 7, 17, 6, 187, 92, 46, 4, 96, 79, 4, 172]
abbrev dktX9_aLoad_3 : List UInt8 := dkwX9_aLoad_3 ++ []
def dkwX9_aLoad_2 : List UInt8 := [182, 0, 227, 153, 0, 24, 42, 18, 200, 16, 15, 182, 0, 220, 153, 0, 13, 42, 27, 4, 96, 182, 0, 224]
abbrev dktX9_aLoad_2 : List UInt8 := dkwX9_aLoad_2 ++ dktX9_aLoad_3
def dkwX9_aLoad_1 : List UInt8 := [154, 0, 5, 3, 172, 42, 18, 200, 16, 14, 182, 0, 220, 153, 0, 36, 42, 27, 4, 17, 3, 231]
abbrev dktX9_aLoad_1 : List UInt8 := dkwX9_aLoad_1 ++ dktX9_aLoad_2
def dkwX9_aLoad_0 : List UInt8 := [17, 7, 34, 5, 42, 180, 0, 7, 17, 6, 187, 46, 104, 96, 60, 42, 6, 5, 16, 18, 182, 0, 217]
abbrev dktX9_aLoad_0 : List UInt8 := dkwX9_aLoad_0 ++ dktX9_aLoad_1
theorem dksX9_aLoad_0 : cX9_aLoad.data.toList.drop 0 = dktX9_aLoad_0 := by decide +kernel
theorem dksX9_aLoad_1 : cX9_aLoad.data.toList.drop 23 = dktX9_aLoad_1 := dk_seg dksX9_aLoad_0 23 rfl rfl
theorem dksX9_aLoad_2 : cX9_aLoad.data.toList.drop 45 = dktX9_aLoad_2 := dk_seg dksX9_aLoad_1 22 rfl rfl
theorem dksX9_aLoad_3 : cX9_aLoad.data.toList.drop 69 = dktX9_aLoad_3 := dk_seg dksX9_aLoad_2 24 rfl rfl
theorem dX9_aLoad_0 : decode cX9_aLoad 0 = .ok (.sipush 1826, 3) := dk_17 7 34 (dk_at dksX9_aLoad_0 0 rfl rfl)
theorem dX9_aLoad_3 : decode cX9_aLoad 3 = .ok (.iconst 2, 1) := dk_5 (dk_at dksX9_aLoad_0 3 rfl rfl)
theorem dX9_aLoad_4 : decode cX9_aLoad 4 = .ok (.aload_n 0, 1) := dk_42 (dk_at dksX9_aLoad_0 4 rfl rfl)
theorem dX9_aLoad_5 : decode cX9_aLoad 5 = .ok (.getfield 7, 3) := dk_180 0 7 (dk_at dksX9_aLoad_0 5 rfl rfl)
theorem dX9_aLoad_8 : decode cX9_aLoad 8 = .ok (.sipush 1723, 3) := dk_17 6 187 (dk_at dksX9_aLoad_0 8 rfl rfl)
theorem dX9_aLoad_11 : decode cX9_aLoad 11 = .ok (.iaload, 1) := dk_46 (dk_at dksX9_aLoad_0 11 rfl rfl)
theorem dX9_aLoad_12 : decode cX9_aLoad 12 = .ok (.imul, 1) := dk_104 (dk_at dksX9_aLoad_0 12 rfl rfl)
theorem dX9_aLoad_13 : decode cX9_aLoad 13 = .ok (.iadd, 1) := dk_96 (dk_at dksX9_aLoad_0 13 rfl rfl)
theorem dX9_aLoad_14 : decode cX9_aLoad 14 = .ok (.istore_n 1, 1) := dk_60 (dk_at dksX9_aLoad_0 14 rfl rfl)
theorem dX9_aLoad_15 : decode cX9_aLoad 15 = .ok (.aload_n 0, 1) := dk_42 (dk_at dksX9_aLoad_0 15 rfl rfl)
theorem dX9_aLoad_16 : decode cX9_aLoad 16 = .ok (.iconst 3, 1) := dk_6 (dk_at dksX9_aLoad_0 16 rfl rfl)
theorem dX9_aLoad_17 : decode cX9_aLoad 17 = .ok (.iconst 2, 1) := dk_5 (dk_at dksX9_aLoad_0 17 rfl rfl)
theorem dX9_aLoad_18 : decode cX9_aLoad 18 = .ok (.bipush 18, 2) := dk_16 18 (dk_at dksX9_aLoad_0 18 rfl rfl)
theorem dX9_aLoad_20 : decode cX9_aLoad 20 = .ok (.invokevirtual 217, 3) := dk_182 0 217 (dk_at dksX9_aLoad_0 20 rfl rfl)
theorem dX9_aLoad_23 : decode cX9_aLoad 23 = .ok (.ifCond .ne 5, 3) := dk_154 0 5 (dk_at dksX9_aLoad_1 0 rfl rfl)
theorem dX9_aLoad_26 : decode cX9_aLoad 26 = .ok (.iconst 0, 1) := dk_3 (dk_at dksX9_aLoad_1 3 rfl rfl)
theorem dX9_aLoad_27 : decode cX9_aLoad 27 = .ok (.ireturn, 1) := dk_172 (dk_at dksX9_aLoad_1 4 rfl rfl)
theorem dX9_aLoad_28 : decode cX9_aLoad 28 = .ok (.aload_n 0, 1) := dk_42 (dk_at dksX9_aLoad_1 5 rfl rfl)
theorem dX9_aLoad_29 : decode cX9_aLoad 29 = .ok (.ldc 200, 2) := dk_18 200 (dk_at dksX9_aLoad_1 6 rfl rfl)
theorem dX9_aLoad_31 : decode cX9_aLoad 31 = .ok (.bipush 14, 2) := dk_16 14 (dk_at dksX9_aLoad_1 8 rfl rfl)
theorem dX9_aLoad_33 : decode cX9_aLoad 33 = .ok (.invokevirtual 220, 3) := dk_182 0 220 (dk_at dksX9_aLoad_1 10 rfl rfl)
theorem dX9_aLoad_36 : decode cX9_aLoad 36 = .ok (.ifCond .eq 36, 3) := dk_153 0 36 (dk_at dksX9_aLoad_1 13 rfl rfl)
theorem dX9_aLoad_39 : decode cX9_aLoad 39 = .ok (.aload_n 0, 1) := dk_42 (dk_at dksX9_aLoad_1 16 rfl rfl)
theorem dX9_aLoad_40 : decode cX9_aLoad 40 = .ok (.iload_n 1, 1) := dk_27 (dk_at dksX9_aLoad_1 17 rfl rfl)
theorem dX9_aLoad_41 : decode cX9_aLoad 41 = .ok (.iconst 1, 1) := dk_4 (dk_at dksX9_aLoad_1 18 rfl rfl)
theorem dX9_aLoad_42 : decode cX9_aLoad 42 = .ok (.sipush 999, 3) := dk_17 3 231 (dk_at dksX9_aLoad_1 19 rfl rfl)
theorem dX9_aLoad_45 : decode cX9_aLoad 45 = .ok (.invokevirtual 227, 3) := dk_182 0 227 (dk_at dksX9_aLoad_2 0 rfl rfl)
theorem dX9_aLoad_48 : decode cX9_aLoad 48 = .ok (.ifCond .eq 24, 3) := dk_153 0 24 (dk_at dksX9_aLoad_2 3 rfl rfl)
theorem dX9_aLoad_51 : decode cX9_aLoad 51 = .ok (.aload_n 0, 1) := dk_42 (dk_at dksX9_aLoad_2 6 rfl rfl)
theorem dX9_aLoad_52 : decode cX9_aLoad 52 = .ok (.ldc 200, 2) := dk_18 200 (dk_at dksX9_aLoad_2 7 rfl rfl)
theorem dX9_aLoad_54 : decode cX9_aLoad 54 = .ok (.bipush 15, 2) := dk_16 15 (dk_at dksX9_aLoad_2 9 rfl rfl)
theorem dX9_aLoad_56 : decode cX9_aLoad 56 = .ok (.invokevirtual 220, 3) := dk_182 0 220 (dk_at dksX9_aLoad_2 11 rfl rfl)
theorem dX9_aLoad_59 : decode cX9_aLoad 59 = .ok (.ifCond .eq 13, 3) := dk_153 0 13 (dk_at dksX9_aLoad_2 14 rfl rfl)
theorem dX9_aLoad_62 : decode cX9_aLoad 62 = .ok (.aload_n 0, 1) := dk_42 (dk_at dksX9_aLoad_2 17 rfl rfl)
theorem dX9_aLoad_63 : decode cX9_aLoad 63 = .ok (.iload_n 1, 1) := dk_27 (dk_at dksX9_aLoad_2 18 rfl rfl)
theorem dX9_aLoad_64 : decode cX9_aLoad 64 = .ok (.iconst 1, 1) := dk_4 (dk_at dksX9_aLoad_2 19 rfl rfl)
theorem dX9_aLoad_65 : decode cX9_aLoad 65 = .ok (.iadd, 1) := dk_96 (dk_at dksX9_aLoad_2 20 rfl rfl)
theorem dX9_aLoad_66 : decode cX9_aLoad 66 = .ok (.invokevirtual 224, 3) := dk_182 0 224 (dk_at dksX9_aLoad_2 21 rfl rfl)
theorem dX9_aLoad_69 : decode cX9_aLoad 69 = .ok (.ifCond .ne 5, 3) := dk_154 0 5 (dk_at dksX9_aLoad_3 0 rfl rfl)
theorem dX9_aLoad_72 : decode cX9_aLoad 72 = .ok (.iconst 0, 1) := dk_3 (dk_at dksX9_aLoad_3 3 rfl rfl)
theorem dX9_aLoad_73 : decode cX9_aLoad 73 = .ok (.ireturn, 1) := dk_172 (dk_at dksX9_aLoad_3 4 rfl rfl)
theorem dX9_aLoad_74 : decode cX9_aLoad 74 = .ok (.aload_n 0, 1) := dk_42 (dk_at dksX9_aLoad_3 5 rfl rfl)
theorem dX9_aLoad_75 : decode cX9_aLoad 75 = .ok (.getfield 7, 3) := dk_180 0 7 (dk_at dksX9_aLoad_3 6 rfl rfl)
theorem dX9_aLoad_78 : decode cX9_aLoad 78 = .ok (.sipush 1723, 3) := dk_17 6 187 (dk_at dksX9_aLoad_3 9 rfl rfl)
theorem dX9_aLoad_81 : decode cX9_aLoad 81 = .ok (.dup2, 1) := dk_92 (dk_at dksX9_aLoad_3 12 rfl rfl)
theorem dX9_aLoad_82 : decode cX9_aLoad 82 = .ok (.iaload, 1) := dk_46 (dk_at dksX9_aLoad_3 13 rfl rfl)
theorem dX9_aLoad_83 : decode cX9_aLoad 83 = .ok (.iconst 1, 1) := dk_4 (dk_at dksX9_aLoad_3 14 rfl rfl)
theorem dX9_aLoad_84 : decode cX9_aLoad 84 = .ok (.iadd, 1) := dk_96 (dk_at dksX9_aLoad_3 15 rfl rfl)
theorem dX9_aLoad_85 : decode cX9_aLoad 85 = .ok (.iastore, 1) := dk_79 (dk_at dksX9_aLoad_3 16 rfl rfl)
theorem dX9_aLoad_86 : decode cX9_aLoad 86 = .ok (.iconst 1, 1) := dk_4 (dk_at dksX9_aLoad_3 17 rfl rfl)
theorem dX9_aLoad_87 : decode cX9_aLoad 87 = .ok (.ireturn, 1) := dk_172 (dk_at dksX9_aLoad_3 18 rfl rfl)
abbrev cX9_aStone : ByteArray := prog_21_method_43_code
def yX9_aStone : MethodName := ⟨RX9, "aStone", "()Z"⟩
def dkwX9_aStone_3 : List UInt8 := [17, 8, 101, 46, 96, 79, 4, 172]
abbrev dktX9_aStone_3 : List UInt8 := dkwX9_aStone_3 ++ []
def dkwX9_aStone_2 : List UInt8 := [154, 0, 5, 3, 172, 42, 180, 0, 7, 17, 6, 192, 42, 180, 0, 210, 96, 92, 46, 42, 180, 0, 7]
abbrev dktX9_aStone_2 : List UInt8 := dkwX9_aStone_2 ++ dktX9_aStone_3
def dkwX9_aStone_1 : List UInt8 := [182, 0, 220, 154, 0, 5, 3, 172, 42, 16, 80, 42, 180, 0, 7, 17, 6, 184, 46, 3, 182, 0, 213]
abbrev dktX9_aStone_1 : List UInt8 := dkwX9_aStone_1 ++ dktX9_aStone_2
def dkwX9_aStone_0 : List UInt8 := [42, 182, 0, 180, 42, 17, 8, 101, 3, 17, 3, 231, 182, 0, 227, 153, 0, 14, 42, 18, 200, 16, 15]
abbrev dktX9_aStone_0 : List UInt8 := dkwX9_aStone_0 ++ dktX9_aStone_1
theorem dksX9_aStone_0 : cX9_aStone.data.toList.drop 0 = dktX9_aStone_0 := by decide +kernel
theorem dksX9_aStone_1 : cX9_aStone.data.toList.drop 23 = dktX9_aStone_1 := dk_seg dksX9_aStone_0 23 rfl rfl
theorem dksX9_aStone_2 : cX9_aStone.data.toList.drop 46 = dktX9_aStone_2 := dk_seg dksX9_aStone_1 23 rfl rfl
theorem dksX9_aStone_3 : cX9_aStone.data.toList.drop 69 = dktX9_aStone_3 := dk_seg dksX9_aStone_2 23 rfl rfl
theorem dX9_aStone_0 : decode cX9_aStone 0 = .ok (.aload_n 0, 1) := dk_42 (dk_at dksX9_aStone_0 0 rfl rfl)
theorem dX9_aStone_1 : decode cX9_aStone 1 = .ok (.invokevirtual 180, 3) := dk_182 0 180 (dk_at dksX9_aStone_0 1 rfl rfl)
theorem dX9_aStone_4 : decode cX9_aStone 4 = .ok (.aload_n 0, 1) := dk_42 (dk_at dksX9_aStone_0 4 rfl rfl)
theorem dX9_aStone_5 : decode cX9_aStone 5 = .ok (.sipush 2149, 3) := dk_17 8 101 (dk_at dksX9_aStone_0 5 rfl rfl)
theorem dX9_aStone_8 : decode cX9_aStone 8 = .ok (.iconst 0, 1) := dk_3 (dk_at dksX9_aStone_0 8 rfl rfl)
theorem dX9_aStone_9 : decode cX9_aStone 9 = .ok (.sipush 999, 3) := dk_17 3 231 (dk_at dksX9_aStone_0 9 rfl rfl)
theorem dX9_aStone_12 : decode cX9_aStone 12 = .ok (.invokevirtual 227, 3) := dk_182 0 227 (dk_at dksX9_aStone_0 12 rfl rfl)
theorem dX9_aStone_15 : decode cX9_aStone 15 = .ok (.ifCond .eq 14, 3) := dk_153 0 14 (dk_at dksX9_aStone_0 15 rfl rfl)
theorem dX9_aStone_18 : decode cX9_aStone 18 = .ok (.aload_n 0, 1) := dk_42 (dk_at dksX9_aStone_0 18 rfl rfl)
theorem dX9_aStone_19 : decode cX9_aStone 19 = .ok (.ldc 200, 2) := dk_18 200 (dk_at dksX9_aStone_0 19 rfl rfl)
theorem dX9_aStone_21 : decode cX9_aStone 21 = .ok (.bipush 15, 2) := dk_16 15 (dk_at dksX9_aStone_0 21 rfl rfl)
theorem dX9_aStone_23 : decode cX9_aStone 23 = .ok (.invokevirtual 220, 3) := dk_182 0 220 (dk_at dksX9_aStone_1 0 rfl rfl)
theorem dX9_aStone_26 : decode cX9_aStone 26 = .ok (.ifCond .ne 5, 3) := dk_154 0 5 (dk_at dksX9_aStone_1 3 rfl rfl)
theorem dX9_aStone_29 : decode cX9_aStone 29 = .ok (.iconst 0, 1) := dk_3 (dk_at dksX9_aStone_1 6 rfl rfl)
theorem dX9_aStone_30 : decode cX9_aStone 30 = .ok (.ireturn, 1) := dk_172 (dk_at dksX9_aStone_1 7 rfl rfl)
theorem dX9_aStone_31 : decode cX9_aStone 31 = .ok (.aload_n 0, 1) := dk_42 (dk_at dksX9_aStone_1 8 rfl rfl)
theorem dX9_aStone_32 : decode cX9_aStone 32 = .ok (.bipush 80, 2) := dk_16 80 (dk_at dksX9_aStone_1 9 rfl rfl)
theorem dX9_aStone_34 : decode cX9_aStone 34 = .ok (.aload_n 0, 1) := dk_42 (dk_at dksX9_aStone_1 11 rfl rfl)
theorem dX9_aStone_35 : decode cX9_aStone 35 = .ok (.getfield 7, 3) := dk_180 0 7 (dk_at dksX9_aStone_1 12 rfl rfl)
theorem dX9_aStone_38 : decode cX9_aStone 38 = .ok (.sipush 1720, 3) := dk_17 6 184 (dk_at dksX9_aStone_1 15 rfl rfl)
theorem dX9_aStone_41 : decode cX9_aStone 41 = .ok (.iaload, 1) := dk_46 (dk_at dksX9_aStone_1 18 rfl rfl)
theorem dX9_aStone_42 : decode cX9_aStone 42 = .ok (.iconst 0, 1) := dk_3 (dk_at dksX9_aStone_1 19 rfl rfl)
theorem dX9_aStone_43 : decode cX9_aStone 43 = .ok (.invokevirtual 213, 3) := dk_182 0 213 (dk_at dksX9_aStone_1 20 rfl rfl)
theorem dX9_aStone_46 : decode cX9_aStone 46 = .ok (.ifCond .ne 5, 3) := dk_154 0 5 (dk_at dksX9_aStone_2 0 rfl rfl)
theorem dX9_aStone_49 : decode cX9_aStone 49 = .ok (.iconst 0, 1) := dk_3 (dk_at dksX9_aStone_2 3 rfl rfl)
theorem dX9_aStone_50 : decode cX9_aStone 50 = .ok (.ireturn, 1) := dk_172 (dk_at dksX9_aStone_2 4 rfl rfl)
theorem dX9_aStone_51 : decode cX9_aStone 51 = .ok (.aload_n 0, 1) := dk_42 (dk_at dksX9_aStone_2 5 rfl rfl)
theorem dX9_aStone_52 : decode cX9_aStone 52 = .ok (.getfield 7, 3) := dk_180 0 7 (dk_at dksX9_aStone_2 6 rfl rfl)
theorem dX9_aStone_55 : decode cX9_aStone 55 = .ok (.sipush 1728, 3) := dk_17 6 192 (dk_at dksX9_aStone_2 9 rfl rfl)
theorem dX9_aStone_58 : decode cX9_aStone 58 = .ok (.aload_n 0, 1) := dk_42 (dk_at dksX9_aStone_2 12 rfl rfl)
theorem dX9_aStone_59 : decode cX9_aStone 59 = .ok (.getfield 210, 3) := dk_180 0 210 (dk_at dksX9_aStone_2 13 rfl rfl)
theorem dX9_aStone_62 : decode cX9_aStone 62 = .ok (.iadd, 1) := dk_96 (dk_at dksX9_aStone_2 16 rfl rfl)
theorem dX9_aStone_63 : decode cX9_aStone 63 = .ok (.dup2, 1) := dk_92 (dk_at dksX9_aStone_2 17 rfl rfl)
theorem dX9_aStone_64 : decode cX9_aStone 64 = .ok (.iaload, 1) := dk_46 (dk_at dksX9_aStone_2 18 rfl rfl)
theorem dX9_aStone_65 : decode cX9_aStone 65 = .ok (.aload_n 0, 1) := dk_42 (dk_at dksX9_aStone_2 19 rfl rfl)
theorem dX9_aStone_66 : decode cX9_aStone 66 = .ok (.getfield 7, 3) := dk_180 0 7 (dk_at dksX9_aStone_2 20 rfl rfl)
theorem dX9_aStone_69 : decode cX9_aStone 69 = .ok (.sipush 2149, 3) := dk_17 8 101 (dk_at dksX9_aStone_3 0 rfl rfl)
theorem dX9_aStone_72 : decode cX9_aStone 72 = .ok (.iaload, 1) := dk_46 (dk_at dksX9_aStone_3 3 rfl rfl)
theorem dX9_aStone_73 : decode cX9_aStone 73 = .ok (.iadd, 1) := dk_96 (dk_at dksX9_aStone_3 4 rfl rfl)
theorem dX9_aStone_74 : decode cX9_aStone 74 = .ok (.iastore, 1) := dk_79 (dk_at dksX9_aStone_3 5 rfl rfl)
theorem dX9_aStone_75 : decode cX9_aStone 75 = .ok (.iconst 1, 1) := dk_4 (dk_at dksX9_aStone_3 6 rfl rfl)
theorem dX9_aStone_76 : decode cX9_aStone 76 = .ok (.ireturn, 1) := dk_172 (dk_at dksX9_aStone_3 7 rfl rfl)
abbrev cX9_wantSign : ByteArray := prog_21_method_28_code
def yX9_wantSign : MethodName := ⟨RX9, "wantSign", "(I)Z"⟩
def dkwX9_wantSign_0 : List UInt8 := [42, 27, 182, 0, 183, 154, 0, 9, 42, 5, 182, 0, 186, 172, 42, 182, 0, 180, 4, 172]
abbrev dktX9_wantSign_0 : List UInt8 := dkwX9_wantSign_0 ++ []
theorem dksX9_wantSign_0 : cX9_wantSign.data.toList.drop 0 = dktX9_wantSign_0 := by decide +kernel
theorem dX9_wantSign_0 : decode cX9_wantSign 0 = .ok (.aload_n 0, 1) := dk_42 (dk_at dksX9_wantSign_0 0 rfl rfl)
theorem dX9_wantSign_1 : decode cX9_wantSign 1 = .ok (.iload_n 1, 1) := dk_27 (dk_at dksX9_wantSign_0 1 rfl rfl)
theorem dX9_wantSign_2 : decode cX9_wantSign 2 = .ok (.invokevirtual 183, 3) := dk_182 0 183 (dk_at dksX9_wantSign_0 2 rfl rfl)
theorem dX9_wantSign_5 : decode cX9_wantSign 5 = .ok (.ifCond .ne 9, 3) := dk_154 0 9 (dk_at dksX9_wantSign_0 5 rfl rfl)
theorem dX9_wantSign_8 : decode cX9_wantSign 8 = .ok (.aload_n 0, 1) := dk_42 (dk_at dksX9_wantSign_0 8 rfl rfl)
theorem dX9_wantSign_9 : decode cX9_wantSign 9 = .ok (.iconst 2, 1) := dk_5 (dk_at dksX9_wantSign_0 9 rfl rfl)
theorem dX9_wantSign_10 : decode cX9_wantSign 10 = .ok (.invokevirtual 186, 3) := dk_182 0 186 (dk_at dksX9_wantSign_0 10 rfl rfl)
theorem dX9_wantSign_13 : decode cX9_wantSign 13 = .ok (.ireturn, 1) := dk_172 (dk_at dksX9_wantSign_0 13 rfl rfl)
theorem dX9_wantSign_14 : decode cX9_wantSign 14 = .ok (.aload_n 0, 1) := dk_42 (dk_at dksX9_wantSign_0 14 rfl rfl)
theorem dX9_wantSign_15 : decode cX9_wantSign 15 = .ok (.invokevirtual 180, 3) := dk_182 0 180 (dk_at dksX9_wantSign_0 15 rfl rfl)
theorem dX9_wantSign_18 : decode cX9_wantSign 18 = .ok (.iconst 1, 1) := dk_4 (dk_at dksX9_wantSign_0 18 rfl rfl)
theorem dX9_wantSign_19 : decode cX9_wantSign 19 = .ok (.ireturn, 1) := dk_172 (dk_at dksX9_wantSign_0 19 rfl rfl)
abbrev cX9_isSign : ByteArray := prog_21_method_24_code
def yX9_isSign : MethodName := ⟨RX9, "isSign", "(I)Z"⟩
def dkwX9_isSign_0 : List UInt8 := [42, 180, 0, 149, 7, 160, 0, 15, 42, 180, 0, 146, 27, 160, 0, 7, 4, 167, 0, 4, 3, 172]
abbrev dktX9_isSign_0 : List UInt8 := dkwX9_isSign_0 ++ []
theorem dksX9_isSign_0 : cX9_isSign.data.toList.drop 0 = dktX9_isSign_0 := by decide +kernel
theorem dX9_isSign_0 : decode cX9_isSign 0 = .ok (.aload_n 0, 1) := dk_42 (dk_at dksX9_isSign_0 0 rfl rfl)
theorem dX9_isSign_1 : decode cX9_isSign 1 = .ok (.getfield 149, 3) := dk_180 0 149 (dk_at dksX9_isSign_0 1 rfl rfl)
theorem dX9_isSign_4 : decode cX9_isSign 4 = .ok (.iconst 4, 1) := dk_7 (dk_at dksX9_isSign_0 4 rfl rfl)
theorem dX9_isSign_5 : decode cX9_isSign 5 = .ok (.if_icmp .ne 15, 3) := dk_160 0 15 (dk_at dksX9_isSign_0 5 rfl rfl)
theorem dX9_isSign_8 : decode cX9_isSign 8 = .ok (.aload_n 0, 1) := dk_42 (dk_at dksX9_isSign_0 8 rfl rfl)
theorem dX9_isSign_9 : decode cX9_isSign 9 = .ok (.getfield 146, 3) := dk_180 0 146 (dk_at dksX9_isSign_0 9 rfl rfl)
theorem dX9_isSign_12 : decode cX9_isSign 12 = .ok (.iload_n 1, 1) := dk_27 (dk_at dksX9_isSign_0 12 rfl rfl)
theorem dX9_isSign_13 : decode cX9_isSign 13 = .ok (.if_icmp .ne 7, 3) := dk_160 0 7 (dk_at dksX9_isSign_0 13 rfl rfl)
theorem dX9_isSign_16 : decode cX9_isSign 16 = .ok (.iconst 1, 1) := dk_4 (dk_at dksX9_isSign_0 16 rfl rfl)
theorem dX9_isSign_17 : decode cX9_isSign 17 = .ok (.goto 4, 3) := dk_167 0 4 (dk_at dksX9_isSign_0 17 rfl rfl)
theorem dX9_isSign_20 : decode cX9_isSign 20 = .ok (.iconst 0, 1) := dk_3 (dk_at dksX9_isSign_0 20 rfl rfl)
theorem dX9_isSign_21 : decode cX9_isSign 21 = .ok (.ireturn, 1) := dk_172 (dk_at dksX9_isSign_0 21 rfl rfl)
abbrev cX9_startsOver : ByteArray := prog_21_method_46_code
def yX9_startsOver : MethodName := ⟨RX9, "startsOver", "()V"⟩
def dkwX9_startsOver_2 : List UInt8 := [180, 0, 7, 16, 106, 5, 27, 104, 96, 4, 96, 46, 79, 132, 1, 1, 167, 255, 226, 177]
abbrev dktX9_startsOver_2 : List UInt8 := dkwX9_startsOver_2 ++ []
def dkwX9_startsOver_1 : List UInt8 := [132, 1, 1, 167, 255, 233, 3, 60, 27, 5, 162, 0, 31, 42, 180, 0, 7, 16, 114, 27, 96, 42]
abbrev dktX9_startsOver_1 : List UInt8 := dkwX9_startsOver_1 ++ dktX9_startsOver_2
def dkwX9_startsOver_0 : List UInt8 := [3, 60, 27, 7, 162, 0, 24, 42, 180, 0, 7, 16, 110, 27, 96, 42, 27, 4, 182, 1, 2, 79]
abbrev dktX9_startsOver_0 : List UInt8 := dkwX9_startsOver_0 ++ dktX9_startsOver_1
theorem dksX9_startsOver_0 : cX9_startsOver.data.toList.drop 0 = dktX9_startsOver_0 := by decide +kernel
theorem dksX9_startsOver_1 : cX9_startsOver.data.toList.drop 22 = dktX9_startsOver_1 := dk_seg dksX9_startsOver_0 22 rfl rfl
theorem dksX9_startsOver_2 : cX9_startsOver.data.toList.drop 44 = dktX9_startsOver_2 := dk_seg dksX9_startsOver_1 22 rfl rfl
theorem dX9_startsOver_0 : decode cX9_startsOver 0 = .ok (.iconst 0, 1) := dk_3 (dk_at dksX9_startsOver_0 0 rfl rfl)
theorem dX9_startsOver_1 : decode cX9_startsOver 1 = .ok (.istore_n 1, 1) := dk_60 (dk_at dksX9_startsOver_0 1 rfl rfl)
theorem dX9_startsOver_2 : decode cX9_startsOver 2 = .ok (.iload_n 1, 1) := dk_27 (dk_at dksX9_startsOver_0 2 rfl rfl)
theorem dX9_startsOver_3 : decode cX9_startsOver 3 = .ok (.iconst 4, 1) := dk_7 (dk_at dksX9_startsOver_0 3 rfl rfl)
theorem dX9_startsOver_4 : decode cX9_startsOver 4 = .ok (.if_icmp .ge 24, 3) := dk_162 0 24 (dk_at dksX9_startsOver_0 4 rfl rfl)
theorem dX9_startsOver_7 : decode cX9_startsOver 7 = .ok (.aload_n 0, 1) := dk_42 (dk_at dksX9_startsOver_0 7 rfl rfl)
theorem dX9_startsOver_8 : decode cX9_startsOver 8 = .ok (.getfield 7, 3) := dk_180 0 7 (dk_at dksX9_startsOver_0 8 rfl rfl)
theorem dX9_startsOver_11 : decode cX9_startsOver 11 = .ok (.bipush 110, 2) := dk_16 110 (dk_at dksX9_startsOver_0 11 rfl rfl)
theorem dX9_startsOver_13 : decode cX9_startsOver 13 = .ok (.iload_n 1, 1) := dk_27 (dk_at dksX9_startsOver_0 13 rfl rfl)
theorem dX9_startsOver_14 : decode cX9_startsOver 14 = .ok (.iadd, 1) := dk_96 (dk_at dksX9_startsOver_0 14 rfl rfl)
theorem dX9_startsOver_15 : decode cX9_startsOver 15 = .ok (.aload_n 0, 1) := dk_42 (dk_at dksX9_startsOver_0 15 rfl rfl)
theorem dX9_startsOver_16 : decode cX9_startsOver 16 = .ok (.iload_n 1, 1) := dk_27 (dk_at dksX9_startsOver_0 16 rfl rfl)
theorem dX9_startsOver_17 : decode cX9_startsOver 17 = .ok (.iconst 1, 1) := dk_4 (dk_at dksX9_startsOver_0 17 rfl rfl)
theorem dX9_startsOver_18 : decode cX9_startsOver 18 = .ok (.invokevirtual 258, 3) := dk_182 1 2 (dk_at dksX9_startsOver_0 18 rfl rfl)
theorem dX9_startsOver_21 : decode cX9_startsOver 21 = .ok (.iastore, 1) := dk_79 (dk_at dksX9_startsOver_0 21 rfl rfl)
theorem dX9_startsOver_22 : decode cX9_startsOver 22 = .ok (.iinc 1 1, 3) := dk_132 1 1 (dk_at dksX9_startsOver_1 0 rfl rfl)
theorem dX9_startsOver_25 : decode cX9_startsOver 25 = .ok (.goto (-23), 3) := dk_167 255 233 (dk_at dksX9_startsOver_1 3 rfl rfl)
theorem dX9_startsOver_28 : decode cX9_startsOver 28 = .ok (.iconst 0, 1) := dk_3 (dk_at dksX9_startsOver_1 6 rfl rfl)
theorem dX9_startsOver_29 : decode cX9_startsOver 29 = .ok (.istore_n 1, 1) := dk_60 (dk_at dksX9_startsOver_1 7 rfl rfl)
theorem dX9_startsOver_30 : decode cX9_startsOver 30 = .ok (.iload_n 1, 1) := dk_27 (dk_at dksX9_startsOver_1 8 rfl rfl)
theorem dX9_startsOver_31 : decode cX9_startsOver 31 = .ok (.iconst 2, 1) := dk_5 (dk_at dksX9_startsOver_1 9 rfl rfl)
theorem dX9_startsOver_32 : decode cX9_startsOver 32 = .ok (.if_icmp .ge 31, 3) := dk_162 0 31 (dk_at dksX9_startsOver_1 10 rfl rfl)
theorem dX9_startsOver_35 : decode cX9_startsOver 35 = .ok (.aload_n 0, 1) := dk_42 (dk_at dksX9_startsOver_1 13 rfl rfl)
theorem dX9_startsOver_36 : decode cX9_startsOver 36 = .ok (.getfield 7, 3) := dk_180 0 7 (dk_at dksX9_startsOver_1 14 rfl rfl)
theorem dX9_startsOver_39 : decode cX9_startsOver 39 = .ok (.bipush 114, 2) := dk_16 114 (dk_at dksX9_startsOver_1 17 rfl rfl)
theorem dX9_startsOver_41 : decode cX9_startsOver 41 = .ok (.iload_n 1, 1) := dk_27 (dk_at dksX9_startsOver_1 19 rfl rfl)
theorem dX9_startsOver_42 : decode cX9_startsOver 42 = .ok (.iadd, 1) := dk_96 (dk_at dksX9_startsOver_1 20 rfl rfl)
theorem dX9_startsOver_43 : decode cX9_startsOver 43 = .ok (.aload_n 0, 1) := dk_42 (dk_at dksX9_startsOver_1 21 rfl rfl)
theorem dX9_startsOver_44 : decode cX9_startsOver 44 = .ok (.getfield 7, 3) := dk_180 0 7 (dk_at dksX9_startsOver_2 0 rfl rfl)
theorem dX9_startsOver_47 : decode cX9_startsOver 47 = .ok (.bipush 106, 2) := dk_16 106 (dk_at dksX9_startsOver_2 3 rfl rfl)
theorem dX9_startsOver_49 : decode cX9_startsOver 49 = .ok (.iconst 2, 1) := dk_5 (dk_at dksX9_startsOver_2 5 rfl rfl)
theorem dX9_startsOver_50 : decode cX9_startsOver 50 = .ok (.iload_n 1, 1) := dk_27 (dk_at dksX9_startsOver_2 6 rfl rfl)
theorem dX9_startsOver_51 : decode cX9_startsOver 51 = .ok (.imul, 1) := dk_104 (dk_at dksX9_startsOver_2 7 rfl rfl)
theorem dX9_startsOver_52 : decode cX9_startsOver 52 = .ok (.iadd, 1) := dk_96 (dk_at dksX9_startsOver_2 8 rfl rfl)
theorem dX9_startsOver_53 : decode cX9_startsOver 53 = .ok (.iconst 1, 1) := dk_4 (dk_at dksX9_startsOver_2 9 rfl rfl)
theorem dX9_startsOver_54 : decode cX9_startsOver 54 = .ok (.iadd, 1) := dk_96 (dk_at dksX9_startsOver_2 10 rfl rfl)
theorem dX9_startsOver_55 : decode cX9_startsOver 55 = .ok (.iaload, 1) := dk_46 (dk_at dksX9_startsOver_2 11 rfl rfl)
theorem dX9_startsOver_56 : decode cX9_startsOver 56 = .ok (.iastore, 1) := dk_79 (dk_at dksX9_startsOver_2 12 rfl rfl)
theorem dX9_startsOver_57 : decode cX9_startsOver 57 = .ok (.iinc 1 1, 3) := dk_132 1 1 (dk_at dksX9_startsOver_2 13 rfl rfl)
theorem dX9_startsOver_60 : decode cX9_startsOver 60 = .ok (.goto (-30), 3) := dk_167 255 226 (dk_at dksX9_startsOver_2 16 rfl rfl)
theorem dX9_startsOver_63 : decode cX9_startsOver 63 = .ok (.return_, 1) := dk_177 (dk_at dksX9_startsOver_2 19 rfl rfl)
abbrev cX9_ofPerson : ByteArray := prog_21_method_58_code
def yX9_ofPerson : MethodName := ⟨RX9, "ofPerson", "(II)I"⟩
def dkwX9_ofPerson_0 : List UInt8 := [42, 180, 0, 7, 16, 86, 8, 27, 104, 96, 28, 96, 46, 172]
abbrev dktX9_ofPerson_0 : List UInt8 := dkwX9_ofPerson_0 ++ []
theorem dksX9_ofPerson_0 : cX9_ofPerson.data.toList.drop 0 = dktX9_ofPerson_0 := by decide +kernel
theorem dX9_ofPerson_0 : decode cX9_ofPerson 0 = .ok (.aload_n 0, 1) := dk_42 (dk_at dksX9_ofPerson_0 0 rfl rfl)
theorem dX9_ofPerson_1 : decode cX9_ofPerson 1 = .ok (.getfield 7, 3) := dk_180 0 7 (dk_at dksX9_ofPerson_0 1 rfl rfl)
theorem dX9_ofPerson_4 : decode cX9_ofPerson 4 = .ok (.bipush 86, 2) := dk_16 86 (dk_at dksX9_ofPerson_0 4 rfl rfl)
theorem dX9_ofPerson_6 : decode cX9_ofPerson 6 = .ok (.iconst 5, 1) := dk_8 (dk_at dksX9_ofPerson_0 6 rfl rfl)
theorem dX9_ofPerson_7 : decode cX9_ofPerson 7 = .ok (.iload_n 1, 1) := dk_27 (dk_at dksX9_ofPerson_0 7 rfl rfl)
theorem dX9_ofPerson_8 : decode cX9_ofPerson 8 = .ok (.imul, 1) := dk_104 (dk_at dksX9_ofPerson_0 8 rfl rfl)
theorem dX9_ofPerson_9 : decode cX9_ofPerson 9 = .ok (.iadd, 1) := dk_96 (dk_at dksX9_ofPerson_0 9 rfl rfl)
theorem dX9_ofPerson_10 : decode cX9_ofPerson 10 = .ok (.iload_n 2, 1) := dk_28 (dk_at dksX9_ofPerson_0 10 rfl rfl)
theorem dX9_ofPerson_11 : decode cX9_ofPerson 11 = .ok (.iadd, 1) := dk_96 (dk_at dksX9_ofPerson_0 11 rfl rfl)
theorem dX9_ofPerson_12 : decode cX9_ofPerson 12 = .ok (.iaload, 1) := dk_46 (dk_at dksX9_ofPerson_0 12 rfl rfl)
theorem dX9_ofPerson_13 : decode cX9_ofPerson 13 = .ok (.ireturn, 1) := dk_172 (dk_at dksX9_ofPerson_0 13 rfl rfl)
abbrev cX9_taken : ByteArray := prog_21_method_35_code
def yX9_taken : MethodName := ⟨RX9, "taken", "(I)I"⟩
def dkwX9_taken_1 : List UInt8 := [42, 27, 182, 0, 107, 172]
abbrev dktX9_taken_1 : List UInt8 := dkwX9_taken_1 ++ []
def dkwX9_taken_0 : List UInt8 := [42, 42, 180, 0, 174, 181, 0, 37, 42, 180, 0, 174, 158, 0, 12, 42, 16, 9, 182, 0, 103, 167, 0, 8]
abbrev dktX9_taken_0 : List UInt8 := dkwX9_taken_0 ++ dktX9_taken_1
theorem dksX9_taken_0 : cX9_taken.data.toList.drop 0 = dktX9_taken_0 := by decide +kernel
theorem dksX9_taken_1 : cX9_taken.data.toList.drop 24 = dktX9_taken_1 := dk_seg dksX9_taken_0 24 rfl rfl
theorem dX9_taken_0 : decode cX9_taken 0 = .ok (.aload_n 0, 1) := dk_42 (dk_at dksX9_taken_0 0 rfl rfl)
theorem dX9_taken_1 : decode cX9_taken 1 = .ok (.aload_n 0, 1) := dk_42 (dk_at dksX9_taken_0 1 rfl rfl)
theorem dX9_taken_2 : decode cX9_taken 2 = .ok (.getfield 174, 3) := dk_180 0 174 (dk_at dksX9_taken_0 2 rfl rfl)
theorem dX9_taken_5 : decode cX9_taken 5 = .ok (.putfield 37, 3) := dk_181 0 37 (dk_at dksX9_taken_0 5 rfl rfl)
theorem dX9_taken_8 : decode cX9_taken 8 = .ok (.aload_n 0, 1) := dk_42 (dk_at dksX9_taken_0 8 rfl rfl)
theorem dX9_taken_9 : decode cX9_taken 9 = .ok (.getfield 174, 3) := dk_180 0 174 (dk_at dksX9_taken_0 9 rfl rfl)
theorem dX9_taken_12 : decode cX9_taken 12 = .ok (.ifCond .le 12, 3) := dk_158 0 12 (dk_at dksX9_taken_0 12 rfl rfl)
theorem dX9_taken_15 : decode cX9_taken 15 = .ok (.aload_n 0, 1) := dk_42 (dk_at dksX9_taken_0 15 rfl rfl)
theorem dX9_taken_16 : decode cX9_taken 16 = .ok (.bipush 9, 2) := dk_16 9 (dk_at dksX9_taken_0 16 rfl rfl)
theorem dX9_taken_18 : decode cX9_taken 18 = .ok (.invokevirtual 103, 3) := dk_182 0 103 (dk_at dksX9_taken_0 18 rfl rfl)
theorem dX9_taken_21 : decode cX9_taken 21 = .ok (.goto 8, 3) := dk_167 0 8 (dk_at dksX9_taken_0 21 rfl rfl)
theorem dX9_taken_24 : decode cX9_taken 24 = .ok (.aload_n 0, 1) := dk_42 (dk_at dksX9_taken_1 0 rfl rfl)
theorem dX9_taken_25 : decode cX9_taken 25 = .ok (.iload_n 1, 1) := dk_27 (dk_at dksX9_taken_1 1 rfl rfl)
theorem dX9_taken_26 : decode cX9_taken 26 = .ok (.invokevirtual 107, 3) := dk_182 0 107 (dk_at dksX9_taken_1 2 rfl rfl)
theorem dX9_taken_29 : decode cX9_taken 29 = .ok (.ireturn, 1) := dk_172 (dk_at dksX9_taken_1 5 rfl rfl)
abbrev cX9_gives : ByteArray := prog_21_method_7_code
def yX9_gives : MethodName := ⟨RX9, "gives", "(I)I"⟩
def dkwX9_gives_0 : List UInt8 := [42, 3, 181, 0, 97, 27, 172]
abbrev dktX9_gives_0 : List UInt8 := dkwX9_gives_0 ++ []
theorem dksX9_gives_0 : cX9_gives.data.toList.drop 0 = dktX9_gives_0 := by decide +kernel
theorem dX9_gives_0 : decode cX9_gives 0 = .ok (.aload_n 0, 1) := dk_42 (dk_at dksX9_gives_0 0 rfl rfl)
theorem dX9_gives_1 : decode cX9_gives 1 = .ok (.iconst 0, 1) := dk_3 (dk_at dksX9_gives_0 1 rfl rfl)
theorem dX9_gives_2 : decode cX9_gives 2 = .ok (.putfield 97, 3) := dk_181 0 97 (dk_at dksX9_gives_0 2 rfl rfl)
theorem dX9_gives_5 : decode cX9_gives 5 = .ok (.iload_n 1, 1) := dk_27 (dk_at dksX9_gives_0 5 rfl rfl)
theorem dX9_gives_6 : decode cX9_gives 6 = .ok (.ireturn, 1) := dk_172 (dk_at dksX9_gives_0 6 rfl rfl)
abbrev cX9_orders : ByteArray := prog_21_method_52_code
def yX9_orders : MethodName := ⟨RX9, "orders", "(I)I"⟩
def dkwX9_orders_6 : List UInt8 := [172]
abbrev dktX9_orders_6 : List UInt8 := dkwX9_orders_6 ++ []
def dkwX9_orders_5 : List UInt8 := [180, 0, 7, 17, 6, 184, 29, 96, 46, 79, 132, 3, 1, 167, 255, 230, 42, 42, 180, 1, 17, 182, 0, 255]
abbrev dktX9_orders_5 : List UInt8 := dkwX9_orders_5 ++ dktX9_orders_6
def dkwX9_orders_4 : List UInt8 := [180, 0, 7, 17, 6, 188, 46, 79, 16, 120, 62, 29, 17, 1, 174, 162, 0, 25, 42, 180, 0, 7, 29, 42]
abbrev dktX9_orders_4 : List UInt8 := dkwX9_orders_4 ++ dktX9_orders_5
def dkwX9_orders_3 : List UInt8 := [158, 0, 9, 42, 5, 182, 0, 186, 87, 42, 180, 0, 174, 154, 0, 49, 42, 180, 0, 7, 7, 42]
abbrev dktX9_orders_3 : List UInt8 := dkwX9_orders_3 ++ dktX9_orders_4
def dkwX9_orders_2 : List UInt8 := [153, 0, 11, 42, 182, 1, 23, 61, 167, 255, 240, 42, 180, 0, 174, 154, 0, 16, 42, 180, 1, 14]
abbrev dktX9_orders_2 : List UInt8 := dkwX9_orders_2 ++ dktX9_orders_3
def dkwX9_orders_1 : List UInt8 := [3, 79, 42, 3, 181, 1, 14, 42, 3, 181, 1, 17, 4, 61, 28, 153, 0, 18, 42, 180, 0, 149]
abbrev dktX9_orders_1 : List UInt8 := dkwX9_orders_1 ++ dktX9_orders_2
def dkwX9_orders_0 : List UInt8 := [42, 27, 17, 1, 44, 182, 0, 245, 154, 0, 9, 42, 4, 182, 0, 103, 172, 42, 180, 0, 7, 17, 6, 188]
abbrev dktX9_orders_0 : List UInt8 := dkwX9_orders_0 ++ dktX9_orders_1
theorem dksX9_orders_0 : cX9_orders.data.toList.drop 0 = dktX9_orders_0 := by decide +kernel
theorem dksX9_orders_1 : cX9_orders.data.toList.drop 24 = dktX9_orders_1 := dk_seg dksX9_orders_0 24 rfl rfl
theorem dksX9_orders_2 : cX9_orders.data.toList.drop 46 = dktX9_orders_2 := dk_seg dksX9_orders_1 22 rfl rfl
theorem dksX9_orders_3 : cX9_orders.data.toList.drop 68 = dktX9_orders_3 := dk_seg dksX9_orders_2 22 rfl rfl
theorem dksX9_orders_4 : cX9_orders.data.toList.drop 90 = dktX9_orders_4 := dk_seg dksX9_orders_3 22 rfl rfl
theorem dksX9_orders_5 : cX9_orders.data.toList.drop 114 = dktX9_orders_5 := dk_seg dksX9_orders_4 24 rfl rfl
theorem dksX9_orders_6 : cX9_orders.data.toList.drop 138 = dktX9_orders_6 := dk_seg dksX9_orders_5 24 rfl rfl
theorem dX9_orders_0 : decode cX9_orders 0 = .ok (.aload_n 0, 1) := dk_42 (dk_at dksX9_orders_0 0 rfl rfl)
theorem dX9_orders_1 : decode cX9_orders 1 = .ok (.iload_n 1, 1) := dk_27 (dk_at dksX9_orders_0 1 rfl rfl)
theorem dX9_orders_2 : decode cX9_orders 2 = .ok (.sipush 300, 3) := dk_17 1 44 (dk_at dksX9_orders_0 2 rfl rfl)
theorem dX9_orders_5 : decode cX9_orders 5 = .ok (.invokevirtual 245, 3) := dk_182 0 245 (dk_at dksX9_orders_0 5 rfl rfl)
theorem dX9_orders_8 : decode cX9_orders 8 = .ok (.ifCond .ne 9, 3) := dk_154 0 9 (dk_at dksX9_orders_0 8 rfl rfl)
theorem dX9_orders_11 : decode cX9_orders 11 = .ok (.aload_n 0, 1) := dk_42 (dk_at dksX9_orders_0 11 rfl rfl)
theorem dX9_orders_12 : decode cX9_orders 12 = .ok (.iconst 1, 1) := dk_4 (dk_at dksX9_orders_0 12 rfl rfl)
theorem dX9_orders_13 : decode cX9_orders 13 = .ok (.invokevirtual 103, 3) := dk_182 0 103 (dk_at dksX9_orders_0 13 rfl rfl)
theorem dX9_orders_16 : decode cX9_orders 16 = .ok (.ireturn, 1) := dk_172 (dk_at dksX9_orders_0 16 rfl rfl)
theorem dX9_orders_17 : decode cX9_orders 17 = .ok (.aload_n 0, 1) := dk_42 (dk_at dksX9_orders_0 17 rfl rfl)
theorem dX9_orders_18 : decode cX9_orders 18 = .ok (.getfield 7, 3) := dk_180 0 7 (dk_at dksX9_orders_0 18 rfl rfl)
theorem dX9_orders_21 : decode cX9_orders 21 = .ok (.sipush 1724, 3) := dk_17 6 188 (dk_at dksX9_orders_0 21 rfl rfl)
theorem dX9_orders_24 : decode cX9_orders 24 = .ok (.iconst 0, 1) := dk_3 (dk_at dksX9_orders_1 0 rfl rfl)
theorem dX9_orders_25 : decode cX9_orders 25 = .ok (.iastore, 1) := dk_79 (dk_at dksX9_orders_1 1 rfl rfl)
theorem dX9_orders_26 : decode cX9_orders 26 = .ok (.aload_n 0, 1) := dk_42 (dk_at dksX9_orders_1 2 rfl rfl)
theorem dX9_orders_27 : decode cX9_orders 27 = .ok (.iconst 0, 1) := dk_3 (dk_at dksX9_orders_1 3 rfl rfl)
theorem dX9_orders_28 : decode cX9_orders 28 = .ok (.putfield 270, 3) := dk_181 1 14 (dk_at dksX9_orders_1 4 rfl rfl)
theorem dX9_orders_31 : decode cX9_orders 31 = .ok (.aload_n 0, 1) := dk_42 (dk_at dksX9_orders_1 7 rfl rfl)
theorem dX9_orders_32 : decode cX9_orders 32 = .ok (.iconst 0, 1) := dk_3 (dk_at dksX9_orders_1 8 rfl rfl)
theorem dX9_orders_33 : decode cX9_orders 33 = .ok (.putfield 273, 3) := dk_181 1 17 (dk_at dksX9_orders_1 9 rfl rfl)
theorem dX9_orders_36 : decode cX9_orders 36 = .ok (.iconst 1, 1) := dk_4 (dk_at dksX9_orders_1 12 rfl rfl)
theorem dX9_orders_37 : decode cX9_orders 37 = .ok (.istore_n 2, 1) := dk_61 (dk_at dksX9_orders_1 13 rfl rfl)
theorem dX9_orders_38 : decode cX9_orders 38 = .ok (.iload_n 2, 1) := dk_28 (dk_at dksX9_orders_1 14 rfl rfl)
theorem dX9_orders_39 : decode cX9_orders 39 = .ok (.ifCond .eq 18, 3) := dk_153 0 18 (dk_at dksX9_orders_1 15 rfl rfl)
theorem dX9_orders_42 : decode cX9_orders 42 = .ok (.aload_n 0, 1) := dk_42 (dk_at dksX9_orders_1 18 rfl rfl)
theorem dX9_orders_43 : decode cX9_orders 43 = .ok (.getfield 149, 3) := dk_180 0 149 (dk_at dksX9_orders_1 19 rfl rfl)
theorem dX9_orders_46 : decode cX9_orders 46 = .ok (.ifCond .eq 11, 3) := dk_153 0 11 (dk_at dksX9_orders_2 0 rfl rfl)
theorem dX9_orders_49 : decode cX9_orders 49 = .ok (.aload_n 0, 1) := dk_42 (dk_at dksX9_orders_2 3 rfl rfl)
theorem dX9_orders_50 : decode cX9_orders 50 = .ok (.invokevirtual 279, 3) := dk_182 1 23 (dk_at dksX9_orders_2 4 rfl rfl)
theorem dX9_orders_53 : decode cX9_orders 53 = .ok (.istore_n 2, 1) := dk_61 (dk_at dksX9_orders_2 7 rfl rfl)
theorem dX9_orders_54 : decode cX9_orders 54 = .ok (.goto (-16), 3) := dk_167 255 240 (dk_at dksX9_orders_2 8 rfl rfl)
theorem dX9_orders_57 : decode cX9_orders 57 = .ok (.aload_n 0, 1) := dk_42 (dk_at dksX9_orders_2 11 rfl rfl)
theorem dX9_orders_58 : decode cX9_orders 58 = .ok (.getfield 174, 3) := dk_180 0 174 (dk_at dksX9_orders_2 12 rfl rfl)
theorem dX9_orders_61 : decode cX9_orders 61 = .ok (.ifCond .ne 16, 3) := dk_154 0 16 (dk_at dksX9_orders_2 15 rfl rfl)
theorem dX9_orders_64 : decode cX9_orders 64 = .ok (.aload_n 0, 1) := dk_42 (dk_at dksX9_orders_2 18 rfl rfl)
theorem dX9_orders_65 : decode cX9_orders 65 = .ok (.getfield 270, 3) := dk_180 1 14 (dk_at dksX9_orders_2 19 rfl rfl)
theorem dX9_orders_68 : decode cX9_orders 68 = .ok (.ifCond .le 9, 3) := dk_158 0 9 (dk_at dksX9_orders_3 0 rfl rfl)
theorem dX9_orders_71 : decode cX9_orders 71 = .ok (.aload_n 0, 1) := dk_42 (dk_at dksX9_orders_3 3 rfl rfl)
theorem dX9_orders_72 : decode cX9_orders 72 = .ok (.iconst 2, 1) := dk_5 (dk_at dksX9_orders_3 4 rfl rfl)
theorem dX9_orders_73 : decode cX9_orders 73 = .ok (.invokevirtual 186, 3) := dk_182 0 186 (dk_at dksX9_orders_3 5 rfl rfl)
theorem dX9_orders_76 : decode cX9_orders 76 = .ok (.pop, 1) := dk_87 (dk_at dksX9_orders_3 8 rfl rfl)
theorem dX9_orders_77 : decode cX9_orders 77 = .ok (.aload_n 0, 1) := dk_42 (dk_at dksX9_orders_3 9 rfl rfl)
theorem dX9_orders_78 : decode cX9_orders 78 = .ok (.getfield 174, 3) := dk_180 0 174 (dk_at dksX9_orders_3 10 rfl rfl)
theorem dX9_orders_81 : decode cX9_orders 81 = .ok (.ifCond .ne 49, 3) := dk_154 0 49 (dk_at dksX9_orders_3 13 rfl rfl)
theorem dX9_orders_84 : decode cX9_orders 84 = .ok (.aload_n 0, 1) := dk_42 (dk_at dksX9_orders_3 16 rfl rfl)
theorem dX9_orders_85 : decode cX9_orders 85 = .ok (.getfield 7, 3) := dk_180 0 7 (dk_at dksX9_orders_3 17 rfl rfl)
theorem dX9_orders_88 : decode cX9_orders 88 = .ok (.iconst 4, 1) := dk_7 (dk_at dksX9_orders_3 20 rfl rfl)
theorem dX9_orders_89 : decode cX9_orders 89 = .ok (.aload_n 0, 1) := dk_42 (dk_at dksX9_orders_3 21 rfl rfl)
theorem dX9_orders_90 : decode cX9_orders 90 = .ok (.getfield 7, 3) := dk_180 0 7 (dk_at dksX9_orders_4 0 rfl rfl)
theorem dX9_orders_93 : decode cX9_orders 93 = .ok (.sipush 1724, 3) := dk_17 6 188 (dk_at dksX9_orders_4 3 rfl rfl)
theorem dX9_orders_96 : decode cX9_orders 96 = .ok (.iaload, 1) := dk_46 (dk_at dksX9_orders_4 6 rfl rfl)
theorem dX9_orders_97 : decode cX9_orders 97 = .ok (.iastore, 1) := dk_79 (dk_at dksX9_orders_4 7 rfl rfl)
theorem dX9_orders_98 : decode cX9_orders 98 = .ok (.bipush 120, 2) := dk_16 120 (dk_at dksX9_orders_4 8 rfl rfl)
theorem dX9_orders_100 : decode cX9_orders 100 = .ok (.istore_n 3, 1) := dk_62 (dk_at dksX9_orders_4 10 rfl rfl)
theorem dX9_orders_101 : decode cX9_orders 101 = .ok (.iload_n 3, 1) := dk_29 (dk_at dksX9_orders_4 11 rfl rfl)
theorem dX9_orders_102 : decode cX9_orders 102 = .ok (.sipush 430, 3) := dk_17 1 174 (dk_at dksX9_orders_4 12 rfl rfl)
theorem dX9_orders_105 : decode cX9_orders 105 = .ok (.if_icmp .ge 25, 3) := dk_162 0 25 (dk_at dksX9_orders_4 15 rfl rfl)
theorem dX9_orders_108 : decode cX9_orders 108 = .ok (.aload_n 0, 1) := dk_42 (dk_at dksX9_orders_4 18 rfl rfl)
theorem dX9_orders_109 : decode cX9_orders 109 = .ok (.getfield 7, 3) := dk_180 0 7 (dk_at dksX9_orders_4 19 rfl rfl)
theorem dX9_orders_112 : decode cX9_orders 112 = .ok (.iload_n 3, 1) := dk_29 (dk_at dksX9_orders_4 22 rfl rfl)
theorem dX9_orders_113 : decode cX9_orders 113 = .ok (.aload_n 0, 1) := dk_42 (dk_at dksX9_orders_4 23 rfl rfl)
theorem dX9_orders_114 : decode cX9_orders 114 = .ok (.getfield 7, 3) := dk_180 0 7 (dk_at dksX9_orders_5 0 rfl rfl)
theorem dX9_orders_117 : decode cX9_orders 117 = .ok (.sipush 1720, 3) := dk_17 6 184 (dk_at dksX9_orders_5 3 rfl rfl)
theorem dX9_orders_120 : decode cX9_orders 120 = .ok (.iload_n 3, 1) := dk_29 (dk_at dksX9_orders_5 6 rfl rfl)
theorem dX9_orders_121 : decode cX9_orders 121 = .ok (.iadd, 1) := dk_96 (dk_at dksX9_orders_5 7 rfl rfl)
theorem dX9_orders_122 : decode cX9_orders 122 = .ok (.iaload, 1) := dk_46 (dk_at dksX9_orders_5 8 rfl rfl)
theorem dX9_orders_123 : decode cX9_orders 123 = .ok (.iastore, 1) := dk_79 (dk_at dksX9_orders_5 9 rfl rfl)
theorem dX9_orders_124 : decode cX9_orders 124 = .ok (.iinc 3 1, 3) := dk_132 3 1 (dk_at dksX9_orders_5 10 rfl rfl)
theorem dX9_orders_127 : decode cX9_orders 127 = .ok (.goto (-26), 3) := dk_167 255 230 (dk_at dksX9_orders_5 13 rfl rfl)
theorem dX9_orders_130 : decode cX9_orders 130 = .ok (.aload_n 0, 1) := dk_42 (dk_at dksX9_orders_5 16 rfl rfl)
theorem dX9_orders_131 : decode cX9_orders 131 = .ok (.aload_n 0, 1) := dk_42 (dk_at dksX9_orders_5 17 rfl rfl)
theorem dX9_orders_132 : decode cX9_orders 132 = .ok (.getfield 273, 3) := dk_180 1 17 (dk_at dksX9_orders_5 18 rfl rfl)
theorem dX9_orders_135 : decode cX9_orders 135 = .ok (.invokevirtual 255, 3) := dk_182 0 255 (dk_at dksX9_orders_5 21 rfl rfl)
theorem dX9_orders_138 : decode cX9_orders 138 = .ok (.ireturn, 1) := dk_172 (dk_at dksX9_orders_6 0 rfl rfl)
abbrev cX9_step : ByteArray := prog_21_method_51_code
def yX9_step : MethodName := ⟨RX9, "step", "()Z"⟩
def dkwX9_step_13 : List UInt8 := [42, 180, 1, 14, 46, 104, 96, 7, 96, 28, 79, 42, 16, 59, 182, 0, 242, 172]
abbrev dktX9_step_13 : List UInt8 := dkwX9_step_13 ++ []
def dkwX9_step_12 : List UInt8 := [7, 96, 42, 180, 0, 44, 42, 180, 1, 14, 46, 79, 42, 180, 0, 7, 17, 7, 48, 8, 42, 180, 0, 44]
abbrev dktX9_step_12 : List UInt8 := dkwX9_step_12 ++ dktX9_step_13
def dkwX9_step_11 : List UInt8 := [181, 1, 14, 27, 16, 28, 160, 0, 53, 42, 89, 180, 1, 14, 4, 100, 181, 1, 14, 42, 180, 0, 7, 29]
abbrev dktX9_step_11 : List UInt8 := dkwX9_step_11 ++ dktX9_step_12
def dkwX9_step_10 : List UInt8 := [21, 4, 153, 0, 23, 42, 180, 0, 44, 42, 180, 1, 14, 28, 79, 42, 89, 180, 1, 14, 4, 96]
abbrev dktX9_step_10 : List UInt8 := dkwX9_step_10 ++ dktX9_step_11
def dkwX9_step_9 : List UInt8 := [17, 6, 188, 92, 46, 4, 96, 79, 42, 182, 0, 180, 42, 27, 29, 182, 1, 20, 154, 0, 5, 3, 172]
abbrev dktX9_step_9 : List UInt8 := dkwX9_step_9 ++ dktX9_step_10
def dkwX9_step_8 : List UInt8 := [8, 162, 0, 19, 42, 180, 0, 7, 29, 21, 6, 96, 2, 79, 132, 6, 1, 167, 255, 237, 42, 180, 0, 7]
abbrev dktX9_step_8 : List UInt8 := dkwX9_step_8 ++ dktX9_step_9
def dkwX9_step_7 : List UInt8 := [160, 0, 7, 3, 167, 0, 4, 4, 96, 181, 1, 17, 42, 180, 0, 7, 29, 27, 79, 4, 54, 6, 21, 6]
abbrev dktX9_step_7 : List UInt8 := dkwX9_step_7 ++ dktX9_step_8
def dkwX9_step_6 : List UInt8 := [180, 1, 14, 6, 160, 0, 10, 42, 16, 7, 182, 0, 186, 172, 42, 89, 180, 1, 17, 27, 16, 28]
abbrev dktX9_step_6 : List UInt8 := dkwX9_step_6 ++ dktX9_step_7
def dkwX9_step_5 : List UInt8 := [42, 180, 1, 17, 16, 30, 160, 0, 10, 42, 16, 6, 182, 0, 186, 172, 21, 4, 153, 0, 18, 42]
abbrev dktX9_step_5 : List UInt8 := dkwX9_step_5 ++ dktX9_step_6
def dkwX9_step_4 : List UInt8 := [16, 28, 160, 0, 10, 42, 180, 1, 14, 154, 0, 9, 42, 5, 182, 0, 186, 172, 27, 16, 28, 159, 0, 19]
abbrev dktX9_step_4 : List UInt8 := dkwX9_step_4 ++ dktX9_step_5
def dkwX9_step_3 : List UInt8 := [167, 0, 4, 3, 54, 5, 21, 5, 154, 0, 33, 21, 4, 154, 0, 28, 27, 16, 29, 159, 0, 22, 27]
abbrev dktX9_step_3 : List UInt8 := dkwX9_step_3 ++ dktX9_step_4
def dkwX9_step_2 : List UInt8 := [159, 0, 21, 27, 16, 20, 159, 0, 15, 27, 16, 22, 159, 0, 9, 27, 16, 23, 160, 0, 7, 4]
abbrev dktX9_step_2 : List UInt8 := dkwX9_step_2 ++ dktX9_step_3
def dkwX9_step_1 : List UInt8 := [27, 16, 24, 159, 0, 9, 27, 16, 27, 160, 0, 7, 4, 167, 0, 4, 3, 54, 4, 27, 16, 19]
abbrev dktX9_step_1 : List UInt8 := dkwX9_step_1 ++ dktX9_step_2
def dkwX9_step_0 : List UInt8 := [42, 18, 200, 182, 0, 189, 60, 42, 180, 0, 7, 17, 6, 188, 46, 61, 17, 7, 48, 8, 28, 104, 96, 62]
abbrev dktX9_step_0 : List UInt8 := dkwX9_step_0 ++ dktX9_step_1
theorem dksX9_step_0 : cX9_step.data.toList.drop 0 = dktX9_step_0 := by decide +kernel
theorem dksX9_step_1 : cX9_step.data.toList.drop 24 = dktX9_step_1 := dk_seg dksX9_step_0 24 rfl rfl
theorem dksX9_step_2 : cX9_step.data.toList.drop 46 = dktX9_step_2 := dk_seg dksX9_step_1 22 rfl rfl
theorem dksX9_step_3 : cX9_step.data.toList.drop 68 = dktX9_step_3 := dk_seg dksX9_step_2 22 rfl rfl
theorem dksX9_step_4 : cX9_step.data.toList.drop 91 = dktX9_step_4 := dk_seg dksX9_step_3 23 rfl rfl
theorem dksX9_step_5 : cX9_step.data.toList.drop 115 = dktX9_step_5 := dk_seg dksX9_step_4 24 rfl rfl
theorem dksX9_step_6 : cX9_step.data.toList.drop 137 = dktX9_step_6 := dk_seg dksX9_step_5 22 rfl rfl
theorem dksX9_step_7 : cX9_step.data.toList.drop 159 = dktX9_step_7 := dk_seg dksX9_step_6 22 rfl rfl
theorem dksX9_step_8 : cX9_step.data.toList.drop 183 = dktX9_step_8 := dk_seg dksX9_step_7 24 rfl rfl
theorem dksX9_step_9 : cX9_step.data.toList.drop 207 = dktX9_step_9 := dk_seg dksX9_step_8 24 rfl rfl
theorem dksX9_step_10 : cX9_step.data.toList.drop 230 = dktX9_step_10 := dk_seg dksX9_step_9 23 rfl rfl
theorem dksX9_step_11 : cX9_step.data.toList.drop 252 = dktX9_step_11 := dk_seg dksX9_step_10 22 rfl rfl
theorem dksX9_step_12 : cX9_step.data.toList.drop 276 = dktX9_step_12 := dk_seg dksX9_step_11 24 rfl rfl
theorem dksX9_step_13 : cX9_step.data.toList.drop 300 = dktX9_step_13 := dk_seg dksX9_step_12 24 rfl rfl
theorem dX9_step_0 : decode cX9_step 0 = .ok (.aload_n 0, 1) := dk_42 (dk_at dksX9_step_0 0 rfl rfl)
theorem dX9_step_1 : decode cX9_step 1 = .ok (.ldc 200, 2) := dk_18 200 (dk_at dksX9_step_0 1 rfl rfl)
theorem dX9_step_3 : decode cX9_step 3 = .ok (.invokevirtual 189, 3) := dk_182 0 189 (dk_at dksX9_step_0 3 rfl rfl)
theorem dX9_step_6 : decode cX9_step 6 = .ok (.istore_n 1, 1) := dk_60 (dk_at dksX9_step_0 6 rfl rfl)
theorem dX9_step_7 : decode cX9_step 7 = .ok (.aload_n 0, 1) := dk_42 (dk_at dksX9_step_0 7 rfl rfl)
theorem dX9_step_8 : decode cX9_step 8 = .ok (.getfield 7, 3) := dk_180 0 7 (dk_at dksX9_step_0 8 rfl rfl)
theorem dX9_step_11 : decode cX9_step 11 = .ok (.sipush 1724, 3) := dk_17 6 188 (dk_at dksX9_step_0 11 rfl rfl)
theorem dX9_step_14 : decode cX9_step 14 = .ok (.iaload, 1) := dk_46 (dk_at dksX9_step_0 14 rfl rfl)
theorem dX9_step_15 : decode cX9_step 15 = .ok (.istore_n 2, 1) := dk_61 (dk_at dksX9_step_0 15 rfl rfl)
theorem dX9_step_16 : decode cX9_step 16 = .ok (.sipush 1840, 3) := dk_17 7 48 (dk_at dksX9_step_0 16 rfl rfl)
theorem dX9_step_19 : decode cX9_step 19 = .ok (.iconst 5, 1) := dk_8 (dk_at dksX9_step_0 19 rfl rfl)
theorem dX9_step_20 : decode cX9_step 20 = .ok (.iload_n 2, 1) := dk_28 (dk_at dksX9_step_0 20 rfl rfl)
theorem dX9_step_21 : decode cX9_step 21 = .ok (.imul, 1) := dk_104 (dk_at dksX9_step_0 21 rfl rfl)
theorem dX9_step_22 : decode cX9_step 22 = .ok (.iadd, 1) := dk_96 (dk_at dksX9_step_0 22 rfl rfl)
theorem dX9_step_23 : decode cX9_step 23 = .ok (.istore_n 3, 1) := dk_62 (dk_at dksX9_step_0 23 rfl rfl)
theorem dX9_step_24 : decode cX9_step 24 = .ok (.iload_n 1, 1) := dk_27 (dk_at dksX9_step_1 0 rfl rfl)
theorem dX9_step_25 : decode cX9_step 25 = .ok (.bipush 24, 2) := dk_16 24 (dk_at dksX9_step_1 1 rfl rfl)
theorem dX9_step_27 : decode cX9_step 27 = .ok (.if_icmp .eq 9, 3) := dk_159 0 9 (dk_at dksX9_step_1 3 rfl rfl)
theorem dX9_step_30 : decode cX9_step 30 = .ok (.iload_n 1, 1) := dk_27 (dk_at dksX9_step_1 6 rfl rfl)
theorem dX9_step_31 : decode cX9_step 31 = .ok (.bipush 27, 2) := dk_16 27 (dk_at dksX9_step_1 7 rfl rfl)
theorem dX9_step_33 : decode cX9_step 33 = .ok (.if_icmp .ne 7, 3) := dk_160 0 7 (dk_at dksX9_step_1 9 rfl rfl)
theorem dX9_step_36 : decode cX9_step 36 = .ok (.iconst 1, 1) := dk_4 (dk_at dksX9_step_1 12 rfl rfl)
theorem dX9_step_37 : decode cX9_step 37 = .ok (.goto 4, 3) := dk_167 0 4 (dk_at dksX9_step_1 13 rfl rfl)
theorem dX9_step_40 : decode cX9_step 40 = .ok (.iconst 0, 1) := dk_3 (dk_at dksX9_step_1 16 rfl rfl)
theorem dX9_step_41 : decode cX9_step 41 = .ok (.istore 4, 2) := dk_54 4 (dk_at dksX9_step_1 17 rfl rfl)
theorem dX9_step_43 : decode cX9_step 43 = .ok (.iload_n 1, 1) := dk_27 (dk_at dksX9_step_1 19 rfl rfl)
theorem dX9_step_44 : decode cX9_step 44 = .ok (.bipush 19, 2) := dk_16 19 (dk_at dksX9_step_1 20 rfl rfl)
theorem dX9_step_46 : decode cX9_step 46 = .ok (.if_icmp .eq 21, 3) := dk_159 0 21 (dk_at dksX9_step_2 0 rfl rfl)
theorem dX9_step_49 : decode cX9_step 49 = .ok (.iload_n 1, 1) := dk_27 (dk_at dksX9_step_2 3 rfl rfl)
theorem dX9_step_50 : decode cX9_step 50 = .ok (.bipush 20, 2) := dk_16 20 (dk_at dksX9_step_2 4 rfl rfl)
theorem dX9_step_52 : decode cX9_step 52 = .ok (.if_icmp .eq 15, 3) := dk_159 0 15 (dk_at dksX9_step_2 6 rfl rfl)
theorem dX9_step_55 : decode cX9_step 55 = .ok (.iload_n 1, 1) := dk_27 (dk_at dksX9_step_2 9 rfl rfl)
theorem dX9_step_56 : decode cX9_step 56 = .ok (.bipush 22, 2) := dk_16 22 (dk_at dksX9_step_2 10 rfl rfl)
theorem dX9_step_58 : decode cX9_step 58 = .ok (.if_icmp .eq 9, 3) := dk_159 0 9 (dk_at dksX9_step_2 12 rfl rfl)
theorem dX9_step_61 : decode cX9_step 61 = .ok (.iload_n 1, 1) := dk_27 (dk_at dksX9_step_2 15 rfl rfl)
theorem dX9_step_62 : decode cX9_step 62 = .ok (.bipush 23, 2) := dk_16 23 (dk_at dksX9_step_2 16 rfl rfl)
theorem dX9_step_64 : decode cX9_step 64 = .ok (.if_icmp .ne 7, 3) := dk_160 0 7 (dk_at dksX9_step_2 18 rfl rfl)
theorem dX9_step_67 : decode cX9_step 67 = .ok (.iconst 1, 1) := dk_4 (dk_at dksX9_step_2 21 rfl rfl)
theorem dX9_step_68 : decode cX9_step 68 = .ok (.goto 4, 3) := dk_167 0 4 (dk_at dksX9_step_3 0 rfl rfl)
theorem dX9_step_71 : decode cX9_step 71 = .ok (.iconst 0, 1) := dk_3 (dk_at dksX9_step_3 3 rfl rfl)
theorem dX9_step_72 : decode cX9_step 72 = .ok (.istore 5, 2) := dk_54 5 (dk_at dksX9_step_3 4 rfl rfl)
theorem dX9_step_74 : decode cX9_step 74 = .ok (.iload 5, 2) := dk_21 5 (dk_at dksX9_step_3 6 rfl rfl)
theorem dX9_step_76 : decode cX9_step 76 = .ok (.ifCond .ne 33, 3) := dk_154 0 33 (dk_at dksX9_step_3 8 rfl rfl)
theorem dX9_step_79 : decode cX9_step 79 = .ok (.iload 4, 2) := dk_21 4 (dk_at dksX9_step_3 11 rfl rfl)
theorem dX9_step_81 : decode cX9_step 81 = .ok (.ifCond .ne 28, 3) := dk_154 0 28 (dk_at dksX9_step_3 13 rfl rfl)
theorem dX9_step_84 : decode cX9_step 84 = .ok (.iload_n 1, 1) := dk_27 (dk_at dksX9_step_3 16 rfl rfl)
theorem dX9_step_85 : decode cX9_step 85 = .ok (.bipush 29, 2) := dk_16 29 (dk_at dksX9_step_3 17 rfl rfl)
theorem dX9_step_87 : decode cX9_step 87 = .ok (.if_icmp .eq 22, 3) := dk_159 0 22 (dk_at dksX9_step_3 19 rfl rfl)
theorem dX9_step_90 : decode cX9_step 90 = .ok (.iload_n 1, 1) := dk_27 (dk_at dksX9_step_3 22 rfl rfl)
theorem dX9_step_91 : decode cX9_step 91 = .ok (.bipush 28, 2) := dk_16 28 (dk_at dksX9_step_4 0 rfl rfl)
theorem dX9_step_93 : decode cX9_step 93 = .ok (.if_icmp .ne 10, 3) := dk_160 0 10 (dk_at dksX9_step_4 2 rfl rfl)
theorem dX9_step_96 : decode cX9_step 96 = .ok (.aload_n 0, 1) := dk_42 (dk_at dksX9_step_4 5 rfl rfl)
theorem dX9_step_97 : decode cX9_step 97 = .ok (.getfield 270, 3) := dk_180 1 14 (dk_at dksX9_step_4 6 rfl rfl)
theorem dX9_step_100 : decode cX9_step 100 = .ok (.ifCond .ne 9, 3) := dk_154 0 9 (dk_at dksX9_step_4 9 rfl rfl)
theorem dX9_step_103 : decode cX9_step 103 = .ok (.aload_n 0, 1) := dk_42 (dk_at dksX9_step_4 12 rfl rfl)
theorem dX9_step_104 : decode cX9_step 104 = .ok (.iconst 2, 1) := dk_5 (dk_at dksX9_step_4 13 rfl rfl)
theorem dX9_step_105 : decode cX9_step 105 = .ok (.invokevirtual 186, 3) := dk_182 0 186 (dk_at dksX9_step_4 14 rfl rfl)
theorem dX9_step_108 : decode cX9_step 108 = .ok (.ireturn, 1) := dk_172 (dk_at dksX9_step_4 17 rfl rfl)
theorem dX9_step_109 : decode cX9_step 109 = .ok (.iload_n 1, 1) := dk_27 (dk_at dksX9_step_4 18 rfl rfl)
theorem dX9_step_110 : decode cX9_step 110 = .ok (.bipush 28, 2) := dk_16 28 (dk_at dksX9_step_4 19 rfl rfl)
theorem dX9_step_112 : decode cX9_step 112 = .ok (.if_icmp .eq 19, 3) := dk_159 0 19 (dk_at dksX9_step_4 21 rfl rfl)
theorem dX9_step_115 : decode cX9_step 115 = .ok (.aload_n 0, 1) := dk_42 (dk_at dksX9_step_5 0 rfl rfl)
theorem dX9_step_116 : decode cX9_step 116 = .ok (.getfield 273, 3) := dk_180 1 17 (dk_at dksX9_step_5 1 rfl rfl)
theorem dX9_step_119 : decode cX9_step 119 = .ok (.bipush 30, 2) := dk_16 30 (dk_at dksX9_step_5 4 rfl rfl)
theorem dX9_step_121 : decode cX9_step 121 = .ok (.if_icmp .ne 10, 3) := dk_160 0 10 (dk_at dksX9_step_5 6 rfl rfl)
theorem dX9_step_124 : decode cX9_step 124 = .ok (.aload_n 0, 1) := dk_42 (dk_at dksX9_step_5 9 rfl rfl)
theorem dX9_step_125 : decode cX9_step 125 = .ok (.bipush 6, 2) := dk_16 6 (dk_at dksX9_step_5 10 rfl rfl)
theorem dX9_step_127 : decode cX9_step 127 = .ok (.invokevirtual 186, 3) := dk_182 0 186 (dk_at dksX9_step_5 12 rfl rfl)
theorem dX9_step_130 : decode cX9_step 130 = .ok (.ireturn, 1) := dk_172 (dk_at dksX9_step_5 15 rfl rfl)
theorem dX9_step_131 : decode cX9_step 131 = .ok (.iload 4, 2) := dk_21 4 (dk_at dksX9_step_5 16 rfl rfl)
theorem dX9_step_133 : decode cX9_step 133 = .ok (.ifCond .eq 18, 3) := dk_153 0 18 (dk_at dksX9_step_5 18 rfl rfl)
theorem dX9_step_136 : decode cX9_step 136 = .ok (.aload_n 0, 1) := dk_42 (dk_at dksX9_step_5 21 rfl rfl)
theorem dX9_step_137 : decode cX9_step 137 = .ok (.getfield 270, 3) := dk_180 1 14 (dk_at dksX9_step_6 0 rfl rfl)
theorem dX9_step_140 : decode cX9_step 140 = .ok (.iconst 3, 1) := dk_6 (dk_at dksX9_step_6 3 rfl rfl)
theorem dX9_step_141 : decode cX9_step 141 = .ok (.if_icmp .ne 10, 3) := dk_160 0 10 (dk_at dksX9_step_6 4 rfl rfl)
theorem dX9_step_144 : decode cX9_step 144 = .ok (.aload_n 0, 1) := dk_42 (dk_at dksX9_step_6 7 rfl rfl)
theorem dX9_step_145 : decode cX9_step 145 = .ok (.bipush 7, 2) := dk_16 7 (dk_at dksX9_step_6 8 rfl rfl)
theorem dX9_step_147 : decode cX9_step 147 = .ok (.invokevirtual 186, 3) := dk_182 0 186 (dk_at dksX9_step_6 10 rfl rfl)
theorem dX9_step_150 : decode cX9_step 150 = .ok (.ireturn, 1) := dk_172 (dk_at dksX9_step_6 13 rfl rfl)
theorem dX9_step_151 : decode cX9_step 151 = .ok (.aload_n 0, 1) := dk_42 (dk_at dksX9_step_6 14 rfl rfl)
theorem dX9_step_152 : decode cX9_step 152 = .ok (.dup, 1) := dk_89 (dk_at dksX9_step_6 15 rfl rfl)
theorem dX9_step_153 : decode cX9_step 153 = .ok (.getfield 273, 3) := dk_180 1 17 (dk_at dksX9_step_6 16 rfl rfl)
theorem dX9_step_156 : decode cX9_step 156 = .ok (.iload_n 1, 1) := dk_27 (dk_at dksX9_step_6 19 rfl rfl)
theorem dX9_step_157 : decode cX9_step 157 = .ok (.bipush 28, 2) := dk_16 28 (dk_at dksX9_step_6 20 rfl rfl)
theorem dX9_step_159 : decode cX9_step 159 = .ok (.if_icmp .ne 7, 3) := dk_160 0 7 (dk_at dksX9_step_7 0 rfl rfl)
theorem dX9_step_162 : decode cX9_step 162 = .ok (.iconst 0, 1) := dk_3 (dk_at dksX9_step_7 3 rfl rfl)
theorem dX9_step_163 : decode cX9_step 163 = .ok (.goto 4, 3) := dk_167 0 4 (dk_at dksX9_step_7 4 rfl rfl)
theorem dX9_step_166 : decode cX9_step 166 = .ok (.iconst 1, 1) := dk_4 (dk_at dksX9_step_7 7 rfl rfl)
theorem dX9_step_167 : decode cX9_step 167 = .ok (.iadd, 1) := dk_96 (dk_at dksX9_step_7 8 rfl rfl)
theorem dX9_step_168 : decode cX9_step 168 = .ok (.putfield 273, 3) := dk_181 1 17 (dk_at dksX9_step_7 9 rfl rfl)
theorem dX9_step_171 : decode cX9_step 171 = .ok (.aload_n 0, 1) := dk_42 (dk_at dksX9_step_7 12 rfl rfl)
theorem dX9_step_172 : decode cX9_step 172 = .ok (.getfield 7, 3) := dk_180 0 7 (dk_at dksX9_step_7 13 rfl rfl)
theorem dX9_step_175 : decode cX9_step 175 = .ok (.iload_n 3, 1) := dk_29 (dk_at dksX9_step_7 16 rfl rfl)
theorem dX9_step_176 : decode cX9_step 176 = .ok (.iload_n 1, 1) := dk_27 (dk_at dksX9_step_7 17 rfl rfl)
theorem dX9_step_177 : decode cX9_step 177 = .ok (.iastore, 1) := dk_79 (dk_at dksX9_step_7 18 rfl rfl)
theorem dX9_step_178 : decode cX9_step 178 = .ok (.iconst 1, 1) := dk_4 (dk_at dksX9_step_7 19 rfl rfl)
theorem dX9_step_179 : decode cX9_step 179 = .ok (.istore 6, 2) := dk_54 6 (dk_at dksX9_step_7 20 rfl rfl)
theorem dX9_step_181 : decode cX9_step 181 = .ok (.iload 6, 2) := dk_21 6 (dk_at dksX9_step_7 22 rfl rfl)
theorem dX9_step_183 : decode cX9_step 183 = .ok (.iconst 5, 1) := dk_8 (dk_at dksX9_step_8 0 rfl rfl)
theorem dX9_step_184 : decode cX9_step 184 = .ok (.if_icmp .ge 19, 3) := dk_162 0 19 (dk_at dksX9_step_8 1 rfl rfl)
theorem dX9_step_187 : decode cX9_step 187 = .ok (.aload_n 0, 1) := dk_42 (dk_at dksX9_step_8 4 rfl rfl)
theorem dX9_step_188 : decode cX9_step 188 = .ok (.getfield 7, 3) := dk_180 0 7 (dk_at dksX9_step_8 5 rfl rfl)
theorem dX9_step_191 : decode cX9_step 191 = .ok (.iload_n 3, 1) := dk_29 (dk_at dksX9_step_8 8 rfl rfl)
theorem dX9_step_192 : decode cX9_step 192 = .ok (.iload 6, 2) := dk_21 6 (dk_at dksX9_step_8 9 rfl rfl)
theorem dX9_step_194 : decode cX9_step 194 = .ok (.iadd, 1) := dk_96 (dk_at dksX9_step_8 11 rfl rfl)
theorem dX9_step_195 : decode cX9_step 195 = .ok (.iconst (-1), 1) := dk_2 (dk_at dksX9_step_8 12 rfl rfl)
theorem dX9_step_196 : decode cX9_step 196 = .ok (.iastore, 1) := dk_79 (dk_at dksX9_step_8 13 rfl rfl)
theorem dX9_step_197 : decode cX9_step 197 = .ok (.iinc 6 1, 3) := dk_132 6 1 (dk_at dksX9_step_8 14 rfl rfl)
theorem dX9_step_200 : decode cX9_step 200 = .ok (.goto (-19), 3) := dk_167 255 237 (dk_at dksX9_step_8 17 rfl rfl)
theorem dX9_step_203 : decode cX9_step 203 = .ok (.aload_n 0, 1) := dk_42 (dk_at dksX9_step_8 20 rfl rfl)
theorem dX9_step_204 : decode cX9_step 204 = .ok (.getfield 7, 3) := dk_180 0 7 (dk_at dksX9_step_8 21 rfl rfl)
theorem dX9_step_207 : decode cX9_step 207 = .ok (.sipush 1724, 3) := dk_17 6 188 (dk_at dksX9_step_9 0 rfl rfl)
theorem dX9_step_210 : decode cX9_step 210 = .ok (.dup2, 1) := dk_92 (dk_at dksX9_step_9 3 rfl rfl)
theorem dX9_step_211 : decode cX9_step 211 = .ok (.iaload, 1) := dk_46 (dk_at dksX9_step_9 4 rfl rfl)
theorem dX9_step_212 : decode cX9_step 212 = .ok (.iconst 1, 1) := dk_4 (dk_at dksX9_step_9 5 rfl rfl)
theorem dX9_step_213 : decode cX9_step 213 = .ok (.iadd, 1) := dk_96 (dk_at dksX9_step_9 6 rfl rfl)
theorem dX9_step_214 : decode cX9_step 214 = .ok (.iastore, 1) := dk_79 (dk_at dksX9_step_9 7 rfl rfl)
theorem dX9_step_215 : decode cX9_step 215 = .ok (.aload_n 0, 1) := dk_42 (dk_at dksX9_step_9 8 rfl rfl)
theorem dX9_step_216 : decode cX9_step 216 = .ok (.invokevirtual 180, 3) := dk_182 0 180 (dk_at dksX9_step_9 9 rfl rfl)
theorem dX9_step_219 : decode cX9_step 219 = .ok (.aload_n 0, 1) := dk_42 (dk_at dksX9_step_9 12 rfl rfl)
theorem dX9_step_220 : decode cX9_step 220 = .ok (.iload_n 1, 1) := dk_27 (dk_at dksX9_step_9 13 rfl rfl)
theorem dX9_step_221 : decode cX9_step 221 = .ok (.iload_n 3, 1) := dk_29 (dk_at dksX9_step_9 14 rfl rfl)
theorem dX9_step_222 : decode cX9_step 222 = .ok (.invokevirtual 276, 3) := dk_182 1 20 (dk_at dksX9_step_9 15 rfl rfl)
theorem dX9_step_225 : decode cX9_step 225 = .ok (.ifCond .ne 5, 3) := dk_154 0 5 (dk_at dksX9_step_9 18 rfl rfl)
theorem dX9_step_228 : decode cX9_step 228 = .ok (.iconst 0, 1) := dk_3 (dk_at dksX9_step_9 21 rfl rfl)
theorem dX9_step_229 : decode cX9_step 229 = .ok (.ireturn, 1) := dk_172 (dk_at dksX9_step_9 22 rfl rfl)
theorem dX9_step_230 : decode cX9_step 230 = .ok (.iload 4, 2) := dk_21 4 (dk_at dksX9_step_10 0 rfl rfl)
theorem dX9_step_232 : decode cX9_step 232 = .ok (.ifCond .eq 23, 3) := dk_153 0 23 (dk_at dksX9_step_10 2 rfl rfl)
theorem dX9_step_235 : decode cX9_step 235 = .ok (.aload_n 0, 1) := dk_42 (dk_at dksX9_step_10 5 rfl rfl)
theorem dX9_step_236 : decode cX9_step 236 = .ok (.getfield 44, 3) := dk_180 0 44 (dk_at dksX9_step_10 6 rfl rfl)
theorem dX9_step_239 : decode cX9_step 239 = .ok (.aload_n 0, 1) := dk_42 (dk_at dksX9_step_10 9 rfl rfl)
theorem dX9_step_240 : decode cX9_step 240 = .ok (.getfield 270, 3) := dk_180 1 14 (dk_at dksX9_step_10 10 rfl rfl)
theorem dX9_step_243 : decode cX9_step 243 = .ok (.iload_n 2, 1) := dk_28 (dk_at dksX9_step_10 13 rfl rfl)
theorem dX9_step_244 : decode cX9_step 244 = .ok (.iastore, 1) := dk_79 (dk_at dksX9_step_10 14 rfl rfl)
theorem dX9_step_245 : decode cX9_step 245 = .ok (.aload_n 0, 1) := dk_42 (dk_at dksX9_step_10 15 rfl rfl)
theorem dX9_step_246 : decode cX9_step 246 = .ok (.dup, 1) := dk_89 (dk_at dksX9_step_10 16 rfl rfl)
theorem dX9_step_247 : decode cX9_step 247 = .ok (.getfield 270, 3) := dk_180 1 14 (dk_at dksX9_step_10 17 rfl rfl)
theorem dX9_step_250 : decode cX9_step 250 = .ok (.iconst 1, 1) := dk_4 (dk_at dksX9_step_10 20 rfl rfl)
theorem dX9_step_251 : decode cX9_step 251 = .ok (.iadd, 1) := dk_96 (dk_at dksX9_step_10 21 rfl rfl)
theorem dX9_step_252 : decode cX9_step 252 = .ok (.putfield 270, 3) := dk_181 1 14 (dk_at dksX9_step_11 0 rfl rfl)
theorem dX9_step_255 : decode cX9_step 255 = .ok (.iload_n 1, 1) := dk_27 (dk_at dksX9_step_11 3 rfl rfl)
theorem dX9_step_256 : decode cX9_step 256 = .ok (.bipush 28, 2) := dk_16 28 (dk_at dksX9_step_11 4 rfl rfl)
theorem dX9_step_258 : decode cX9_step 258 = .ok (.if_icmp .ne 53, 3) := dk_160 0 53 (dk_at dksX9_step_11 6 rfl rfl)
theorem dX9_step_261 : decode cX9_step 261 = .ok (.aload_n 0, 1) := dk_42 (dk_at dksX9_step_11 9 rfl rfl)
theorem dX9_step_262 : decode cX9_step 262 = .ok (.dup, 1) := dk_89 (dk_at dksX9_step_11 10 rfl rfl)
theorem dX9_step_263 : decode cX9_step 263 = .ok (.getfield 270, 3) := dk_180 1 14 (dk_at dksX9_step_11 11 rfl rfl)
theorem dX9_step_266 : decode cX9_step 266 = .ok (.iconst 1, 1) := dk_4 (dk_at dksX9_step_11 14 rfl rfl)
theorem dX9_step_267 : decode cX9_step 267 = .ok (.isub, 1) := dk_100 (dk_at dksX9_step_11 15 rfl rfl)
theorem dX9_step_268 : decode cX9_step 268 = .ok (.putfield 270, 3) := dk_181 1 14 (dk_at dksX9_step_11 16 rfl rfl)
theorem dX9_step_271 : decode cX9_step 271 = .ok (.aload_n 0, 1) := dk_42 (dk_at dksX9_step_11 19 rfl rfl)
theorem dX9_step_272 : decode cX9_step 272 = .ok (.getfield 7, 3) := dk_180 0 7 (dk_at dksX9_step_11 20 rfl rfl)
theorem dX9_step_275 : decode cX9_step 275 = .ok (.iload_n 3, 1) := dk_29 (dk_at dksX9_step_11 23 rfl rfl)
theorem dX9_step_276 : decode cX9_step 276 = .ok (.iconst 4, 1) := dk_7 (dk_at dksX9_step_12 0 rfl rfl)
theorem dX9_step_277 : decode cX9_step 277 = .ok (.iadd, 1) := dk_96 (dk_at dksX9_step_12 1 rfl rfl)
theorem dX9_step_278 : decode cX9_step 278 = .ok (.aload_n 0, 1) := dk_42 (dk_at dksX9_step_12 2 rfl rfl)
theorem dX9_step_279 : decode cX9_step 279 = .ok (.getfield 44, 3) := dk_180 0 44 (dk_at dksX9_step_12 3 rfl rfl)
theorem dX9_step_282 : decode cX9_step 282 = .ok (.aload_n 0, 1) := dk_42 (dk_at dksX9_step_12 6 rfl rfl)
theorem dX9_step_283 : decode cX9_step 283 = .ok (.getfield 270, 3) := dk_180 1 14 (dk_at dksX9_step_12 7 rfl rfl)
theorem dX9_step_286 : decode cX9_step 286 = .ok (.iaload, 1) := dk_46 (dk_at dksX9_step_12 10 rfl rfl)
theorem dX9_step_287 : decode cX9_step 287 = .ok (.iastore, 1) := dk_79 (dk_at dksX9_step_12 11 rfl rfl)
theorem dX9_step_288 : decode cX9_step 288 = .ok (.aload_n 0, 1) := dk_42 (dk_at dksX9_step_12 12 rfl rfl)
theorem dX9_step_289 : decode cX9_step 289 = .ok (.getfield 7, 3) := dk_180 0 7 (dk_at dksX9_step_12 13 rfl rfl)
theorem dX9_step_292 : decode cX9_step 292 = .ok (.sipush 1840, 3) := dk_17 7 48 (dk_at dksX9_step_12 16 rfl rfl)
theorem dX9_step_295 : decode cX9_step 295 = .ok (.iconst 5, 1) := dk_8 (dk_at dksX9_step_12 19 rfl rfl)
theorem dX9_step_296 : decode cX9_step 296 = .ok (.aload_n 0, 1) := dk_42 (dk_at dksX9_step_12 20 rfl rfl)
theorem dX9_step_297 : decode cX9_step 297 = .ok (.getfield 44, 3) := dk_180 0 44 (dk_at dksX9_step_12 21 rfl rfl)
theorem dX9_step_300 : decode cX9_step 300 = .ok (.aload_n 0, 1) := dk_42 (dk_at dksX9_step_13 0 rfl rfl)
theorem dX9_step_301 : decode cX9_step 301 = .ok (.getfield 270, 3) := dk_180 1 14 (dk_at dksX9_step_13 1 rfl rfl)
theorem dX9_step_304 : decode cX9_step 304 = .ok (.iaload, 1) := dk_46 (dk_at dksX9_step_13 4 rfl rfl)
theorem dX9_step_305 : decode cX9_step 305 = .ok (.imul, 1) := dk_104 (dk_at dksX9_step_13 5 rfl rfl)
theorem dX9_step_306 : decode cX9_step 306 = .ok (.iadd, 1) := dk_96 (dk_at dksX9_step_13 6 rfl rfl)
theorem dX9_step_307 : decode cX9_step 307 = .ok (.iconst 4, 1) := dk_7 (dk_at dksX9_step_13 7 rfl rfl)
theorem dX9_step_308 : decode cX9_step 308 = .ok (.iadd, 1) := dk_96 (dk_at dksX9_step_13 8 rfl rfl)
theorem dX9_step_309 : decode cX9_step 309 = .ok (.iload_n 2, 1) := dk_28 (dk_at dksX9_step_13 9 rfl rfl)
theorem dX9_step_310 : decode cX9_step 310 = .ok (.iastore, 1) := dk_79 (dk_at dksX9_step_13 10 rfl rfl)
theorem dX9_step_311 : decode cX9_step 311 = .ok (.aload_n 0, 1) := dk_42 (dk_at dksX9_step_13 11 rfl rfl)
theorem dX9_step_312 : decode cX9_step 312 = .ok (.bipush 59, 2) := dk_16 59 (dk_at dksX9_step_13 12 rfl rfl)
theorem dX9_step_314 : decode cX9_step 314 = .ok (.invokevirtual 242, 3) := dk_182 0 242 (dk_at dksX9_step_13 14 rfl rfl)
theorem dX9_step_317 : decode cX9_step 317 = .ok (.ireturn, 1) := dk_172 (dk_at dksX9_step_13 17 rfl rfl)
abbrev cX9_order : ByteArray := prog_21_method_50_code
def yX9_order : MethodName := ⟨RX9, "order", "(II)Z"⟩
def dkwX9_order_9 : List UInt8 := [172, 42, 28, 4, 96, 4, 16, 99, 182, 0, 227, 172, 42, 28, 182, 1, 11, 172, 4, 172]
abbrev dktX9_order_9 : List UInt8 := dkwX9_order_9 ++ []
def dkwX9_order_8 : List UInt8 := [6, 96, 6, 16, 18, 182, 1, 5, 153, 0, 7, 4, 167, 0, 4, 3, 172, 42, 28, 4, 96, 182, 1, 8]
abbrev dktX9_order_8 : List UInt8 := dkwX9_order_8 ++ dktX9_order_9
def dkwX9_order_7 : List UInt8 := [182, 1, 5, 153, 0, 7, 4, 167, 0, 4, 3, 172, 42, 28, 4, 96, 182, 1, 8, 153, 0, 20, 42, 28]
abbrev dktX9_order_7 : List UInt8 := dkwX9_order_7 ++ dktX9_order_8
def dkwX9_order_6 : List UInt8 := [182, 1, 8, 153, 0, 31, 42, 18, 200, 16, 21, 182, 0, 220, 153, 0, 20, 42, 28, 6, 96, 4, 16, 6]
abbrev dktX9_order_6 : List UInt8 := dkwX9_order_6 ++ dktX9_order_7
def dkwX9_order_5 : List UInt8 := [182, 0, 197, 42, 180, 0, 7, 28, 4, 96, 46, 160, 0, 9, 42, 8, 182, 0, 186, 172, 42, 28, 5, 96]
abbrev dktX9_order_5 : List UInt8 := dkwX9_order_5 ++ dktX9_order_6
def dkwX9_order_4 : List UInt8 := [154, 0, 5, 3, 172, 42, 18, 200, 182, 0, 202, 153, 0, 32, 42, 16, 14, 42, 180, 0, 7, 5, 46]
abbrev dktX9_order_4 : List UInt8 := dkwX9_order_4 ++ dktX9_order_5
def dkwX9_order_3 : List UInt8 := [96, 4, 16, 6, 182, 1, 5, 153, 0, 7, 4, 167, 0, 4, 3, 172, 42, 28, 4, 96, 182, 1, 8]
abbrev dktX9_order_3 : List UInt8 := dkwX9_order_3 ++ dktX9_order_4
def dkwX9_order_2 : List UInt8 := [42, 28, 4, 96, 182, 1, 8, 153, 0, 31, 42, 18, 200, 16, 21, 182, 0, 220, 153, 0, 20, 42, 28, 6]
abbrev dktX9_order_2 : List UInt8 := dkwX9_order_2 ++ dktX9_order_3
def dkwX9_order_1 : List UInt8 := [170, 0, 0, 0, 0, 0, 235, 0, 0, 0, 19, 0, 0, 0, 27, 0, 0, 0, 51, 0, 0, 0, 91, 0, 0, 0, 235, 0, 0, 0, 181, 0, 0, 0, 210, 0, 0, 0, 229, 0, 0, 0, 235, 0, 0, 0, 235, 0, 0, 0, 218]
abbrev dktX9_order_1 : List UInt8 := dkwX9_order_1 ++ dktX9_order_2
def dkwX9_order_0 : List UInt8 := [27]
abbrev dktX9_order_0 : List UInt8 := dkwX9_order_0 ++ dktX9_order_1
theorem dksX9_order_0 : cX9_order.data.toList.drop 0 = dktX9_order_0 := by decide +kernel
theorem dksX9_order_1 : cX9_order.data.toList.drop 1 = dktX9_order_1 := dk_seg dksX9_order_0 1 rfl rfl
theorem dksX9_order_2 : cX9_order.data.toList.drop 52 = dktX9_order_2 := dk_seg dksX9_order_1 51 rfl rfl
theorem dksX9_order_3 : cX9_order.data.toList.drop 76 = dktX9_order_3 := dk_seg dksX9_order_2 24 rfl rfl
theorem dksX9_order_4 : cX9_order.data.toList.drop 99 = dktX9_order_4 := dk_seg dksX9_order_3 23 rfl rfl
theorem dksX9_order_5 : cX9_order.data.toList.drop 122 = dktX9_order_5 := dk_seg dksX9_order_4 23 rfl rfl
theorem dksX9_order_6 : cX9_order.data.toList.drop 146 = dktX9_order_6 := dk_seg dksX9_order_5 24 rfl rfl
theorem dksX9_order_7 : cX9_order.data.toList.drop 170 = dktX9_order_7 := dk_seg dksX9_order_6 24 rfl rfl
theorem dksX9_order_8 : cX9_order.data.toList.drop 194 = dktX9_order_8 := dk_seg dksX9_order_7 24 rfl rfl
theorem dksX9_order_9 : cX9_order.data.toList.drop 218 = dktX9_order_9 := dk_seg dksX9_order_8 24 rfl rfl
theorem dX9_order_0 : decode cX9_order 0 = .ok (.iload_n 1, 1) := dk_27 (dk_at dksX9_order_0 0 rfl rfl)
theorem dX9_order_1 : decode cX9_order 1 = .ok (.tableswitch 235 19 27 #[51, 91, 235, 181, 210, 229, 235, 235, 218], 51) := by decide +kernel
theorem dX9_order_52 : decode cX9_order 52 = .ok (.aload_n 0, 1) := dk_42 (dk_at dksX9_order_2 0 rfl rfl)
theorem dX9_order_53 : decode cX9_order 53 = .ok (.iload_n 2, 1) := dk_28 (dk_at dksX9_order_2 1 rfl rfl)
theorem dX9_order_54 : decode cX9_order 54 = .ok (.iconst 1, 1) := dk_4 (dk_at dksX9_order_2 2 rfl rfl)
theorem dX9_order_55 : decode cX9_order 55 = .ok (.iadd, 1) := dk_96 (dk_at dksX9_order_2 3 rfl rfl)
theorem dX9_order_56 : decode cX9_order 56 = .ok (.invokevirtual 264, 3) := dk_182 1 8 (dk_at dksX9_order_2 4 rfl rfl)
theorem dX9_order_59 : decode cX9_order 59 = .ok (.ifCond .eq 31, 3) := dk_153 0 31 (dk_at dksX9_order_2 7 rfl rfl)
theorem dX9_order_62 : decode cX9_order 62 = .ok (.aload_n 0, 1) := dk_42 (dk_at dksX9_order_2 10 rfl rfl)
theorem dX9_order_63 : decode cX9_order 63 = .ok (.ldc 200, 2) := dk_18 200 (dk_at dksX9_order_2 11 rfl rfl)
theorem dX9_order_65 : decode cX9_order 65 = .ok (.bipush 21, 2) := dk_16 21 (dk_at dksX9_order_2 13 rfl rfl)
theorem dX9_order_67 : decode cX9_order 67 = .ok (.invokevirtual 220, 3) := dk_182 0 220 (dk_at dksX9_order_2 15 rfl rfl)
theorem dX9_order_70 : decode cX9_order 70 = .ok (.ifCond .eq 20, 3) := dk_153 0 20 (dk_at dksX9_order_2 18 rfl rfl)
theorem dX9_order_73 : decode cX9_order 73 = .ok (.aload_n 0, 1) := dk_42 (dk_at dksX9_order_2 21 rfl rfl)
theorem dX9_order_74 : decode cX9_order 74 = .ok (.iload_n 2, 1) := dk_28 (dk_at dksX9_order_2 22 rfl rfl)
theorem dX9_order_75 : decode cX9_order 75 = .ok (.iconst 3, 1) := dk_6 (dk_at dksX9_order_2 23 rfl rfl)
theorem dX9_order_76 : decode cX9_order 76 = .ok (.iadd, 1) := dk_96 (dk_at dksX9_order_3 0 rfl rfl)
theorem dX9_order_77 : decode cX9_order 77 = .ok (.iconst 1, 1) := dk_4 (dk_at dksX9_order_3 1 rfl rfl)
theorem dX9_order_78 : decode cX9_order 78 = .ok (.bipush 6, 2) := dk_16 6 (dk_at dksX9_order_3 2 rfl rfl)
theorem dX9_order_80 : decode cX9_order 80 = .ok (.invokevirtual 261, 3) := dk_182 1 5 (dk_at dksX9_order_3 4 rfl rfl)
theorem dX9_order_83 : decode cX9_order 83 = .ok (.ifCond .eq 7, 3) := dk_153 0 7 (dk_at dksX9_order_3 7 rfl rfl)
theorem dX9_order_86 : decode cX9_order 86 = .ok (.iconst 1, 1) := dk_4 (dk_at dksX9_order_3 10 rfl rfl)
theorem dX9_order_87 : decode cX9_order 87 = .ok (.goto 4, 3) := dk_167 0 4 (dk_at dksX9_order_3 11 rfl rfl)
theorem dX9_order_90 : decode cX9_order 90 = .ok (.iconst 0, 1) := dk_3 (dk_at dksX9_order_3 14 rfl rfl)
theorem dX9_order_91 : decode cX9_order 91 = .ok (.ireturn, 1) := dk_172 (dk_at dksX9_order_3 15 rfl rfl)
theorem dX9_order_92 : decode cX9_order 92 = .ok (.aload_n 0, 1) := dk_42 (dk_at dksX9_order_3 16 rfl rfl)
theorem dX9_order_93 : decode cX9_order 93 = .ok (.iload_n 2, 1) := dk_28 (dk_at dksX9_order_3 17 rfl rfl)
theorem dX9_order_94 : decode cX9_order 94 = .ok (.iconst 1, 1) := dk_4 (dk_at dksX9_order_3 18 rfl rfl)
theorem dX9_order_95 : decode cX9_order 95 = .ok (.iadd, 1) := dk_96 (dk_at dksX9_order_3 19 rfl rfl)
theorem dX9_order_96 : decode cX9_order 96 = .ok (.invokevirtual 264, 3) := dk_182 1 8 (dk_at dksX9_order_3 20 rfl rfl)
theorem dX9_order_99 : decode cX9_order 99 = .ok (.ifCond .ne 5, 3) := dk_154 0 5 (dk_at dksX9_order_4 0 rfl rfl)
theorem dX9_order_102 : decode cX9_order 102 = .ok (.iconst 0, 1) := dk_3 (dk_at dksX9_order_4 3 rfl rfl)
theorem dX9_order_103 : decode cX9_order 103 = .ok (.ireturn, 1) := dk_172 (dk_at dksX9_order_4 4 rfl rfl)
theorem dX9_order_104 : decode cX9_order 104 = .ok (.aload_n 0, 1) := dk_42 (dk_at dksX9_order_4 5 rfl rfl)
theorem dX9_order_105 : decode cX9_order 105 = .ok (.ldc 200, 2) := dk_18 200 (dk_at dksX9_order_4 6 rfl rfl)
theorem dX9_order_107 : decode cX9_order 107 = .ok (.invokevirtual 202, 3) := dk_182 0 202 (dk_at dksX9_order_4 8 rfl rfl)
theorem dX9_order_110 : decode cX9_order 110 = .ok (.ifCond .eq 32, 3) := dk_153 0 32 (dk_at dksX9_order_4 11 rfl rfl)
theorem dX9_order_113 : decode cX9_order 113 = .ok (.aload_n 0, 1) := dk_42 (dk_at dksX9_order_4 14 rfl rfl)
theorem dX9_order_114 : decode cX9_order 114 = .ok (.bipush 14, 2) := dk_16 14 (dk_at dksX9_order_4 15 rfl rfl)
theorem dX9_order_116 : decode cX9_order 116 = .ok (.aload_n 0, 1) := dk_42 (dk_at dksX9_order_4 17 rfl rfl)
theorem dX9_order_117 : decode cX9_order 117 = .ok (.getfield 7, 3) := dk_180 0 7 (dk_at dksX9_order_4 18 rfl rfl)
theorem dX9_order_120 : decode cX9_order 120 = .ok (.iconst 2, 1) := dk_5 (dk_at dksX9_order_4 21 rfl rfl)
theorem dX9_order_121 : decode cX9_order 121 = .ok (.iaload, 1) := dk_46 (dk_at dksX9_order_4 22 rfl rfl)
theorem dX9_order_122 : decode cX9_order 122 = .ok (.invokevirtual 197, 3) := dk_182 0 197 (dk_at dksX9_order_5 0 rfl rfl)
theorem dX9_order_125 : decode cX9_order 125 = .ok (.aload_n 0, 1) := dk_42 (dk_at dksX9_order_5 3 rfl rfl)
theorem dX9_order_126 : decode cX9_order 126 = .ok (.getfield 7, 3) := dk_180 0 7 (dk_at dksX9_order_5 4 rfl rfl)
theorem dX9_order_129 : decode cX9_order 129 = .ok (.iload_n 2, 1) := dk_28 (dk_at dksX9_order_5 7 rfl rfl)
theorem dX9_order_130 : decode cX9_order 130 = .ok (.iconst 1, 1) := dk_4 (dk_at dksX9_order_5 8 rfl rfl)
theorem dX9_order_131 : decode cX9_order 131 = .ok (.iadd, 1) := dk_96 (dk_at dksX9_order_5 9 rfl rfl)
theorem dX9_order_132 : decode cX9_order 132 = .ok (.iaload, 1) := dk_46 (dk_at dksX9_order_5 10 rfl rfl)
theorem dX9_order_133 : decode cX9_order 133 = .ok (.if_icmp .ne 9, 3) := dk_160 0 9 (dk_at dksX9_order_5 11 rfl rfl)
theorem dX9_order_136 : decode cX9_order 136 = .ok (.aload_n 0, 1) := dk_42 (dk_at dksX9_order_5 14 rfl rfl)
theorem dX9_order_137 : decode cX9_order 137 = .ok (.iconst 5, 1) := dk_8 (dk_at dksX9_order_5 15 rfl rfl)
theorem dX9_order_138 : decode cX9_order 138 = .ok (.invokevirtual 186, 3) := dk_182 0 186 (dk_at dksX9_order_5 16 rfl rfl)
theorem dX9_order_141 : decode cX9_order 141 = .ok (.ireturn, 1) := dk_172 (dk_at dksX9_order_5 19 rfl rfl)
theorem dX9_order_142 : decode cX9_order 142 = .ok (.aload_n 0, 1) := dk_42 (dk_at dksX9_order_5 20 rfl rfl)
theorem dX9_order_143 : decode cX9_order 143 = .ok (.iload_n 2, 1) := dk_28 (dk_at dksX9_order_5 21 rfl rfl)
theorem dX9_order_144 : decode cX9_order 144 = .ok (.iconst 2, 1) := dk_5 (dk_at dksX9_order_5 22 rfl rfl)
theorem dX9_order_145 : decode cX9_order 145 = .ok (.iadd, 1) := dk_96 (dk_at dksX9_order_5 23 rfl rfl)
theorem dX9_order_146 : decode cX9_order 146 = .ok (.invokevirtual 264, 3) := dk_182 1 8 (dk_at dksX9_order_6 0 rfl rfl)
theorem dX9_order_149 : decode cX9_order 149 = .ok (.ifCond .eq 31, 3) := dk_153 0 31 (dk_at dksX9_order_6 3 rfl rfl)
theorem dX9_order_152 : decode cX9_order 152 = .ok (.aload_n 0, 1) := dk_42 (dk_at dksX9_order_6 6 rfl rfl)
theorem dX9_order_153 : decode cX9_order 153 = .ok (.ldc 200, 2) := dk_18 200 (dk_at dksX9_order_6 7 rfl rfl)
theorem dX9_order_155 : decode cX9_order 155 = .ok (.bipush 21, 2) := dk_16 21 (dk_at dksX9_order_6 9 rfl rfl)
theorem dX9_order_157 : decode cX9_order 157 = .ok (.invokevirtual 220, 3) := dk_182 0 220 (dk_at dksX9_order_6 11 rfl rfl)
theorem dX9_order_160 : decode cX9_order 160 = .ok (.ifCond .eq 20, 3) := dk_153 0 20 (dk_at dksX9_order_6 14 rfl rfl)
theorem dX9_order_163 : decode cX9_order 163 = .ok (.aload_n 0, 1) := dk_42 (dk_at dksX9_order_6 17 rfl rfl)
theorem dX9_order_164 : decode cX9_order 164 = .ok (.iload_n 2, 1) := dk_28 (dk_at dksX9_order_6 18 rfl rfl)
theorem dX9_order_165 : decode cX9_order 165 = .ok (.iconst 3, 1) := dk_6 (dk_at dksX9_order_6 19 rfl rfl)
theorem dX9_order_166 : decode cX9_order 166 = .ok (.iadd, 1) := dk_96 (dk_at dksX9_order_6 20 rfl rfl)
theorem dX9_order_167 : decode cX9_order 167 = .ok (.iconst 1, 1) := dk_4 (dk_at dksX9_order_6 21 rfl rfl)
theorem dX9_order_168 : decode cX9_order 168 = .ok (.bipush 6, 2) := dk_16 6 (dk_at dksX9_order_6 22 rfl rfl)
theorem dX9_order_170 : decode cX9_order 170 = .ok (.invokevirtual 261, 3) := dk_182 1 5 (dk_at dksX9_order_7 0 rfl rfl)
theorem dX9_order_173 : decode cX9_order 173 = .ok (.ifCond .eq 7, 3) := dk_153 0 7 (dk_at dksX9_order_7 3 rfl rfl)
theorem dX9_order_176 : decode cX9_order 176 = .ok (.iconst 1, 1) := dk_4 (dk_at dksX9_order_7 6 rfl rfl)
theorem dX9_order_177 : decode cX9_order 177 = .ok (.goto 4, 3) := dk_167 0 4 (dk_at dksX9_order_7 7 rfl rfl)
theorem dX9_order_180 : decode cX9_order 180 = .ok (.iconst 0, 1) := dk_3 (dk_at dksX9_order_7 10 rfl rfl)
theorem dX9_order_181 : decode cX9_order 181 = .ok (.ireturn, 1) := dk_172 (dk_at dksX9_order_7 11 rfl rfl)
theorem dX9_order_182 : decode cX9_order 182 = .ok (.aload_n 0, 1) := dk_42 (dk_at dksX9_order_7 12 rfl rfl)
theorem dX9_order_183 : decode cX9_order 183 = .ok (.iload_n 2, 1) := dk_28 (dk_at dksX9_order_7 13 rfl rfl)
theorem dX9_order_184 : decode cX9_order 184 = .ok (.iconst 1, 1) := dk_4 (dk_at dksX9_order_7 14 rfl rfl)
theorem dX9_order_185 : decode cX9_order 185 = .ok (.iadd, 1) := dk_96 (dk_at dksX9_order_7 15 rfl rfl)
theorem dX9_order_186 : decode cX9_order 186 = .ok (.invokevirtual 264, 3) := dk_182 1 8 (dk_at dksX9_order_7 16 rfl rfl)
theorem dX9_order_189 : decode cX9_order 189 = .ok (.ifCond .eq 20, 3) := dk_153 0 20 (dk_at dksX9_order_7 19 rfl rfl)
theorem dX9_order_192 : decode cX9_order 192 = .ok (.aload_n 0, 1) := dk_42 (dk_at dksX9_order_7 22 rfl rfl)
theorem dX9_order_193 : decode cX9_order 193 = .ok (.iload_n 2, 1) := dk_28 (dk_at dksX9_order_7 23 rfl rfl)
theorem dX9_order_194 : decode cX9_order 194 = .ok (.iconst 3, 1) := dk_6 (dk_at dksX9_order_8 0 rfl rfl)
theorem dX9_order_195 : decode cX9_order 195 = .ok (.iadd, 1) := dk_96 (dk_at dksX9_order_8 1 rfl rfl)
theorem dX9_order_196 : decode cX9_order 196 = .ok (.iconst 3, 1) := dk_6 (dk_at dksX9_order_8 2 rfl rfl)
theorem dX9_order_197 : decode cX9_order 197 = .ok (.bipush 18, 2) := dk_16 18 (dk_at dksX9_order_8 3 rfl rfl)
theorem dX9_order_199 : decode cX9_order 199 = .ok (.invokevirtual 261, 3) := dk_182 1 5 (dk_at dksX9_order_8 5 rfl rfl)
theorem dX9_order_202 : decode cX9_order 202 = .ok (.ifCond .eq 7, 3) := dk_153 0 7 (dk_at dksX9_order_8 8 rfl rfl)
theorem dX9_order_205 : decode cX9_order 205 = .ok (.iconst 1, 1) := dk_4 (dk_at dksX9_order_8 11 rfl rfl)
theorem dX9_order_206 : decode cX9_order 206 = .ok (.goto 4, 3) := dk_167 0 4 (dk_at dksX9_order_8 12 rfl rfl)
theorem dX9_order_209 : decode cX9_order 209 = .ok (.iconst 0, 1) := dk_3 (dk_at dksX9_order_8 15 rfl rfl)
theorem dX9_order_210 : decode cX9_order 210 = .ok (.ireturn, 1) := dk_172 (dk_at dksX9_order_8 16 rfl rfl)
theorem dX9_order_211 : decode cX9_order 211 = .ok (.aload_n 0, 1) := dk_42 (dk_at dksX9_order_8 17 rfl rfl)
theorem dX9_order_212 : decode cX9_order 212 = .ok (.iload_n 2, 1) := dk_28 (dk_at dksX9_order_8 18 rfl rfl)
theorem dX9_order_213 : decode cX9_order 213 = .ok (.iconst 1, 1) := dk_4 (dk_at dksX9_order_8 19 rfl rfl)
theorem dX9_order_214 : decode cX9_order 214 = .ok (.iadd, 1) := dk_96 (dk_at dksX9_order_8 20 rfl rfl)
theorem dX9_order_215 : decode cX9_order 215 = .ok (.invokevirtual 264, 3) := dk_182 1 8 (dk_at dksX9_order_8 21 rfl rfl)
theorem dX9_order_218 : decode cX9_order 218 = .ok (.ireturn, 1) := dk_172 (dk_at dksX9_order_9 0 rfl rfl)
theorem dX9_order_219 : decode cX9_order 219 = .ok (.aload_n 0, 1) := dk_42 (dk_at dksX9_order_9 1 rfl rfl)
theorem dX9_order_220 : decode cX9_order 220 = .ok (.iload_n 2, 1) := dk_28 (dk_at dksX9_order_9 2 rfl rfl)
theorem dX9_order_221 : decode cX9_order 221 = .ok (.iconst 1, 1) := dk_4 (dk_at dksX9_order_9 3 rfl rfl)
theorem dX9_order_222 : decode cX9_order 222 = .ok (.iadd, 1) := dk_96 (dk_at dksX9_order_9 4 rfl rfl)
theorem dX9_order_223 : decode cX9_order 223 = .ok (.iconst 1, 1) := dk_4 (dk_at dksX9_order_9 5 rfl rfl)
theorem dX9_order_224 : decode cX9_order 224 = .ok (.bipush 99, 2) := dk_16 99 (dk_at dksX9_order_9 6 rfl rfl)
theorem dX9_order_226 : decode cX9_order 226 = .ok (.invokevirtual 227, 3) := dk_182 0 227 (dk_at dksX9_order_9 8 rfl rfl)
theorem dX9_order_229 : decode cX9_order 229 = .ok (.ireturn, 1) := dk_172 (dk_at dksX9_order_9 11 rfl rfl)
theorem dX9_order_230 : decode cX9_order 230 = .ok (.aload_n 0, 1) := dk_42 (dk_at dksX9_order_9 12 rfl rfl)
theorem dX9_order_231 : decode cX9_order 231 = .ok (.iload_n 2, 1) := dk_28 (dk_at dksX9_order_9 13 rfl rfl)
theorem dX9_order_232 : decode cX9_order 232 = .ok (.invokevirtual 267, 3) := dk_182 1 11 (dk_at dksX9_order_9 14 rfl rfl)
theorem dX9_order_235 : decode cX9_order 235 = .ok (.ireturn, 1) := dk_172 (dk_at dksX9_order_9 17 rfl rfl)
theorem dX9_order_236 : decode cX9_order 236 = .ok (.iconst 1, 1) := dk_4 (dk_at dksX9_order_9 18 rfl rfl)
theorem dX9_order_237 : decode cX9_order 237 = .ok (.ireturn, 1) := dk_172 (dk_at dksX9_order_9 19 rfl rfl)
abbrev cX9_aMan : ByteArray := prog_21_method_48_code
def yX9_aMan : MethodName := ⟨RX9, "aMan", "(I)Z"⟩
def dkwX9_aMan_0 : List UInt8 := [42, 27, 5, 16, 14, 182, 1, 5, 172]
abbrev dktX9_aMan_0 : List UInt8 := dkwX9_aMan_0 ++ []
theorem dksX9_aMan_0 : cX9_aMan.data.toList.drop 0 = dktX9_aMan_0 := by decide +kernel
theorem dX9_aMan_0 : decode cX9_aMan 0 = .ok (.aload_n 0, 1) := dk_42 (dk_at dksX9_aMan_0 0 rfl rfl)
theorem dX9_aMan_1 : decode cX9_aMan 1 = .ok (.iload_n 1, 1) := dk_27 (dk_at dksX9_aMan_0 1 rfl rfl)
theorem dX9_aMan_2 : decode cX9_aMan 2 = .ok (.iconst 2, 1) := dk_5 (dk_at dksX9_aMan_0 2 rfl rfl)
theorem dX9_aMan_3 : decode cX9_aMan 3 = .ok (.bipush 14, 2) := dk_16 14 (dk_at dksX9_aMan_0 3 rfl rfl)
theorem dX9_aMan_5 : decode cX9_aMan 5 = .ok (.invokevirtual 261, 3) := dk_182 1 5 (dk_at dksX9_aMan_0 5 rfl rfl)
theorem dX9_aMan_8 : decode cX9_aMan 8 = .ok (.ireturn, 1) := dk_172 (dk_at dksX9_aMan_0 8 rfl rfl)
abbrev cX9_orderName : ByteArray := prog_21_method_47_code
def yX9_orderName : MethodName := ⟨RX9, "orderName", "(III)Z"⟩
def dkwX9_orderName_1 : List UInt8 := [180, 0, 210, 79, 4, 172]
abbrev dktX9_orderName_1 : List UInt8 := dkwX9_orderName_1 ++ []
def dkwX9_orderName_0 : List UInt8 := [42, 3, 42, 180, 0, 7, 28, 46, 29, 182, 0, 213, 154, 0, 5, 3, 172, 42, 180, 0, 7, 27, 42]
abbrev dktX9_orderName_0 : List UInt8 := dkwX9_orderName_0 ++ dktX9_orderName_1
theorem dksX9_orderName_0 : cX9_orderName.data.toList.drop 0 = dktX9_orderName_0 := by decide +kernel
theorem dksX9_orderName_1 : cX9_orderName.data.toList.drop 23 = dktX9_orderName_1 := dk_seg dksX9_orderName_0 23 rfl rfl
theorem dX9_orderName_0 : decode cX9_orderName 0 = .ok (.aload_n 0, 1) := dk_42 (dk_at dksX9_orderName_0 0 rfl rfl)
theorem dX9_orderName_1 : decode cX9_orderName 1 = .ok (.iconst 0, 1) := dk_3 (dk_at dksX9_orderName_0 1 rfl rfl)
theorem dX9_orderName_2 : decode cX9_orderName 2 = .ok (.aload_n 0, 1) := dk_42 (dk_at dksX9_orderName_0 2 rfl rfl)
theorem dX9_orderName_3 : decode cX9_orderName 3 = .ok (.getfield 7, 3) := dk_180 0 7 (dk_at dksX9_orderName_0 3 rfl rfl)
theorem dX9_orderName_6 : decode cX9_orderName 6 = .ok (.iload_n 2, 1) := dk_28 (dk_at dksX9_orderName_0 6 rfl rfl)
theorem dX9_orderName_7 : decode cX9_orderName 7 = .ok (.iaload, 1) := dk_46 (dk_at dksX9_orderName_0 7 rfl rfl)
theorem dX9_orderName_8 : decode cX9_orderName 8 = .ok (.iload_n 3, 1) := dk_29 (dk_at dksX9_orderName_0 8 rfl rfl)
theorem dX9_orderName_9 : decode cX9_orderName 9 = .ok (.invokevirtual 213, 3) := dk_182 0 213 (dk_at dksX9_orderName_0 9 rfl rfl)
theorem dX9_orderName_12 : decode cX9_orderName 12 = .ok (.ifCond .ne 5, 3) := dk_154 0 5 (dk_at dksX9_orderName_0 12 rfl rfl)
theorem dX9_orderName_15 : decode cX9_orderName 15 = .ok (.iconst 0, 1) := dk_3 (dk_at dksX9_orderName_0 15 rfl rfl)
theorem dX9_orderName_16 : decode cX9_orderName 16 = .ok (.ireturn, 1) := dk_172 (dk_at dksX9_orderName_0 16 rfl rfl)
theorem dX9_orderName_17 : decode cX9_orderName 17 = .ok (.aload_n 0, 1) := dk_42 (dk_at dksX9_orderName_0 17 rfl rfl)
theorem dX9_orderName_18 : decode cX9_orderName 18 = .ok (.getfield 7, 3) := dk_180 0 7 (dk_at dksX9_orderName_0 18 rfl rfl)
theorem dX9_orderName_21 : decode cX9_orderName 21 = .ok (.iload_n 1, 1) := dk_27 (dk_at dksX9_orderName_0 21 rfl rfl)
theorem dX9_orderName_22 : decode cX9_orderName 22 = .ok (.aload_n 0, 1) := dk_42 (dk_at dksX9_orderName_0 22 rfl rfl)
theorem dX9_orderName_23 : decode cX9_orderName 23 = .ok (.getfield 210, 3) := dk_180 0 210 (dk_at dksX9_orderName_1 0 rfl rfl)
theorem dX9_orderName_26 : decode cX9_orderName 26 = .ok (.iastore, 1) := dk_79 (dk_at dksX9_orderName_1 3 rfl rfl)
theorem dX9_orderName_27 : decode cX9_orderName 27 = .ok (.iconst 1, 1) := dk_4 (dk_at dksX9_orderName_1 4 rfl rfl)
theorem dX9_orderName_28 : decode cX9_orderName 28 = .ok (.ireturn, 1) := dk_172 (dk_at dksX9_orderName_1 5 rfl rfl)
abbrev cX9_aTest : ByteArray := prog_21_method_49_code
def yX9_aTest : MethodName := ⟨RX9, "aTest", "(I)Z"⟩
def dkwX9_aTest_4 : List UInt8 := [167, 0, 4, 3, 172]
abbrev dktX9_aTest_4 : List UInt8 := dkwX9_aTest_4 ++ []
def dkwX9_aTest_3 : List UInt8 := [153, 0, 25, 28, 16, 26, 159, 0, 15, 42, 27, 5, 96, 3, 3, 182, 1, 5, 153, 0, 7, 4]
abbrev dktX9_aTest_3 : List UInt8 := dkwX9_aTest_3 ++ dktX9_aTest_4
def dkwX9_aTest_2 : List UInt8 := [28, 16, 25, 160, 0, 14, 42, 27, 4, 96, 4, 16, 6, 182, 1, 5, 172, 42, 27, 4, 96, 182, 1, 8]
abbrev dktX9_aTest_2 : List UInt8 := dkwX9_aTest_2 ++ dktX9_aTest_3
def dkwX9_aTest_1 : List UInt8 := [159, 0, 9, 42, 5, 182, 0, 186, 172, 42, 180, 0, 7, 27, 17, 9, 96, 28, 96, 79, 42, 182, 0, 180]
abbrev dktX9_aTest_1 : List UInt8 := dkwX9_aTest_1 ++ dktX9_aTest_2
def dkwX9_aTest_0 : List UInt8 := [42, 18, 200, 182, 0, 189, 61, 28, 16, 15, 159, 0, 21, 28, 16, 25, 159, 0, 15, 28, 16, 26]
abbrev dktX9_aTest_0 : List UInt8 := dkwX9_aTest_0 ++ dktX9_aTest_1
theorem dksX9_aTest_0 : cX9_aTest.data.toList.drop 0 = dktX9_aTest_0 := by decide +kernel
theorem dksX9_aTest_1 : cX9_aTest.data.toList.drop 22 = dktX9_aTest_1 := dk_seg dksX9_aTest_0 22 rfl rfl
theorem dksX9_aTest_2 : cX9_aTest.data.toList.drop 46 = dktX9_aTest_2 := dk_seg dksX9_aTest_1 24 rfl rfl
theorem dksX9_aTest_3 : cX9_aTest.data.toList.drop 70 = dktX9_aTest_3 := dk_seg dksX9_aTest_2 24 rfl rfl
theorem dksX9_aTest_4 : cX9_aTest.data.toList.drop 92 = dktX9_aTest_4 := dk_seg dksX9_aTest_3 22 rfl rfl
theorem dX9_aTest_0 : decode cX9_aTest 0 = .ok (.aload_n 0, 1) := dk_42 (dk_at dksX9_aTest_0 0 rfl rfl)
theorem dX9_aTest_1 : decode cX9_aTest 1 = .ok (.ldc 200, 2) := dk_18 200 (dk_at dksX9_aTest_0 1 rfl rfl)
theorem dX9_aTest_3 : decode cX9_aTest 3 = .ok (.invokevirtual 189, 3) := dk_182 0 189 (dk_at dksX9_aTest_0 3 rfl rfl)
theorem dX9_aTest_6 : decode cX9_aTest 6 = .ok (.istore_n 2, 1) := dk_61 (dk_at dksX9_aTest_0 6 rfl rfl)
theorem dX9_aTest_7 : decode cX9_aTest 7 = .ok (.iload_n 2, 1) := dk_28 (dk_at dksX9_aTest_0 7 rfl rfl)
theorem dX9_aTest_8 : decode cX9_aTest 8 = .ok (.bipush 15, 2) := dk_16 15 (dk_at dksX9_aTest_0 8 rfl rfl)
theorem dX9_aTest_10 : decode cX9_aTest 10 = .ok (.if_icmp .eq 21, 3) := dk_159 0 21 (dk_at dksX9_aTest_0 10 rfl rfl)
theorem dX9_aTest_13 : decode cX9_aTest 13 = .ok (.iload_n 2, 1) := dk_28 (dk_at dksX9_aTest_0 13 rfl rfl)
theorem dX9_aTest_14 : decode cX9_aTest 14 = .ok (.bipush 25, 2) := dk_16 25 (dk_at dksX9_aTest_0 14 rfl rfl)
theorem dX9_aTest_16 : decode cX9_aTest 16 = .ok (.if_icmp .eq 15, 3) := dk_159 0 15 (dk_at dksX9_aTest_0 16 rfl rfl)
theorem dX9_aTest_19 : decode cX9_aTest 19 = .ok (.iload_n 2, 1) := dk_28 (dk_at dksX9_aTest_0 19 rfl rfl)
theorem dX9_aTest_20 : decode cX9_aTest 20 = .ok (.bipush 26, 2) := dk_16 26 (dk_at dksX9_aTest_0 20 rfl rfl)
theorem dX9_aTest_22 : decode cX9_aTest 22 = .ok (.if_icmp .eq 9, 3) := dk_159 0 9 (dk_at dksX9_aTest_1 0 rfl rfl)
theorem dX9_aTest_25 : decode cX9_aTest 25 = .ok (.aload_n 0, 1) := dk_42 (dk_at dksX9_aTest_1 3 rfl rfl)
theorem dX9_aTest_26 : decode cX9_aTest 26 = .ok (.iconst 2, 1) := dk_5 (dk_at dksX9_aTest_1 4 rfl rfl)
theorem dX9_aTest_27 : decode cX9_aTest 27 = .ok (.invokevirtual 186, 3) := dk_182 0 186 (dk_at dksX9_aTest_1 5 rfl rfl)
theorem dX9_aTest_30 : decode cX9_aTest 30 = .ok (.ireturn, 1) := dk_172 (dk_at dksX9_aTest_1 8 rfl rfl)
theorem dX9_aTest_31 : decode cX9_aTest 31 = .ok (.aload_n 0, 1) := dk_42 (dk_at dksX9_aTest_1 9 rfl rfl)
theorem dX9_aTest_32 : decode cX9_aTest 32 = .ok (.getfield 7, 3) := dk_180 0 7 (dk_at dksX9_aTest_1 10 rfl rfl)
theorem dX9_aTest_35 : decode cX9_aTest 35 = .ok (.iload_n 1, 1) := dk_27 (dk_at dksX9_aTest_1 13 rfl rfl)
theorem dX9_aTest_36 : decode cX9_aTest 36 = .ok (.sipush 2400, 3) := dk_17 9 96 (dk_at dksX9_aTest_1 14 rfl rfl)
theorem dX9_aTest_39 : decode cX9_aTest 39 = .ok (.iload_n 2, 1) := dk_28 (dk_at dksX9_aTest_1 17 rfl rfl)
theorem dX9_aTest_40 : decode cX9_aTest 40 = .ok (.iadd, 1) := dk_96 (dk_at dksX9_aTest_1 18 rfl rfl)
theorem dX9_aTest_41 : decode cX9_aTest 41 = .ok (.iastore, 1) := dk_79 (dk_at dksX9_aTest_1 19 rfl rfl)
theorem dX9_aTest_42 : decode cX9_aTest 42 = .ok (.aload_n 0, 1) := dk_42 (dk_at dksX9_aTest_1 20 rfl rfl)
theorem dX9_aTest_43 : decode cX9_aTest 43 = .ok (.invokevirtual 180, 3) := dk_182 0 180 (dk_at dksX9_aTest_1 21 rfl rfl)
theorem dX9_aTest_46 : decode cX9_aTest 46 = .ok (.iload_n 2, 1) := dk_28 (dk_at dksX9_aTest_2 0 rfl rfl)
theorem dX9_aTest_47 : decode cX9_aTest 47 = .ok (.bipush 25, 2) := dk_16 25 (dk_at dksX9_aTest_2 1 rfl rfl)
theorem dX9_aTest_49 : decode cX9_aTest 49 = .ok (.if_icmp .ne 14, 3) := dk_160 0 14 (dk_at dksX9_aTest_2 3 rfl rfl)
theorem dX9_aTest_52 : decode cX9_aTest 52 = .ok (.aload_n 0, 1) := dk_42 (dk_at dksX9_aTest_2 6 rfl rfl)
theorem dX9_aTest_53 : decode cX9_aTest 53 = .ok (.iload_n 1, 1) := dk_27 (dk_at dksX9_aTest_2 7 rfl rfl)
theorem dX9_aTest_54 : decode cX9_aTest 54 = .ok (.iconst 1, 1) := dk_4 (dk_at dksX9_aTest_2 8 rfl rfl)
theorem dX9_aTest_55 : decode cX9_aTest 55 = .ok (.iadd, 1) := dk_96 (dk_at dksX9_aTest_2 9 rfl rfl)
theorem dX9_aTest_56 : decode cX9_aTest 56 = .ok (.iconst 1, 1) := dk_4 (dk_at dksX9_aTest_2 10 rfl rfl)
theorem dX9_aTest_57 : decode cX9_aTest 57 = .ok (.bipush 6, 2) := dk_16 6 (dk_at dksX9_aTest_2 11 rfl rfl)
theorem dX9_aTest_59 : decode cX9_aTest 59 = .ok (.invokevirtual 261, 3) := dk_182 1 5 (dk_at dksX9_aTest_2 13 rfl rfl)
theorem dX9_aTest_62 : decode cX9_aTest 62 = .ok (.ireturn, 1) := dk_172 (dk_at dksX9_aTest_2 16 rfl rfl)
theorem dX9_aTest_63 : decode cX9_aTest 63 = .ok (.aload_n 0, 1) := dk_42 (dk_at dksX9_aTest_2 17 rfl rfl)
theorem dX9_aTest_64 : decode cX9_aTest 64 = .ok (.iload_n 1, 1) := dk_27 (dk_at dksX9_aTest_2 18 rfl rfl)
theorem dX9_aTest_65 : decode cX9_aTest 65 = .ok (.iconst 1, 1) := dk_4 (dk_at dksX9_aTest_2 19 rfl rfl)
theorem dX9_aTest_66 : decode cX9_aTest 66 = .ok (.iadd, 1) := dk_96 (dk_at dksX9_aTest_2 20 rfl rfl)
theorem dX9_aTest_67 : decode cX9_aTest 67 = .ok (.invokevirtual 264, 3) := dk_182 1 8 (dk_at dksX9_aTest_2 21 rfl rfl)
theorem dX9_aTest_70 : decode cX9_aTest 70 = .ok (.ifCond .eq 25, 3) := dk_153 0 25 (dk_at dksX9_aTest_3 0 rfl rfl)
theorem dX9_aTest_73 : decode cX9_aTest 73 = .ok (.iload_n 2, 1) := dk_28 (dk_at dksX9_aTest_3 3 rfl rfl)
theorem dX9_aTest_74 : decode cX9_aTest 74 = .ok (.bipush 26, 2) := dk_16 26 (dk_at dksX9_aTest_3 4 rfl rfl)
theorem dX9_aTest_76 : decode cX9_aTest 76 = .ok (.if_icmp .eq 15, 3) := dk_159 0 15 (dk_at dksX9_aTest_3 6 rfl rfl)
theorem dX9_aTest_79 : decode cX9_aTest 79 = .ok (.aload_n 0, 1) := dk_42 (dk_at dksX9_aTest_3 9 rfl rfl)
theorem dX9_aTest_80 : decode cX9_aTest 80 = .ok (.iload_n 1, 1) := dk_27 (dk_at dksX9_aTest_3 10 rfl rfl)
theorem dX9_aTest_81 : decode cX9_aTest 81 = .ok (.iconst 2, 1) := dk_5 (dk_at dksX9_aTest_3 11 rfl rfl)
theorem dX9_aTest_82 : decode cX9_aTest 82 = .ok (.iadd, 1) := dk_96 (dk_at dksX9_aTest_3 12 rfl rfl)
theorem dX9_aTest_83 : decode cX9_aTest 83 = .ok (.iconst 0, 1) := dk_3 (dk_at dksX9_aTest_3 13 rfl rfl)
theorem dX9_aTest_84 : decode cX9_aTest 84 = .ok (.iconst 0, 1) := dk_3 (dk_at dksX9_aTest_3 14 rfl rfl)
theorem dX9_aTest_85 : decode cX9_aTest 85 = .ok (.invokevirtual 261, 3) := dk_182 1 5 (dk_at dksX9_aTest_3 15 rfl rfl)
theorem dX9_aTest_88 : decode cX9_aTest 88 = .ok (.ifCond .eq 7, 3) := dk_153 0 7 (dk_at dksX9_aTest_3 18 rfl rfl)
theorem dX9_aTest_91 : decode cX9_aTest 91 = .ok (.iconst 1, 1) := dk_4 (dk_at dksX9_aTest_3 21 rfl rfl)
theorem dX9_aTest_92 : decode cX9_aTest 92 = .ok (.goto 4, 3) := dk_167 0 4 (dk_at dksX9_aTest_4 0 rfl rfl)
theorem dX9_aTest_95 : decode cX9_aTest 95 = .ok (.iconst 0, 1) := dk_3 (dk_at dksX9_aTest_4 3 rfl rfl)
theorem dX9_aTest_96 : decode cX9_aTest 96 = .ok (.ireturn, 1) := dk_172 (dk_at dksX9_aTest_4 4 rfl rfl)
abbrev cX9_told : ByteArray := prog_21_method_61_code
def yX9_told : MethodName := ⟨RX9, "told", "(I)I"⟩
def dkwX9_told_2 : List UInt8 := [182, 0, 107, 172]
abbrev dktX9_told_2 : List UInt8 := dkwX9_told_2 ++ []
def dkwX9_told_1 : List UInt8 := [162, 0, 12, 42, 180, 0, 7, 27, 46, 167, 0, 15, 42, 182, 1, 32, 153, 0, 7, 4, 167, 0, 4, 3]
abbrev dktX9_told_1 : List UInt8 := dkwX9_told_1 ++ dktX9_told_2
def dkwX9_told_0 : List UInt8 := [27, 155, 0, 8, 27, 7, 164, 0, 9, 42, 4, 182, 0, 103, 172, 42, 182, 1, 29, 42, 27, 7]
abbrev dktX9_told_0 : List UInt8 := dkwX9_told_0 ++ dktX9_told_1
theorem dksX9_told_0 : cX9_told.data.toList.drop 0 = dktX9_told_0 := by decide +kernel
theorem dksX9_told_1 : cX9_told.data.toList.drop 22 = dktX9_told_1 := dk_seg dksX9_told_0 22 rfl rfl
theorem dksX9_told_2 : cX9_told.data.toList.drop 46 = dktX9_told_2 := dk_seg dksX9_told_1 24 rfl rfl
theorem dX9_told_0 : decode cX9_told 0 = .ok (.iload_n 1, 1) := dk_27 (dk_at dksX9_told_0 0 rfl rfl)
theorem dX9_told_1 : decode cX9_told 1 = .ok (.ifCond .lt 8, 3) := dk_155 0 8 (dk_at dksX9_told_0 1 rfl rfl)
theorem dX9_told_4 : decode cX9_told 4 = .ok (.iload_n 1, 1) := dk_27 (dk_at dksX9_told_0 4 rfl rfl)
theorem dX9_told_5 : decode cX9_told 5 = .ok (.iconst 4, 1) := dk_7 (dk_at dksX9_told_0 5 rfl rfl)
theorem dX9_told_6 : decode cX9_told 6 = .ok (.if_icmp .le 9, 3) := dk_164 0 9 (dk_at dksX9_told_0 6 rfl rfl)
theorem dX9_told_9 : decode cX9_told 9 = .ok (.aload_n 0, 1) := dk_42 (dk_at dksX9_told_0 9 rfl rfl)
theorem dX9_told_10 : decode cX9_told 10 = .ok (.iconst 1, 1) := dk_4 (dk_at dksX9_told_0 10 rfl rfl)
theorem dX9_told_11 : decode cX9_told 11 = .ok (.invokevirtual 103, 3) := dk_182 0 103 (dk_at dksX9_told_0 11 rfl rfl)
theorem dX9_told_14 : decode cX9_told 14 = .ok (.ireturn, 1) := dk_172 (dk_at dksX9_told_0 14 rfl rfl)
theorem dX9_told_15 : decode cX9_told 15 = .ok (.aload_n 0, 1) := dk_42 (dk_at dksX9_told_0 15 rfl rfl)
theorem dX9_told_16 : decode cX9_told 16 = .ok (.invokevirtual 285, 3) := dk_182 1 29 (dk_at dksX9_told_0 16 rfl rfl)
theorem dX9_told_19 : decode cX9_told 19 = .ok (.aload_n 0, 1) := dk_42 (dk_at dksX9_told_0 19 rfl rfl)
theorem dX9_told_20 : decode cX9_told 20 = .ok (.iload_n 1, 1) := dk_27 (dk_at dksX9_told_0 20 rfl rfl)
theorem dX9_told_21 : decode cX9_told 21 = .ok (.iconst 4, 1) := dk_7 (dk_at dksX9_told_0 21 rfl rfl)
theorem dX9_told_22 : decode cX9_told 22 = .ok (.if_icmp .ge 12, 3) := dk_162 0 12 (dk_at dksX9_told_1 0 rfl rfl)
theorem dX9_told_25 : decode cX9_told 25 = .ok (.aload_n 0, 1) := dk_42 (dk_at dksX9_told_1 3 rfl rfl)
theorem dX9_told_26 : decode cX9_told 26 = .ok (.getfield 7, 3) := dk_180 0 7 (dk_at dksX9_told_1 4 rfl rfl)
theorem dX9_told_29 : decode cX9_told 29 = .ok (.iload_n 1, 1) := dk_27 (dk_at dksX9_told_1 7 rfl rfl)
theorem dX9_told_30 : decode cX9_told 30 = .ok (.iaload, 1) := dk_46 (dk_at dksX9_told_1 8 rfl rfl)
theorem dX9_told_31 : decode cX9_told 31 = .ok (.goto 15, 3) := dk_167 0 15 (dk_at dksX9_told_1 9 rfl rfl)
theorem dX9_told_34 : decode cX9_told 34 = .ok (.aload_n 0, 1) := dk_42 (dk_at dksX9_told_1 12 rfl rfl)
theorem dX9_told_35 : decode cX9_told 35 = .ok (.invokevirtual 288, 3) := dk_182 1 32 (dk_at dksX9_told_1 13 rfl rfl)
theorem dX9_told_38 : decode cX9_told 38 = .ok (.ifCond .eq 7, 3) := dk_153 0 7 (dk_at dksX9_told_1 16 rfl rfl)
theorem dX9_told_41 : decode cX9_told 41 = .ok (.iconst 1, 1) := dk_4 (dk_at dksX9_told_1 19 rfl rfl)
theorem dX9_told_42 : decode cX9_told 42 = .ok (.goto 4, 3) := dk_167 0 4 (dk_at dksX9_told_1 20 rfl rfl)
theorem dX9_told_45 : decode cX9_told 45 = .ok (.iconst 0, 1) := dk_3 (dk_at dksX9_told_1 23 rfl rfl)
theorem dX9_told_46 : decode cX9_told 46 = .ok (.invokevirtual 107, 3) := dk_182 0 107 (dk_at dksX9_told_2 0 rfl rfl)
theorem dX9_told_49 : decode cX9_told 49 = .ok (.ireturn, 1) := dk_172 (dk_at dksX9_told_2 3 rfl rfl)
abbrev cX9_takesNow : ByteArray := prog_21_method_65_code
def yX9_takesNow : MethodName := ⟨RX9, "takesNow", "()V"⟩
def dkwX9_takesNow_2 : List UInt8 := [27, 96, 46, 79, 132, 1, 1, 167, 255, 233, 177]
abbrev dktX9_takesNow_2 : List UInt8 := dkwX9_takesNow_2 ++ []
def dkwX9_takesNow_1 : List UInt8 := [132, 1, 1, 167, 255, 233, 3, 60, 27, 5, 162, 0, 24, 42, 180, 0, 50, 27, 42, 180, 0, 7, 16, 114]
abbrev dktX9_takesNow_1 : List UInt8 := dkwX9_takesNow_1 ++ dktX9_takesNow_2
def dkwX9_takesNow_0 : List UInt8 := [3, 60, 27, 7, 162, 0, 24, 42, 180, 0, 47, 27, 42, 180, 0, 7, 16, 110, 27, 96, 46, 79]
abbrev dktX9_takesNow_0 : List UInt8 := dkwX9_takesNow_0 ++ dktX9_takesNow_1
theorem dksX9_takesNow_0 : cX9_takesNow.data.toList.drop 0 = dktX9_takesNow_0 := by decide +kernel
theorem dksX9_takesNow_1 : cX9_takesNow.data.toList.drop 22 = dktX9_takesNow_1 := dk_seg dksX9_takesNow_0 22 rfl rfl
theorem dksX9_takesNow_2 : cX9_takesNow.data.toList.drop 46 = dktX9_takesNow_2 := dk_seg dksX9_takesNow_1 24 rfl rfl
theorem dX9_takesNow_0 : decode cX9_takesNow 0 = .ok (.iconst 0, 1) := dk_3 (dk_at dksX9_takesNow_0 0 rfl rfl)
theorem dX9_takesNow_1 : decode cX9_takesNow 1 = .ok (.istore_n 1, 1) := dk_60 (dk_at dksX9_takesNow_0 1 rfl rfl)
theorem dX9_takesNow_2 : decode cX9_takesNow 2 = .ok (.iload_n 1, 1) := dk_27 (dk_at dksX9_takesNow_0 2 rfl rfl)
theorem dX9_takesNow_3 : decode cX9_takesNow 3 = .ok (.iconst 4, 1) := dk_7 (dk_at dksX9_takesNow_0 3 rfl rfl)
theorem dX9_takesNow_4 : decode cX9_takesNow 4 = .ok (.if_icmp .ge 24, 3) := dk_162 0 24 (dk_at dksX9_takesNow_0 4 rfl rfl)
theorem dX9_takesNow_7 : decode cX9_takesNow 7 = .ok (.aload_n 0, 1) := dk_42 (dk_at dksX9_takesNow_0 7 rfl rfl)
theorem dX9_takesNow_8 : decode cX9_takesNow 8 = .ok (.getfield 47, 3) := dk_180 0 47 (dk_at dksX9_takesNow_0 8 rfl rfl)
theorem dX9_takesNow_11 : decode cX9_takesNow 11 = .ok (.iload_n 1, 1) := dk_27 (dk_at dksX9_takesNow_0 11 rfl rfl)
theorem dX9_takesNow_12 : decode cX9_takesNow 12 = .ok (.aload_n 0, 1) := dk_42 (dk_at dksX9_takesNow_0 12 rfl rfl)
theorem dX9_takesNow_13 : decode cX9_takesNow 13 = .ok (.getfield 7, 3) := dk_180 0 7 (dk_at dksX9_takesNow_0 13 rfl rfl)
theorem dX9_takesNow_16 : decode cX9_takesNow 16 = .ok (.bipush 110, 2) := dk_16 110 (dk_at dksX9_takesNow_0 16 rfl rfl)
theorem dX9_takesNow_18 : decode cX9_takesNow 18 = .ok (.iload_n 1, 1) := dk_27 (dk_at dksX9_takesNow_0 18 rfl rfl)
theorem dX9_takesNow_19 : decode cX9_takesNow 19 = .ok (.iadd, 1) := dk_96 (dk_at dksX9_takesNow_0 19 rfl rfl)
theorem dX9_takesNow_20 : decode cX9_takesNow 20 = .ok (.iaload, 1) := dk_46 (dk_at dksX9_takesNow_0 20 rfl rfl)
theorem dX9_takesNow_21 : decode cX9_takesNow 21 = .ok (.iastore, 1) := dk_79 (dk_at dksX9_takesNow_0 21 rfl rfl)
theorem dX9_takesNow_22 : decode cX9_takesNow 22 = .ok (.iinc 1 1, 3) := dk_132 1 1 (dk_at dksX9_takesNow_1 0 rfl rfl)
theorem dX9_takesNow_25 : decode cX9_takesNow 25 = .ok (.goto (-23), 3) := dk_167 255 233 (dk_at dksX9_takesNow_1 3 rfl rfl)
theorem dX9_takesNow_28 : decode cX9_takesNow 28 = .ok (.iconst 0, 1) := dk_3 (dk_at dksX9_takesNow_1 6 rfl rfl)
theorem dX9_takesNow_29 : decode cX9_takesNow 29 = .ok (.istore_n 1, 1) := dk_60 (dk_at dksX9_takesNow_1 7 rfl rfl)
theorem dX9_takesNow_30 : decode cX9_takesNow 30 = .ok (.iload_n 1, 1) := dk_27 (dk_at dksX9_takesNow_1 8 rfl rfl)
theorem dX9_takesNow_31 : decode cX9_takesNow 31 = .ok (.iconst 2, 1) := dk_5 (dk_at dksX9_takesNow_1 9 rfl rfl)
theorem dX9_takesNow_32 : decode cX9_takesNow 32 = .ok (.if_icmp .ge 24, 3) := dk_162 0 24 (dk_at dksX9_takesNow_1 10 rfl rfl)
theorem dX9_takesNow_35 : decode cX9_takesNow 35 = .ok (.aload_n 0, 1) := dk_42 (dk_at dksX9_takesNow_1 13 rfl rfl)
theorem dX9_takesNow_36 : decode cX9_takesNow 36 = .ok (.getfield 50, 3) := dk_180 0 50 (dk_at dksX9_takesNow_1 14 rfl rfl)
theorem dX9_takesNow_39 : decode cX9_takesNow 39 = .ok (.iload_n 1, 1) := dk_27 (dk_at dksX9_takesNow_1 17 rfl rfl)
theorem dX9_takesNow_40 : decode cX9_takesNow 40 = .ok (.aload_n 0, 1) := dk_42 (dk_at dksX9_takesNow_1 18 rfl rfl)
theorem dX9_takesNow_41 : decode cX9_takesNow 41 = .ok (.getfield 7, 3) := dk_180 0 7 (dk_at dksX9_takesNow_1 19 rfl rfl)
theorem dX9_takesNow_44 : decode cX9_takesNow 44 = .ok (.bipush 114, 2) := dk_16 114 (dk_at dksX9_takesNow_1 22 rfl rfl)
theorem dX9_takesNow_46 : decode cX9_takesNow 46 = .ok (.iload_n 1, 1) := dk_27 (dk_at dksX9_takesNow_2 0 rfl rfl)
theorem dX9_takesNow_47 : decode cX9_takesNow 47 = .ok (.iadd, 1) := dk_96 (dk_at dksX9_takesNow_2 1 rfl rfl)
theorem dX9_takesNow_48 : decode cX9_takesNow 48 = .ok (.iaload, 1) := dk_46 (dk_at dksX9_takesNow_2 2 rfl rfl)
theorem dX9_takesNow_49 : decode cX9_takesNow 49 = .ok (.iastore, 1) := dk_79 (dk_at dksX9_takesNow_2 3 rfl rfl)
theorem dX9_takesNow_50 : decode cX9_takesNow 50 = .ok (.iinc 1 1, 3) := dk_132 1 1 (dk_at dksX9_takesNow_2 4 rfl rfl)
theorem dX9_takesNow_53 : decode cX9_takesNow 53 = .ok (.goto (-23), 3) := dk_167 255 233 (dk_at dksX9_takesNow_2 7 rfl rfl)
theorem dX9_takesNow_56 : decode cX9_takesNow 56 = .ok (.return_, 1) := dk_177 (dk_at dksX9_takesNow_2 10 rfl rfl)
abbrev cX9_isDone : ByteArray := prog_21_method_60_code
def yX9_isDone : MethodName := ⟨RX9, "isDone", "()Z"⟩
def dkwX9_isDone_2 : List UInt8 := [60, 132, 2, 1, 167, 255, 208, 27, 172]
abbrev dktX9_isDone_2 : List UInt8 := dkwX9_isDone_2 ++ []
def dkwX9_isDone_1 : List UInt8 := [2, 159, 0, 18, 42, 28, 5, 182, 1, 2, 42, 180, 0, 47, 28, 46, 160, 0, 7, 4, 167, 0, 4, 3]
abbrev dktX9_isDone_1 : List UInt8 := dkwX9_isDone_1 ++ dktX9_isDone_2
def dkwX9_isDone_0 : List UInt8 := [4, 60, 3, 61, 28, 42, 180, 0, 7, 5, 46, 162, 0, 44, 27, 153, 0, 32, 42, 28, 5, 182, 1, 2]
abbrev dktX9_isDone_0 : List UInt8 := dkwX9_isDone_0 ++ dktX9_isDone_1
theorem dksX9_isDone_0 : cX9_isDone.data.toList.drop 0 = dktX9_isDone_0 := by decide +kernel
theorem dksX9_isDone_1 : cX9_isDone.data.toList.drop 24 = dktX9_isDone_1 := dk_seg dksX9_isDone_0 24 rfl rfl
theorem dksX9_isDone_2 : cX9_isDone.data.toList.drop 48 = dktX9_isDone_2 := dk_seg dksX9_isDone_1 24 rfl rfl
theorem dX9_isDone_0 : decode cX9_isDone 0 = .ok (.iconst 1, 1) := dk_4 (dk_at dksX9_isDone_0 0 rfl rfl)
theorem dX9_isDone_1 : decode cX9_isDone 1 = .ok (.istore_n 1, 1) := dk_60 (dk_at dksX9_isDone_0 1 rfl rfl)
theorem dX9_isDone_2 : decode cX9_isDone 2 = .ok (.iconst 0, 1) := dk_3 (dk_at dksX9_isDone_0 2 rfl rfl)
theorem dX9_isDone_3 : decode cX9_isDone 3 = .ok (.istore_n 2, 1) := dk_61 (dk_at dksX9_isDone_0 3 rfl rfl)
theorem dX9_isDone_4 : decode cX9_isDone 4 = .ok (.iload_n 2, 1) := dk_28 (dk_at dksX9_isDone_0 4 rfl rfl)
theorem dX9_isDone_5 : decode cX9_isDone 5 = .ok (.aload_n 0, 1) := dk_42 (dk_at dksX9_isDone_0 5 rfl rfl)
theorem dX9_isDone_6 : decode cX9_isDone 6 = .ok (.getfield 7, 3) := dk_180 0 7 (dk_at dksX9_isDone_0 6 rfl rfl)
theorem dX9_isDone_9 : decode cX9_isDone 9 = .ok (.iconst 2, 1) := dk_5 (dk_at dksX9_isDone_0 9 rfl rfl)
theorem dX9_isDone_10 : decode cX9_isDone 10 = .ok (.iaload, 1) := dk_46 (dk_at dksX9_isDone_0 10 rfl rfl)
theorem dX9_isDone_11 : decode cX9_isDone 11 = .ok (.if_icmp .ge 44, 3) := dk_162 0 44 (dk_at dksX9_isDone_0 11 rfl rfl)
theorem dX9_isDone_14 : decode cX9_isDone 14 = .ok (.iload_n 1, 1) := dk_27 (dk_at dksX9_isDone_0 14 rfl rfl)
theorem dX9_isDone_15 : decode cX9_isDone 15 = .ok (.ifCond .eq 32, 3) := dk_153 0 32 (dk_at dksX9_isDone_0 15 rfl rfl)
theorem dX9_isDone_18 : decode cX9_isDone 18 = .ok (.aload_n 0, 1) := dk_42 (dk_at dksX9_isDone_0 18 rfl rfl)
theorem dX9_isDone_19 : decode cX9_isDone 19 = .ok (.iload_n 2, 1) := dk_28 (dk_at dksX9_isDone_0 19 rfl rfl)
theorem dX9_isDone_20 : decode cX9_isDone 20 = .ok (.iconst 2, 1) := dk_5 (dk_at dksX9_isDone_0 20 rfl rfl)
theorem dX9_isDone_21 : decode cX9_isDone 21 = .ok (.invokevirtual 258, 3) := dk_182 1 2 (dk_at dksX9_isDone_0 21 rfl rfl)
theorem dX9_isDone_24 : decode cX9_isDone 24 = .ok (.iconst (-1), 1) := dk_2 (dk_at dksX9_isDone_1 0 rfl rfl)
theorem dX9_isDone_25 : decode cX9_isDone 25 = .ok (.if_icmp .eq 18, 3) := dk_159 0 18 (dk_at dksX9_isDone_1 1 rfl rfl)
theorem dX9_isDone_28 : decode cX9_isDone 28 = .ok (.aload_n 0, 1) := dk_42 (dk_at dksX9_isDone_1 4 rfl rfl)
theorem dX9_isDone_29 : decode cX9_isDone 29 = .ok (.iload_n 2, 1) := dk_28 (dk_at dksX9_isDone_1 5 rfl rfl)
theorem dX9_isDone_30 : decode cX9_isDone 30 = .ok (.iconst 2, 1) := dk_5 (dk_at dksX9_isDone_1 6 rfl rfl)
theorem dX9_isDone_31 : decode cX9_isDone 31 = .ok (.invokevirtual 258, 3) := dk_182 1 2 (dk_at dksX9_isDone_1 7 rfl rfl)
theorem dX9_isDone_34 : decode cX9_isDone 34 = .ok (.aload_n 0, 1) := dk_42 (dk_at dksX9_isDone_1 10 rfl rfl)
theorem dX9_isDone_35 : decode cX9_isDone 35 = .ok (.getfield 47, 3) := dk_180 0 47 (dk_at dksX9_isDone_1 11 rfl rfl)
theorem dX9_isDone_38 : decode cX9_isDone 38 = .ok (.iload_n 2, 1) := dk_28 (dk_at dksX9_isDone_1 14 rfl rfl)
theorem dX9_isDone_39 : decode cX9_isDone 39 = .ok (.iaload, 1) := dk_46 (dk_at dksX9_isDone_1 15 rfl rfl)
theorem dX9_isDone_40 : decode cX9_isDone 40 = .ok (.if_icmp .ne 7, 3) := dk_160 0 7 (dk_at dksX9_isDone_1 16 rfl rfl)
theorem dX9_isDone_43 : decode cX9_isDone 43 = .ok (.iconst 1, 1) := dk_4 (dk_at dksX9_isDone_1 19 rfl rfl)
theorem dX9_isDone_44 : decode cX9_isDone 44 = .ok (.goto 4, 3) := dk_167 0 4 (dk_at dksX9_isDone_1 20 rfl rfl)
theorem dX9_isDone_47 : decode cX9_isDone 47 = .ok (.iconst 0, 1) := dk_3 (dk_at dksX9_isDone_1 23 rfl rfl)
theorem dX9_isDone_48 : decode cX9_isDone 48 = .ok (.istore_n 1, 1) := dk_60 (dk_at dksX9_isDone_2 0 rfl rfl)
theorem dX9_isDone_49 : decode cX9_isDone 49 = .ok (.iinc 2 1, 3) := dk_132 2 1 (dk_at dksX9_isDone_2 1 rfl rfl)
theorem dX9_isDone_52 : decode cX9_isDone 52 = .ok (.goto (-48), 3) := dk_167 255 208 (dk_at dksX9_isDone_2 4 rfl rfl)
theorem dX9_isDone_55 : decode cX9_isDone 55 = .ok (.iload_n 1, 1) := dk_27 (dk_at dksX9_isDone_2 7 rfl rfl)
theorem dX9_isDone_56 : decode cX9_isDone 56 = .ok (.ireturn, 1) := dk_172 (dk_at dksX9_isDone_2 8 rfl rfl)
abbrev cX9_bridge : ByteArray := prog_21_method_62_code
def yX9_bridge : MethodName := ⟨RX9, "bridge", "(II)I"⟩
def dkwX9_bridge_2 : List UInt8 := [4, 182, 0, 103, 172]
abbrev dktX9_bridge_2 : List UInt8 := dkwX9_bridge_2 ++ []
def dkwX9_bridge_1 : List UInt8 := [160, 0, 11, 42, 27, 182, 1, 38, 167, 0, 9, 42, 27, 28, 182, 1, 26, 182, 0, 107, 167, 0, 8, 42]
abbrev dktX9_bridge_1 : List UInt8 := dkwX9_bridge_1 ++ dktX9_bridge_2
def dkwX9_bridge_0 : List UInt8 := [42, 27, 182, 1, 35, 153, 0, 40, 28, 155, 0, 36, 28, 16, 9, 163, 0, 30, 42, 28, 16, 9]
abbrev dktX9_bridge_0 : List UInt8 := dkwX9_bridge_0 ++ dktX9_bridge_1
theorem dksX9_bridge_0 : cX9_bridge.data.toList.drop 0 = dktX9_bridge_0 := by decide +kernel
theorem dksX9_bridge_1 : cX9_bridge.data.toList.drop 22 = dktX9_bridge_1 := dk_seg dksX9_bridge_0 22 rfl rfl
theorem dksX9_bridge_2 : cX9_bridge.data.toList.drop 46 = dktX9_bridge_2 := dk_seg dksX9_bridge_1 24 rfl rfl
theorem dX9_bridge_0 : decode cX9_bridge 0 = .ok (.aload_n 0, 1) := dk_42 (dk_at dksX9_bridge_0 0 rfl rfl)
theorem dX9_bridge_1 : decode cX9_bridge 1 = .ok (.iload_n 1, 1) := dk_27 (dk_at dksX9_bridge_0 1 rfl rfl)
theorem dX9_bridge_2 : decode cX9_bridge 2 = .ok (.invokevirtual 291, 3) := dk_182 1 35 (dk_at dksX9_bridge_0 2 rfl rfl)
theorem dX9_bridge_5 : decode cX9_bridge 5 = .ok (.ifCond .eq 40, 3) := dk_153 0 40 (dk_at dksX9_bridge_0 5 rfl rfl)
theorem dX9_bridge_8 : decode cX9_bridge 8 = .ok (.iload_n 2, 1) := dk_28 (dk_at dksX9_bridge_0 8 rfl rfl)
theorem dX9_bridge_9 : decode cX9_bridge 9 = .ok (.ifCond .lt 36, 3) := dk_155 0 36 (dk_at dksX9_bridge_0 9 rfl rfl)
theorem dX9_bridge_12 : decode cX9_bridge 12 = .ok (.iload_n 2, 1) := dk_28 (dk_at dksX9_bridge_0 12 rfl rfl)
theorem dX9_bridge_13 : decode cX9_bridge 13 = .ok (.bipush 9, 2) := dk_16 9 (dk_at dksX9_bridge_0 13 rfl rfl)
theorem dX9_bridge_15 : decode cX9_bridge 15 = .ok (.if_icmp .gt 30, 3) := dk_163 0 30 (dk_at dksX9_bridge_0 15 rfl rfl)
theorem dX9_bridge_18 : decode cX9_bridge 18 = .ok (.aload_n 0, 1) := dk_42 (dk_at dksX9_bridge_0 18 rfl rfl)
theorem dX9_bridge_19 : decode cX9_bridge 19 = .ok (.iload_n 2, 1) := dk_28 (dk_at dksX9_bridge_0 19 rfl rfl)
theorem dX9_bridge_20 : decode cX9_bridge 20 = .ok (.bipush 9, 2) := dk_16 9 (dk_at dksX9_bridge_0 20 rfl rfl)
theorem dX9_bridge_22 : decode cX9_bridge 22 = .ok (.if_icmp .ne 11, 3) := dk_160 0 11 (dk_at dksX9_bridge_1 0 rfl rfl)
theorem dX9_bridge_25 : decode cX9_bridge 25 = .ok (.aload_n 0, 1) := dk_42 (dk_at dksX9_bridge_1 3 rfl rfl)
theorem dX9_bridge_26 : decode cX9_bridge 26 = .ok (.iload_n 1, 1) := dk_27 (dk_at dksX9_bridge_1 4 rfl rfl)
theorem dX9_bridge_27 : decode cX9_bridge 27 = .ok (.invokevirtual 294, 3) := dk_182 1 38 (dk_at dksX9_bridge_1 5 rfl rfl)
theorem dX9_bridge_30 : decode cX9_bridge 30 = .ok (.goto 9, 3) := dk_167 0 9 (dk_at dksX9_bridge_1 8 rfl rfl)
theorem dX9_bridge_33 : decode cX9_bridge 33 = .ok (.aload_n 0, 1) := dk_42 (dk_at dksX9_bridge_1 11 rfl rfl)
theorem dX9_bridge_34 : decode cX9_bridge 34 = .ok (.iload_n 1, 1) := dk_27 (dk_at dksX9_bridge_1 12 rfl rfl)
theorem dX9_bridge_35 : decode cX9_bridge 35 = .ok (.iload_n 2, 1) := dk_28 (dk_at dksX9_bridge_1 13 rfl rfl)
theorem dX9_bridge_36 : decode cX9_bridge 36 = .ok (.invokevirtual 282, 3) := dk_182 1 26 (dk_at dksX9_bridge_1 14 rfl rfl)
theorem dX9_bridge_39 : decode cX9_bridge 39 = .ok (.invokevirtual 107, 3) := dk_182 0 107 (dk_at dksX9_bridge_1 17 rfl rfl)
theorem dX9_bridge_42 : decode cX9_bridge 42 = .ok (.goto 8, 3) := dk_167 0 8 (dk_at dksX9_bridge_1 20 rfl rfl)
theorem dX9_bridge_45 : decode cX9_bridge 45 = .ok (.aload_n 0, 1) := dk_42 (dk_at dksX9_bridge_1 23 rfl rfl)
theorem dX9_bridge_46 : decode cX9_bridge 46 = .ok (.iconst 1, 1) := dk_4 (dk_at dksX9_bridge_2 0 rfl rfl)
theorem dX9_bridge_47 : decode cX9_bridge 47 = .ok (.invokevirtual 103, 3) := dk_182 0 103 (dk_at dksX9_bridge_2 1 rfl rfl)
theorem dX9_bridge_50 : decode cX9_bridge 50 = .ok (.ireturn, 1) := dk_172 (dk_at dksX9_bridge_2 4 rfl rfl)
abbrev cX9_isBridge : ByteArray := prog_21_method_54_code
def yX9_isBridge : MethodName := ⟨RX9, "isBridge", "(I)Z"⟩
def dkwX9_isBridge_0 : List UInt8 := [27, 155, 0, 17, 27, 42, 180, 0, 7, 4, 46, 162, 0, 7, 4, 167, 0, 4, 3, 172]
abbrev dktX9_isBridge_0 : List UInt8 := dkwX9_isBridge_0 ++ []
theorem dksX9_isBridge_0 : cX9_isBridge.data.toList.drop 0 = dktX9_isBridge_0 := by decide +kernel
theorem dX9_isBridge_0 : decode cX9_isBridge 0 = .ok (.iload_n 1, 1) := dk_27 (dk_at dksX9_isBridge_0 0 rfl rfl)
theorem dX9_isBridge_1 : decode cX9_isBridge 1 = .ok (.ifCond .lt 17, 3) := dk_155 0 17 (dk_at dksX9_isBridge_0 1 rfl rfl)
theorem dX9_isBridge_4 : decode cX9_isBridge 4 = .ok (.iload_n 1, 1) := dk_27 (dk_at dksX9_isBridge_0 4 rfl rfl)
theorem dX9_isBridge_5 : decode cX9_isBridge 5 = .ok (.aload_n 0, 1) := dk_42 (dk_at dksX9_isBridge_0 5 rfl rfl)
theorem dX9_isBridge_6 : decode cX9_isBridge 6 = .ok (.getfield 7, 3) := dk_180 0 7 (dk_at dksX9_isBridge_0 6 rfl rfl)
theorem dX9_isBridge_9 : decode cX9_isBridge 9 = .ok (.iconst 1, 1) := dk_4 (dk_at dksX9_isBridge_0 9 rfl rfl)
theorem dX9_isBridge_10 : decode cX9_isBridge 10 = .ok (.iaload, 1) := dk_46 (dk_at dksX9_isBridge_0 10 rfl rfl)
theorem dX9_isBridge_11 : decode cX9_isBridge 11 = .ok (.if_icmp .ge 7, 3) := dk_162 0 7 (dk_at dksX9_isBridge_0 11 rfl rfl)
theorem dX9_isBridge_14 : decode cX9_isBridge 14 = .ok (.iconst 1, 1) := dk_4 (dk_at dksX9_isBridge_0 14 rfl rfl)
theorem dX9_isBridge_15 : decode cX9_isBridge 15 = .ok (.goto 4, 3) := dk_167 0 4 (dk_at dksX9_isBridge_0 15 rfl rfl)
theorem dX9_isBridge_18 : decode cX9_isBridge 18 = .ok (.iconst 0, 1) := dk_3 (dk_at dksX9_isBridge_0 18 rfl rfl)
theorem dX9_isBridge_19 : decode cX9_isBridge 19 = .ok (.ireturn, 1) := dk_172 (dk_at dksX9_isBridge_0 19 rfl rfl)
abbrev cX9_takesOf : ByteArray := prog_21_method_59_code
def yX9_takesOf : MethodName := ⟨RX9, "takesOf", "(I)I"⟩
def dkwX9_takesOf_0 : List UInt8 := [42, 27, 6, 182, 1, 26, 42, 27, 7, 182, 1, 26, 96, 4, 100, 42, 27, 7, 182, 1, 26, 108, 172]
abbrev dktX9_takesOf_0 : List UInt8 := dkwX9_takesOf_0 ++ []
theorem dksX9_takesOf_0 : cX9_takesOf.data.toList.drop 0 = dktX9_takesOf_0 := by decide +kernel
theorem dX9_takesOf_0 : decode cX9_takesOf 0 = .ok (.aload_n 0, 1) := dk_42 (dk_at dksX9_takesOf_0 0 rfl rfl)
theorem dX9_takesOf_1 : decode cX9_takesOf 1 = .ok (.iload_n 1, 1) := dk_27 (dk_at dksX9_takesOf_0 1 rfl rfl)
theorem dX9_takesOf_2 : decode cX9_takesOf 2 = .ok (.iconst 3, 1) := dk_6 (dk_at dksX9_takesOf_0 2 rfl rfl)
theorem dX9_takesOf_3 : decode cX9_takesOf 3 = .ok (.invokevirtual 282, 3) := dk_182 1 26 (dk_at dksX9_takesOf_0 3 rfl rfl)
theorem dX9_takesOf_6 : decode cX9_takesOf 6 = .ok (.aload_n 0, 1) := dk_42 (dk_at dksX9_takesOf_0 6 rfl rfl)
theorem dX9_takesOf_7 : decode cX9_takesOf 7 = .ok (.iload_n 1, 1) := dk_27 (dk_at dksX9_takesOf_0 7 rfl rfl)
theorem dX9_takesOf_8 : decode cX9_takesOf 8 = .ok (.iconst 4, 1) := dk_7 (dk_at dksX9_takesOf_0 8 rfl rfl)
theorem dX9_takesOf_9 : decode cX9_takesOf 9 = .ok (.invokevirtual 282, 3) := dk_182 1 26 (dk_at dksX9_takesOf_0 9 rfl rfl)
theorem dX9_takesOf_12 : decode cX9_takesOf 12 = .ok (.iadd, 1) := dk_96 (dk_at dksX9_takesOf_0 12 rfl rfl)
theorem dX9_takesOf_13 : decode cX9_takesOf 13 = .ok (.iconst 1, 1) := dk_4 (dk_at dksX9_takesOf_0 13 rfl rfl)
theorem dX9_takesOf_14 : decode cX9_takesOf 14 = .ok (.isub, 1) := dk_100 (dk_at dksX9_takesOf_0 14 rfl rfl)
theorem dX9_takesOf_15 : decode cX9_takesOf 15 = .ok (.aload_n 0, 1) := dk_42 (dk_at dksX9_takesOf_0 15 rfl rfl)
theorem dX9_takesOf_16 : decode cX9_takesOf 16 = .ok (.iload_n 1, 1) := dk_27 (dk_at dksX9_takesOf_0 16 rfl rfl)
theorem dX9_takesOf_17 : decode cX9_takesOf 17 = .ok (.iconst 4, 1) := dk_7 (dk_at dksX9_takesOf_0 17 rfl rfl)
theorem dX9_takesOf_18 : decode cX9_takesOf 18 = .ok (.invokevirtual 282, 3) := dk_182 1 26 (dk_at dksX9_takesOf_0 18 rfl rfl)
theorem dX9_takesOf_21 : decode cX9_takesOf 21 = .ok (.idiv, 1) := dk_108 (dk_at dksX9_takesOf_0 21 rfl rfl)
theorem dX9_takesOf_22 : decode cX9_takesOf 22 = .ok (.ireturn, 1) := dk_172 (dk_at dksX9_takesOf_0 22 rfl rfl)
abbrev cX9_ofBridge : ByteArray := prog_21_method_57_code
def yX9_ofBridge : MethodName := ⟨RX9, "ofBridge", "(II)I"⟩
def dkwX9_ofBridge_0 : List UInt8 := [42, 180, 0, 7, 16, 14, 16, 9, 27, 104, 96, 28, 96, 46, 172]
abbrev dktX9_ofBridge_0 : List UInt8 := dkwX9_ofBridge_0 ++ []
theorem dksX9_ofBridge_0 : cX9_ofBridge.data.toList.drop 0 = dktX9_ofBridge_0 := by decide +kernel
theorem dX9_ofBridge_0 : decode cX9_ofBridge 0 = .ok (.aload_n 0, 1) := dk_42 (dk_at dksX9_ofBridge_0 0 rfl rfl)
theorem dX9_ofBridge_1 : decode cX9_ofBridge 1 = .ok (.getfield 7, 3) := dk_180 0 7 (dk_at dksX9_ofBridge_0 1 rfl rfl)
theorem dX9_ofBridge_4 : decode cX9_ofBridge 4 = .ok (.bipush 14, 2) := dk_16 14 (dk_at dksX9_ofBridge_0 4 rfl rfl)
theorem dX9_ofBridge_6 : decode cX9_ofBridge 6 = .ok (.bipush 9, 2) := dk_16 9 (dk_at dksX9_ofBridge_0 6 rfl rfl)
theorem dX9_ofBridge_8 : decode cX9_ofBridge 8 = .ok (.iload_n 1, 1) := dk_27 (dk_at dksX9_ofBridge_0 8 rfl rfl)
theorem dX9_ofBridge_9 : decode cX9_ofBridge 9 = .ok (.imul, 1) := dk_104 (dk_at dksX9_ofBridge_0 9 rfl rfl)
theorem dX9_ofBridge_10 : decode cX9_ofBridge 10 = .ok (.iadd, 1) := dk_96 (dk_at dksX9_ofBridge_0 10 rfl rfl)
theorem dX9_ofBridge_11 : decode cX9_ofBridge 11 = .ok (.iload_n 2, 1) := dk_28 (dk_at dksX9_ofBridge_0 11 rfl rfl)
theorem dX9_ofBridge_12 : decode cX9_ofBridge 12 = .ok (.iadd, 1) := dk_96 (dk_at dksX9_ofBridge_0 12 rfl rfl)
theorem dX9_ofBridge_13 : decode cX9_ofBridge 13 = .ok (.iaload, 1) := dk_46 (dk_at dksX9_ofBridge_0 13 rfl rfl)
theorem dX9_ofBridge_14 : decode cX9_ofBridge 14 = .ok (.ireturn, 1) := dk_172 (dk_at dksX9_ofBridge_0 14 rfl rfl)
abbrev cX9_person : ByteArray := prog_21_method_63_code
def yX9_person : MethodName := ⟨RX9, "person", "(II)I"⟩
def dkwX9_person_2 : List UInt8 := [3, 167, 0, 13, 28, 5, 160, 0, 7, 6, 167, 0, 4, 7, 182, 1, 2, 182, 0, 107, 172]
abbrev dktX9_person_2 : List UInt8 := dkwX9_person_2 ++ []
def dkwX9_person_1 : List UInt8 := [4, 160, 0, 16, 42, 42, 27, 5, 182, 1, 2, 182, 1, 44, 167, 0, 30, 42, 42, 27, 28, 154, 0, 7]
abbrev dktX9_person_1 : List UInt8 := dkwX9_person_1 ++ dktX9_person_2
def dkwX9_person_0 : List UInt8 := [42, 27, 182, 1, 41, 153, 0, 12, 28, 155, 0, 8, 28, 6, 164, 0, 9, 42, 4, 182, 0, 103, 172, 28]
abbrev dktX9_person_0 : List UInt8 := dkwX9_person_0 ++ dktX9_person_1
theorem dksX9_person_0 : cX9_person.data.toList.drop 0 = dktX9_person_0 := by decide +kernel
theorem dksX9_person_1 : cX9_person.data.toList.drop 24 = dktX9_person_1 := dk_seg dksX9_person_0 24 rfl rfl
theorem dksX9_person_2 : cX9_person.data.toList.drop 48 = dktX9_person_2 := dk_seg dksX9_person_1 24 rfl rfl
theorem dX9_person_0 : decode cX9_person 0 = .ok (.aload_n 0, 1) := dk_42 (dk_at dksX9_person_0 0 rfl rfl)
theorem dX9_person_1 : decode cX9_person 1 = .ok (.iload_n 1, 1) := dk_27 (dk_at dksX9_person_0 1 rfl rfl)
theorem dX9_person_2 : decode cX9_person 2 = .ok (.invokevirtual 297, 3) := dk_182 1 41 (dk_at dksX9_person_0 2 rfl rfl)
theorem dX9_person_5 : decode cX9_person 5 = .ok (.ifCond .eq 12, 3) := dk_153 0 12 (dk_at dksX9_person_0 5 rfl rfl)
theorem dX9_person_8 : decode cX9_person 8 = .ok (.iload_n 2, 1) := dk_28 (dk_at dksX9_person_0 8 rfl rfl)
theorem dX9_person_9 : decode cX9_person 9 = .ok (.ifCond .lt 8, 3) := dk_155 0 8 (dk_at dksX9_person_0 9 rfl rfl)
theorem dX9_person_12 : decode cX9_person 12 = .ok (.iload_n 2, 1) := dk_28 (dk_at dksX9_person_0 12 rfl rfl)
theorem dX9_person_13 : decode cX9_person 13 = .ok (.iconst 3, 1) := dk_6 (dk_at dksX9_person_0 13 rfl rfl)
theorem dX9_person_14 : decode cX9_person 14 = .ok (.if_icmp .le 9, 3) := dk_164 0 9 (dk_at dksX9_person_0 14 rfl rfl)
theorem dX9_person_17 : decode cX9_person 17 = .ok (.aload_n 0, 1) := dk_42 (dk_at dksX9_person_0 17 rfl rfl)
theorem dX9_person_18 : decode cX9_person 18 = .ok (.iconst 1, 1) := dk_4 (dk_at dksX9_person_0 18 rfl rfl)
theorem dX9_person_19 : decode cX9_person 19 = .ok (.invokevirtual 103, 3) := dk_182 0 103 (dk_at dksX9_person_0 19 rfl rfl)
theorem dX9_person_22 : decode cX9_person 22 = .ok (.ireturn, 1) := dk_172 (dk_at dksX9_person_0 22 rfl rfl)
theorem dX9_person_23 : decode cX9_person 23 = .ok (.iload_n 2, 1) := dk_28 (dk_at dksX9_person_0 23 rfl rfl)
theorem dX9_person_24 : decode cX9_person 24 = .ok (.iconst 1, 1) := dk_4 (dk_at dksX9_person_1 0 rfl rfl)
theorem dX9_person_25 : decode cX9_person 25 = .ok (.if_icmp .ne 16, 3) := dk_160 0 16 (dk_at dksX9_person_1 1 rfl rfl)
theorem dX9_person_28 : decode cX9_person 28 = .ok (.aload_n 0, 1) := dk_42 (dk_at dksX9_person_1 4 rfl rfl)
theorem dX9_person_29 : decode cX9_person 29 = .ok (.aload_n 0, 1) := dk_42 (dk_at dksX9_person_1 5 rfl rfl)
theorem dX9_person_30 : decode cX9_person 30 = .ok (.iload_n 1, 1) := dk_27 (dk_at dksX9_person_1 6 rfl rfl)
theorem dX9_person_31 : decode cX9_person 31 = .ok (.iconst 2, 1) := dk_5 (dk_at dksX9_person_1 7 rfl rfl)
theorem dX9_person_32 : decode cX9_person 32 = .ok (.invokevirtual 258, 3) := dk_182 1 2 (dk_at dksX9_person_1 8 rfl rfl)
theorem dX9_person_35 : decode cX9_person 35 = .ok (.invokevirtual 300, 3) := dk_182 1 44 (dk_at dksX9_person_1 11 rfl rfl)
theorem dX9_person_38 : decode cX9_person 38 = .ok (.goto 30, 3) := dk_167 0 30 (dk_at dksX9_person_1 14 rfl rfl)
theorem dX9_person_41 : decode cX9_person 41 = .ok (.aload_n 0, 1) := dk_42 (dk_at dksX9_person_1 17 rfl rfl)
theorem dX9_person_42 : decode cX9_person 42 = .ok (.aload_n 0, 1) := dk_42 (dk_at dksX9_person_1 18 rfl rfl)
theorem dX9_person_43 : decode cX9_person 43 = .ok (.iload_n 1, 1) := dk_27 (dk_at dksX9_person_1 19 rfl rfl)
theorem dX9_person_44 : decode cX9_person 44 = .ok (.iload_n 2, 1) := dk_28 (dk_at dksX9_person_1 20 rfl rfl)
theorem dX9_person_45 : decode cX9_person 45 = .ok (.ifCond .ne 7, 3) := dk_154 0 7 (dk_at dksX9_person_1 21 rfl rfl)
theorem dX9_person_48 : decode cX9_person 48 = .ok (.iconst 0, 1) := dk_3 (dk_at dksX9_person_2 0 rfl rfl)
theorem dX9_person_49 : decode cX9_person 49 = .ok (.goto 13, 3) := dk_167 0 13 (dk_at dksX9_person_2 1 rfl rfl)
theorem dX9_person_52 : decode cX9_person 52 = .ok (.iload_n 2, 1) := dk_28 (dk_at dksX9_person_2 4 rfl rfl)
theorem dX9_person_53 : decode cX9_person 53 = .ok (.iconst 2, 1) := dk_5 (dk_at dksX9_person_2 5 rfl rfl)
theorem dX9_person_54 : decode cX9_person 54 = .ok (.if_icmp .ne 7, 3) := dk_160 0 7 (dk_at dksX9_person_2 6 rfl rfl)
theorem dX9_person_57 : decode cX9_person 57 = .ok (.iconst 3, 1) := dk_6 (dk_at dksX9_person_2 9 rfl rfl)
theorem dX9_person_58 : decode cX9_person 58 = .ok (.goto 4, 3) := dk_167 0 4 (dk_at dksX9_person_2 10 rfl rfl)
theorem dX9_person_61 : decode cX9_person 61 = .ok (.iconst 4, 1) := dk_7 (dk_at dksX9_person_2 13 rfl rfl)
theorem dX9_person_62 : decode cX9_person 62 = .ok (.invokevirtual 258, 3) := dk_182 1 2 (dk_at dksX9_person_2 14 rfl rfl)
theorem dX9_person_65 : decode cX9_person 65 = .ok (.invokevirtual 107, 3) := dk_182 0 107 (dk_at dksX9_person_2 17 rfl rfl)
theorem dX9_person_68 : decode cX9_person 68 = .ok (.ireturn, 1) := dk_172 (dk_at dksX9_person_2 20 rfl rfl)
abbrev cX9_isPerson : ByteArray := prog_21_method_55_code
def yX9_isPerson : MethodName := ⟨RX9, "isPerson", "(I)Z"⟩
def dkwX9_isPerson_0 : List UInt8 := [27, 155, 0, 17, 27, 42, 180, 0, 7, 5, 46, 162, 0, 7, 4, 167, 0, 4, 3, 172]
abbrev dktX9_isPerson_0 : List UInt8 := dkwX9_isPerson_0 ++ []
theorem dksX9_isPerson_0 : cX9_isPerson.data.toList.drop 0 = dktX9_isPerson_0 := by decide +kernel
theorem dX9_isPerson_0 : decode cX9_isPerson 0 = .ok (.iload_n 1, 1) := dk_27 (dk_at dksX9_isPerson_0 0 rfl rfl)
theorem dX9_isPerson_1 : decode cX9_isPerson 1 = .ok (.ifCond .lt 17, 3) := dk_155 0 17 (dk_at dksX9_isPerson_0 1 rfl rfl)
theorem dX9_isPerson_4 : decode cX9_isPerson 4 = .ok (.iload_n 1, 1) := dk_27 (dk_at dksX9_isPerson_0 4 rfl rfl)
theorem dX9_isPerson_5 : decode cX9_isPerson 5 = .ok (.aload_n 0, 1) := dk_42 (dk_at dksX9_isPerson_0 5 rfl rfl)
theorem dX9_isPerson_6 : decode cX9_isPerson 6 = .ok (.getfield 7, 3) := dk_180 0 7 (dk_at dksX9_isPerson_0 6 rfl rfl)
theorem dX9_isPerson_9 : decode cX9_isPerson 9 = .ok (.iconst 2, 1) := dk_5 (dk_at dksX9_isPerson_0 9 rfl rfl)
theorem dX9_isPerson_10 : decode cX9_isPerson 10 = .ok (.iaload, 1) := dk_46 (dk_at dksX9_isPerson_0 10 rfl rfl)
theorem dX9_isPerson_11 : decode cX9_isPerson 11 = .ok (.if_icmp .ge 7, 3) := dk_162 0 7 (dk_at dksX9_isPerson_0 11 rfl rfl)
theorem dX9_isPerson_14 : decode cX9_isPerson 14 = .ok (.iconst 1, 1) := dk_4 (dk_at dksX9_isPerson_0 14 rfl rfl)
theorem dX9_isPerson_15 : decode cX9_isPerson 15 = .ok (.goto 4, 3) := dk_167 0 4 (dk_at dksX9_isPerson_0 15 rfl rfl)
theorem dX9_isPerson_18 : decode cX9_isPerson 18 = .ok (.iconst 0, 1) := dk_3 (dk_at dksX9_isPerson_0 18 rfl rfl)
theorem dX9_isPerson_19 : decode cX9_isPerson 19 = .ok (.ireturn, 1) := dk_172 (dk_at dksX9_isPerson_0 19 rfl rfl)
abbrev cX9_orNone : ByteArray := prog_21_method_8_code
def yX9_orNone : MethodName := ⟨RX9, "orNone", "(I)I"⟩
def dkwX9_orNone_0 : List UInt8 := [27, 2, 160, 0, 12, 42, 16, 6, 182, 0, 103, 167, 0, 8, 42, 27, 182, 0, 107, 172]
abbrev dktX9_orNone_0 : List UInt8 := dkwX9_orNone_0 ++ []
theorem dksX9_orNone_0 : cX9_orNone.data.toList.drop 0 = dktX9_orNone_0 := by decide +kernel
theorem dX9_orNone_0 : decode cX9_orNone 0 = .ok (.iload_n 1, 1) := dk_27 (dk_at dksX9_orNone_0 0 rfl rfl)
theorem dX9_orNone_1 : decode cX9_orNone 1 = .ok (.iconst (-1), 1) := dk_2 (dk_at dksX9_orNone_0 1 rfl rfl)
theorem dX9_orNone_2 : decode cX9_orNone 2 = .ok (.if_icmp .ne 12, 3) := dk_160 0 12 (dk_at dksX9_orNone_0 2 rfl rfl)
theorem dX9_orNone_5 : decode cX9_orNone 5 = .ok (.aload_n 0, 1) := dk_42 (dk_at dksX9_orNone_0 5 rfl rfl)
theorem dX9_orNone_6 : decode cX9_orNone 6 = .ok (.bipush 6, 2) := dk_16 6 (dk_at dksX9_orNone_0 6 rfl rfl)
theorem dX9_orNone_8 : decode cX9_orNone 8 = .ok (.invokevirtual 103, 3) := dk_182 0 103 (dk_at dksX9_orNone_0 8 rfl rfl)
theorem dX9_orNone_11 : decode cX9_orNone 11 = .ok (.goto 8, 3) := dk_167 0 8 (dk_at dksX9_orNone_0 11 rfl rfl)
theorem dX9_orNone_14 : decode cX9_orNone 14 = .ok (.aload_n 0, 1) := dk_42 (dk_at dksX9_orNone_0 14 rfl rfl)
theorem dX9_orNone_15 : decode cX9_orNone 15 = .ok (.iload_n 1, 1) := dk_27 (dk_at dksX9_orNone_0 15 rfl rfl)
theorem dX9_orNone_16 : decode cX9_orNone 16 = .ok (.invokevirtual 107, 3) := dk_182 0 107 (dk_at dksX9_orNone_0 16 rfl rfl)
theorem dX9_orNone_19 : decode cX9_orNone 19 = .ok (.ireturn, 1) := dk_172 (dk_at dksX9_orNone_0 19 rfl rfl)
abbrev cX9_stones : ByteArray := prog_21_method_64_code
def yX9_stones : MethodName := ⟨RX9, "stones", "(I)I"⟩
def dkwX9_stones_1 : List UInt8 := [42, 4, 182, 0, 103, 172]
abbrev dktX9_stones_1 : List UInt8 := dkwX9_stones_1 ++ []
def dkwX9_stones_0 : List UInt8 := [42, 27, 182, 1, 47, 153, 0, 19, 42, 42, 180, 0, 7, 16, 8, 27, 96, 46, 182, 0, 107, 167, 0, 8]
abbrev dktX9_stones_0 : List UInt8 := dkwX9_stones_0 ++ dktX9_stones_1
theorem dksX9_stones_0 : cX9_stones.data.toList.drop 0 = dktX9_stones_0 := by decide +kernel
theorem dksX9_stones_1 : cX9_stones.data.toList.drop 24 = dktX9_stones_1 := dk_seg dksX9_stones_0 24 rfl rfl
theorem dX9_stones_0 : decode cX9_stones 0 = .ok (.aload_n 0, 1) := dk_42 (dk_at dksX9_stones_0 0 rfl rfl)
theorem dX9_stones_1 : decode cX9_stones 1 = .ok (.iload_n 1, 1) := dk_27 (dk_at dksX9_stones_0 1 rfl rfl)
theorem dX9_stones_2 : decode cX9_stones 2 = .ok (.invokevirtual 303, 3) := dk_182 1 47 (dk_at dksX9_stones_0 2 rfl rfl)
theorem dX9_stones_5 : decode cX9_stones 5 = .ok (.ifCond .eq 19, 3) := dk_153 0 19 (dk_at dksX9_stones_0 5 rfl rfl)
theorem dX9_stones_8 : decode cX9_stones 8 = .ok (.aload_n 0, 1) := dk_42 (dk_at dksX9_stones_0 8 rfl rfl)
theorem dX9_stones_9 : decode cX9_stones 9 = .ok (.aload_n 0, 1) := dk_42 (dk_at dksX9_stones_0 9 rfl rfl)
theorem dX9_stones_10 : decode cX9_stones 10 = .ok (.getfield 7, 3) := dk_180 0 7 (dk_at dksX9_stones_0 10 rfl rfl)
theorem dX9_stones_13 : decode cX9_stones 13 = .ok (.bipush 8, 2) := dk_16 8 (dk_at dksX9_stones_0 13 rfl rfl)
theorem dX9_stones_15 : decode cX9_stones 15 = .ok (.iload_n 1, 1) := dk_27 (dk_at dksX9_stones_0 15 rfl rfl)
theorem dX9_stones_16 : decode cX9_stones 16 = .ok (.iadd, 1) := dk_96 (dk_at dksX9_stones_0 16 rfl rfl)
theorem dX9_stones_17 : decode cX9_stones 17 = .ok (.iaload, 1) := dk_46 (dk_at dksX9_stones_0 17 rfl rfl)
theorem dX9_stones_18 : decode cX9_stones 18 = .ok (.invokevirtual 107, 3) := dk_182 0 107 (dk_at dksX9_stones_0 18 rfl rfl)
theorem dX9_stones_21 : decode cX9_stones 21 = .ok (.goto 8, 3) := dk_167 0 8 (dk_at dksX9_stones_0 21 rfl rfl)
theorem dX9_stones_24 : decode cX9_stones 24 = .ok (.aload_n 0, 1) := dk_42 (dk_at dksX9_stones_1 0 rfl rfl)
theorem dX9_stones_25 : decode cX9_stones 25 = .ok (.iconst 1, 1) := dk_4 (dk_at dksX9_stones_1 1 rfl rfl)
theorem dX9_stones_26 : decode cX9_stones 26 = .ok (.invokevirtual 103, 3) := dk_182 0 103 (dk_at dksX9_stones_1 2 rfl rfl)
theorem dX9_stones_29 : decode cX9_stones 29 = .ok (.ireturn, 1) := dk_172 (dk_at dksX9_stones_1 5 rfl rfl)
abbrev cX9_isPlace : ByteArray := prog_21_method_53_code
def yX9_isPlace : MethodName := ⟨RX9, "isPlace", "(I)Z"⟩
def dkwX9_isPlace_0 : List UInt8 := [27, 155, 0, 17, 27, 42, 180, 0, 7, 3, 46, 162, 0, 7, 4, 167, 0, 4, 3, 172]
abbrev dktX9_isPlace_0 : List UInt8 := dkwX9_isPlace_0 ++ []
theorem dksX9_isPlace_0 : cX9_isPlace.data.toList.drop 0 = dktX9_isPlace_0 := by decide +kernel
theorem dX9_isPlace_0 : decode cX9_isPlace 0 = .ok (.iload_n 1, 1) := dk_27 (dk_at dksX9_isPlace_0 0 rfl rfl)
theorem dX9_isPlace_1 : decode cX9_isPlace 1 = .ok (.ifCond .lt 17, 3) := dk_155 0 17 (dk_at dksX9_isPlace_0 1 rfl rfl)
theorem dX9_isPlace_4 : decode cX9_isPlace 4 = .ok (.iload_n 1, 1) := dk_27 (dk_at dksX9_isPlace_0 4 rfl rfl)
theorem dX9_isPlace_5 : decode cX9_isPlace 5 = .ok (.aload_n 0, 1) := dk_42 (dk_at dksX9_isPlace_0 5 rfl rfl)
theorem dX9_isPlace_6 : decode cX9_isPlace 6 = .ok (.getfield 7, 3) := dk_180 0 7 (dk_at dksX9_isPlace_0 6 rfl rfl)
theorem dX9_isPlace_9 : decode cX9_isPlace 9 = .ok (.iconst 0, 1) := dk_3 (dk_at dksX9_isPlace_0 9 rfl rfl)
theorem dX9_isPlace_10 : decode cX9_isPlace 10 = .ok (.iaload, 1) := dk_46 (dk_at dksX9_isPlace_0 10 rfl rfl)
theorem dX9_isPlace_11 : decode cX9_isPlace 11 = .ok (.if_icmp .ge 7, 3) := dk_162 0 7 (dk_at dksX9_isPlace_0 11 rfl rfl)
theorem dX9_isPlace_14 : decode cX9_isPlace 14 = .ok (.iconst 1, 1) := dk_4 (dk_at dksX9_isPlace_0 14 rfl rfl)
theorem dX9_isPlace_15 : decode cX9_isPlace 15 = .ok (.goto 4, 3) := dk_167 0 4 (dk_at dksX9_isPlace_0 15 rfl rfl)
theorem dX9_isPlace_18 : decode cX9_isPlace 18 = .ok (.iconst 0, 1) := dk_3 (dk_at dksX9_isPlace_0 18 rfl rfl)
theorem dX9_isPlace_19 : decode cX9_isPlace 19 = .ok (.ireturn, 1) := dk_172 (dk_at dksX9_isPlace_0 19 rfl rfl)
abbrev cX9_at : ByteArray := prog_21_method_73_code
def yX9_at : MethodName := ⟨RX9, "at", "(I)I"⟩
def dkwX9_at_1 : List UInt8 := [42, 4, 182, 0, 103, 172]
abbrev dktX9_at_1 : List UInt8 := dkwX9_at_1 ++ []
def dkwX9_at_0 : List UInt8 := [42, 27, 182, 1, 41, 153, 0, 19, 42, 42, 180, 0, 7, 16, 110, 27, 96, 46, 182, 0, 107, 167, 0, 8]
abbrev dktX9_at_0 : List UInt8 := dkwX9_at_0 ++ dktX9_at_1
theorem dksX9_at_0 : cX9_at.data.toList.drop 0 = dktX9_at_0 := by decide +kernel
theorem dksX9_at_1 : cX9_at.data.toList.drop 24 = dktX9_at_1 := dk_seg dksX9_at_0 24 rfl rfl
theorem dX9_at_0 : decode cX9_at 0 = .ok (.aload_n 0, 1) := dk_42 (dk_at dksX9_at_0 0 rfl rfl)
theorem dX9_at_1 : decode cX9_at 1 = .ok (.iload_n 1, 1) := dk_27 (dk_at dksX9_at_0 1 rfl rfl)
theorem dX9_at_2 : decode cX9_at 2 = .ok (.invokevirtual 297, 3) := dk_182 1 41 (dk_at dksX9_at_0 2 rfl rfl)
theorem dX9_at_5 : decode cX9_at 5 = .ok (.ifCond .eq 19, 3) := dk_153 0 19 (dk_at dksX9_at_0 5 rfl rfl)
theorem dX9_at_8 : decode cX9_at 8 = .ok (.aload_n 0, 1) := dk_42 (dk_at dksX9_at_0 8 rfl rfl)
theorem dX9_at_9 : decode cX9_at 9 = .ok (.aload_n 0, 1) := dk_42 (dk_at dksX9_at_0 9 rfl rfl)
theorem dX9_at_10 : decode cX9_at 10 = .ok (.getfield 7, 3) := dk_180 0 7 (dk_at dksX9_at_0 10 rfl rfl)
theorem dX9_at_13 : decode cX9_at 13 = .ok (.bipush 110, 2) := dk_16 110 (dk_at dksX9_at_0 13 rfl rfl)
theorem dX9_at_15 : decode cX9_at 15 = .ok (.iload_n 1, 1) := dk_27 (dk_at dksX9_at_0 15 rfl rfl)
theorem dX9_at_16 : decode cX9_at 16 = .ok (.iadd, 1) := dk_96 (dk_at dksX9_at_0 16 rfl rfl)
theorem dX9_at_17 : decode cX9_at 17 = .ok (.iaload, 1) := dk_46 (dk_at dksX9_at_0 17 rfl rfl)
theorem dX9_at_18 : decode cX9_at 18 = .ok (.invokevirtual 107, 3) := dk_182 0 107 (dk_at dksX9_at_0 18 rfl rfl)
theorem dX9_at_21 : decode cX9_at 21 = .ok (.goto 8, 3) := dk_167 0 8 (dk_at dksX9_at_0 21 rfl rfl)
theorem dX9_at_24 : decode cX9_at 24 = .ok (.aload_n 0, 1) := dk_42 (dk_at dksX9_at_1 0 rfl rfl)
theorem dX9_at_25 : decode cX9_at 25 = .ok (.iconst 1, 1) := dk_4 (dk_at dksX9_at_1 1 rfl rfl)
theorem dX9_at_26 : decode cX9_at 26 = .ok (.invokevirtual 103, 3) := dk_182 0 103 (dk_at dksX9_at_1 2 rfl rfl)
theorem dX9_at_29 : decode cX9_at 29 = .ok (.ireturn, 1) := dk_172 (dk_at dksX9_at_1 5 rfl rfl)
abbrev cX9_carries : ByteArray := prog_21_method_74_code
def yX9_carries : MethodName := ⟨RX9, "carries", "(I)I"⟩
def dkwX9_carries_1 : List UInt8 := [182, 1, 44, 172]
abbrev dktX9_carries_1 : List UInt8 := dkwX9_carries_1 ++ []
def dkwX9_carries_0 : List UInt8 := [42, 27, 182, 1, 41, 154, 0, 9, 42, 4, 182, 0, 103, 172, 42, 182, 1, 29, 42, 42, 27, 182, 1, 50]
abbrev dktX9_carries_0 : List UInt8 := dkwX9_carries_0 ++ dktX9_carries_1
theorem dksX9_carries_0 : cX9_carries.data.toList.drop 0 = dktX9_carries_0 := by decide +kernel
theorem dksX9_carries_1 : cX9_carries.data.toList.drop 24 = dktX9_carries_1 := dk_seg dksX9_carries_0 24 rfl rfl
theorem dX9_carries_0 : decode cX9_carries 0 = .ok (.aload_n 0, 1) := dk_42 (dk_at dksX9_carries_0 0 rfl rfl)
theorem dX9_carries_1 : decode cX9_carries 1 = .ok (.iload_n 1, 1) := dk_27 (dk_at dksX9_carries_0 1 rfl rfl)
theorem dX9_carries_2 : decode cX9_carries 2 = .ok (.invokevirtual 297, 3) := dk_182 1 41 (dk_at dksX9_carries_0 2 rfl rfl)
theorem dX9_carries_5 : decode cX9_carries 5 = .ok (.ifCond .ne 9, 3) := dk_154 0 9 (dk_at dksX9_carries_0 5 rfl rfl)
theorem dX9_carries_8 : decode cX9_carries 8 = .ok (.aload_n 0, 1) := dk_42 (dk_at dksX9_carries_0 8 rfl rfl)
theorem dX9_carries_9 : decode cX9_carries 9 = .ok (.iconst 1, 1) := dk_4 (dk_at dksX9_carries_0 9 rfl rfl)
theorem dX9_carries_10 : decode cX9_carries 10 = .ok (.invokevirtual 103, 3) := dk_182 0 103 (dk_at dksX9_carries_0 10 rfl rfl)
theorem dX9_carries_13 : decode cX9_carries 13 = .ok (.ireturn, 1) := dk_172 (dk_at dksX9_carries_0 13 rfl rfl)
theorem dX9_carries_14 : decode cX9_carries 14 = .ok (.aload_n 0, 1) := dk_42 (dk_at dksX9_carries_0 14 rfl rfl)
theorem dX9_carries_15 : decode cX9_carries 15 = .ok (.invokevirtual 285, 3) := dk_182 1 29 (dk_at dksX9_carries_0 15 rfl rfl)
theorem dX9_carries_18 : decode cX9_carries 18 = .ok (.aload_n 0, 1) := dk_42 (dk_at dksX9_carries_0 18 rfl rfl)
theorem dX9_carries_19 : decode cX9_carries 19 = .ok (.aload_n 0, 1) := dk_42 (dk_at dksX9_carries_0 19 rfl rfl)
theorem dX9_carries_20 : decode cX9_carries 20 = .ok (.iload_n 1, 1) := dk_27 (dk_at dksX9_carries_0 20 rfl rfl)
theorem dX9_carries_21 : decode cX9_carries 21 = .ok (.invokevirtual 306, 3) := dk_182 1 50 (dk_at dksX9_carries_0 21 rfl rfl)
theorem dX9_carries_24 : decode cX9_carries 24 = .ok (.invokevirtual 300, 3) := dk_182 1 44 (dk_at dksX9_carries_1 0 rfl rfl)
theorem dX9_carries_27 : decode cX9_carries 27 = .ok (.ireturn, 1) := dk_172 (dk_at dksX9_carries_1 3 rfl rfl)
abbrev cX9_loadOf : ByteArray := prog_21_method_69_code
def yX9_loadOf : MethodName := ⟨RX9, "loadOf", "(I)I"⟩
def dkwX9_loadOf_1 : List UInt8 := [160, 0, 5, 28, 172, 132, 2, 1, 167, 255, 228, 2, 172]
abbrev dktX9_loadOf_1 : List UInt8 := dkwX9_loadOf_1 ++ []
def dkwX9_loadOf_0 : List UInt8 := [3, 61, 28, 42, 180, 0, 7, 6, 46, 162, 0, 24, 42, 180, 0, 50, 28, 46, 16, 6, 27, 96]
abbrev dktX9_loadOf_0 : List UInt8 := dkwX9_loadOf_0 ++ dktX9_loadOf_1
theorem dksX9_loadOf_0 : cX9_loadOf.data.toList.drop 0 = dktX9_loadOf_0 := by decide +kernel
theorem dksX9_loadOf_1 : cX9_loadOf.data.toList.drop 22 = dktX9_loadOf_1 := dk_seg dksX9_loadOf_0 22 rfl rfl
theorem dX9_loadOf_0 : decode cX9_loadOf 0 = .ok (.iconst 0, 1) := dk_3 (dk_at dksX9_loadOf_0 0 rfl rfl)
theorem dX9_loadOf_1 : decode cX9_loadOf 1 = .ok (.istore_n 2, 1) := dk_61 (dk_at dksX9_loadOf_0 1 rfl rfl)
theorem dX9_loadOf_2 : decode cX9_loadOf 2 = .ok (.iload_n 2, 1) := dk_28 (dk_at dksX9_loadOf_0 2 rfl rfl)
theorem dX9_loadOf_3 : decode cX9_loadOf 3 = .ok (.aload_n 0, 1) := dk_42 (dk_at dksX9_loadOf_0 3 rfl rfl)
theorem dX9_loadOf_4 : decode cX9_loadOf 4 = .ok (.getfield 7, 3) := dk_180 0 7 (dk_at dksX9_loadOf_0 4 rfl rfl)
theorem dX9_loadOf_7 : decode cX9_loadOf 7 = .ok (.iconst 3, 1) := dk_6 (dk_at dksX9_loadOf_0 7 rfl rfl)
theorem dX9_loadOf_8 : decode cX9_loadOf 8 = .ok (.iaload, 1) := dk_46 (dk_at dksX9_loadOf_0 8 rfl rfl)
theorem dX9_loadOf_9 : decode cX9_loadOf 9 = .ok (.if_icmp .ge 24, 3) := dk_162 0 24 (dk_at dksX9_loadOf_0 9 rfl rfl)
theorem dX9_loadOf_12 : decode cX9_loadOf 12 = .ok (.aload_n 0, 1) := dk_42 (dk_at dksX9_loadOf_0 12 rfl rfl)
theorem dX9_loadOf_13 : decode cX9_loadOf 13 = .ok (.getfield 50, 3) := dk_180 0 50 (dk_at dksX9_loadOf_0 13 rfl rfl)
theorem dX9_loadOf_16 : decode cX9_loadOf 16 = .ok (.iload_n 2, 1) := dk_28 (dk_at dksX9_loadOf_0 16 rfl rfl)
theorem dX9_loadOf_17 : decode cX9_loadOf 17 = .ok (.iaload, 1) := dk_46 (dk_at dksX9_loadOf_0 17 rfl rfl)
theorem dX9_loadOf_18 : decode cX9_loadOf 18 = .ok (.bipush 6, 2) := dk_16 6 (dk_at dksX9_loadOf_0 18 rfl rfl)
theorem dX9_loadOf_20 : decode cX9_loadOf 20 = .ok (.iload_n 1, 1) := dk_27 (dk_at dksX9_loadOf_0 20 rfl rfl)
theorem dX9_loadOf_21 : decode cX9_loadOf 21 = .ok (.iadd, 1) := dk_96 (dk_at dksX9_loadOf_0 21 rfl rfl)
theorem dX9_loadOf_22 : decode cX9_loadOf 22 = .ok (.if_icmp .ne 5, 3) := dk_160 0 5 (dk_at dksX9_loadOf_1 0 rfl rfl)
theorem dX9_loadOf_25 : decode cX9_loadOf 25 = .ok (.iload_n 2, 1) := dk_28 (dk_at dksX9_loadOf_1 3 rfl rfl)
theorem dX9_loadOf_26 : decode cX9_loadOf 26 = .ok (.ireturn, 1) := dk_172 (dk_at dksX9_loadOf_1 4 rfl rfl)
theorem dX9_loadOf_27 : decode cX9_loadOf 27 = .ok (.iinc 2 1, 3) := dk_132 2 1 (dk_at dksX9_loadOf_1 5 rfl rfl)
theorem dX9_loadOf_30 : decode cX9_loadOf 30 = .ok (.goto (-28), 3) := dk_167 255 228 (dk_at dksX9_loadOf_1 8 rfl rfl)
theorem dX9_loadOf_33 : decode cX9_loadOf 33 = .ok (.iconst (-1), 1) := dk_2 (dk_at dksX9_loadOf_1 11 rfl rfl)
theorem dX9_loadOf_34 : decode cX9_loadOf 34 = .ok (.ireturn, 1) := dk_172 (dk_at dksX9_loadOf_1 12 rfl rfl)
abbrev cX9_load : ByteArray := prog_21_method_75_code
def yX9_load : MethodName := ⟨RX9, "load", "(II)I"⟩
def dkwX9_load_3 : List UInt8 := [100, 46, 182, 0, 107, 172]
abbrev dktX9_load_3 : List UInt8 := dkwX9_load_3 ++ []
def dkwX9_load_2 : List UInt8 := [46, 167, 0, 25, 29, 16, 6, 162, 0, 7, 29, 167, 0, 15, 42, 180, 0, 7, 16, 110, 29, 96, 16, 6]
abbrev dktX9_load_2 : List UInt8 := dkwX9_load_2 ++ dktX9_load_3
def dkwX9_load_1 : List UInt8 := [180, 0, 7, 16, 114, 27, 96, 46, 62, 42, 28, 154, 0, 17, 42, 180, 0, 7, 16, 106, 5, 27, 104, 96]
abbrev dktX9_load_1 : List UInt8 := dkwX9_load_1 ++ dktX9_load_2
def dkwX9_load_0 : List UInt8 := [42, 27, 182, 1, 65, 153, 0, 12, 28, 155, 0, 8, 28, 4, 164, 0, 9, 42, 4, 182, 0, 103, 172, 42]
abbrev dktX9_load_0 : List UInt8 := dkwX9_load_0 ++ dktX9_load_1
theorem dksX9_load_0 : cX9_load.data.toList.drop 0 = dktX9_load_0 := by decide +kernel
theorem dksX9_load_1 : cX9_load.data.toList.drop 24 = dktX9_load_1 := dk_seg dksX9_load_0 24 rfl rfl
theorem dksX9_load_2 : cX9_load.data.toList.drop 48 = dktX9_load_2 := dk_seg dksX9_load_1 24 rfl rfl
theorem dksX9_load_3 : cX9_load.data.toList.drop 72 = dktX9_load_3 := dk_seg dksX9_load_2 24 rfl rfl
theorem dX9_load_0 : decode cX9_load 0 = .ok (.aload_n 0, 1) := dk_42 (dk_at dksX9_load_0 0 rfl rfl)
theorem dX9_load_1 : decode cX9_load 1 = .ok (.iload_n 1, 1) := dk_27 (dk_at dksX9_load_0 1 rfl rfl)
theorem dX9_load_2 : decode cX9_load 2 = .ok (.invokevirtual 321, 3) := dk_182 1 65 (dk_at dksX9_load_0 2 rfl rfl)
theorem dX9_load_5 : decode cX9_load 5 = .ok (.ifCond .eq 12, 3) := dk_153 0 12 (dk_at dksX9_load_0 5 rfl rfl)
theorem dX9_load_8 : decode cX9_load 8 = .ok (.iload_n 2, 1) := dk_28 (dk_at dksX9_load_0 8 rfl rfl)
theorem dX9_load_9 : decode cX9_load 9 = .ok (.ifCond .lt 8, 3) := dk_155 0 8 (dk_at dksX9_load_0 9 rfl rfl)
theorem dX9_load_12 : decode cX9_load 12 = .ok (.iload_n 2, 1) := dk_28 (dk_at dksX9_load_0 12 rfl rfl)
theorem dX9_load_13 : decode cX9_load 13 = .ok (.iconst 1, 1) := dk_4 (dk_at dksX9_load_0 13 rfl rfl)
theorem dX9_load_14 : decode cX9_load 14 = .ok (.if_icmp .le 9, 3) := dk_164 0 9 (dk_at dksX9_load_0 14 rfl rfl)
theorem dX9_load_17 : decode cX9_load 17 = .ok (.aload_n 0, 1) := dk_42 (dk_at dksX9_load_0 17 rfl rfl)
theorem dX9_load_18 : decode cX9_load 18 = .ok (.iconst 1, 1) := dk_4 (dk_at dksX9_load_0 18 rfl rfl)
theorem dX9_load_19 : decode cX9_load 19 = .ok (.invokevirtual 103, 3) := dk_182 0 103 (dk_at dksX9_load_0 19 rfl rfl)
theorem dX9_load_22 : decode cX9_load 22 = .ok (.ireturn, 1) := dk_172 (dk_at dksX9_load_0 22 rfl rfl)
theorem dX9_load_23 : decode cX9_load 23 = .ok (.aload_n 0, 1) := dk_42 (dk_at dksX9_load_0 23 rfl rfl)
theorem dX9_load_24 : decode cX9_load 24 = .ok (.getfield 7, 3) := dk_180 0 7 (dk_at dksX9_load_1 0 rfl rfl)
theorem dX9_load_27 : decode cX9_load 27 = .ok (.bipush 114, 2) := dk_16 114 (dk_at dksX9_load_1 3 rfl rfl)
theorem dX9_load_29 : decode cX9_load 29 = .ok (.iload_n 1, 1) := dk_27 (dk_at dksX9_load_1 5 rfl rfl)
theorem dX9_load_30 : decode cX9_load 30 = .ok (.iadd, 1) := dk_96 (dk_at dksX9_load_1 6 rfl rfl)
theorem dX9_load_31 : decode cX9_load 31 = .ok (.iaload, 1) := dk_46 (dk_at dksX9_load_1 7 rfl rfl)
theorem dX9_load_32 : decode cX9_load 32 = .ok (.istore_n 3, 1) := dk_62 (dk_at dksX9_load_1 8 rfl rfl)
theorem dX9_load_33 : decode cX9_load 33 = .ok (.aload_n 0, 1) := dk_42 (dk_at dksX9_load_1 9 rfl rfl)
theorem dX9_load_34 : decode cX9_load 34 = .ok (.iload_n 2, 1) := dk_28 (dk_at dksX9_load_1 10 rfl rfl)
theorem dX9_load_35 : decode cX9_load 35 = .ok (.ifCond .ne 17, 3) := dk_154 0 17 (dk_at dksX9_load_1 11 rfl rfl)
theorem dX9_load_38 : decode cX9_load 38 = .ok (.aload_n 0, 1) := dk_42 (dk_at dksX9_load_1 14 rfl rfl)
theorem dX9_load_39 : decode cX9_load 39 = .ok (.getfield 7, 3) := dk_180 0 7 (dk_at dksX9_load_1 15 rfl rfl)
theorem dX9_load_42 : decode cX9_load 42 = .ok (.bipush 106, 2) := dk_16 106 (dk_at dksX9_load_1 18 rfl rfl)
theorem dX9_load_44 : decode cX9_load 44 = .ok (.iconst 2, 1) := dk_5 (dk_at dksX9_load_1 20 rfl rfl)
theorem dX9_load_45 : decode cX9_load 45 = .ok (.iload_n 1, 1) := dk_27 (dk_at dksX9_load_1 21 rfl rfl)
theorem dX9_load_46 : decode cX9_load 46 = .ok (.imul, 1) := dk_104 (dk_at dksX9_load_1 22 rfl rfl)
theorem dX9_load_47 : decode cX9_load 47 = .ok (.iadd, 1) := dk_96 (dk_at dksX9_load_1 23 rfl rfl)
theorem dX9_load_48 : decode cX9_load 48 = .ok (.iaload, 1) := dk_46 (dk_at dksX9_load_2 0 rfl rfl)
theorem dX9_load_49 : decode cX9_load 49 = .ok (.goto 25, 3) := dk_167 0 25 (dk_at dksX9_load_2 1 rfl rfl)
theorem dX9_load_52 : decode cX9_load 52 = .ok (.iload_n 3, 1) := dk_29 (dk_at dksX9_load_2 4 rfl rfl)
theorem dX9_load_53 : decode cX9_load 53 = .ok (.bipush 6, 2) := dk_16 6 (dk_at dksX9_load_2 5 rfl rfl)
theorem dX9_load_55 : decode cX9_load 55 = .ok (.if_icmp .ge 7, 3) := dk_162 0 7 (dk_at dksX9_load_2 7 rfl rfl)
theorem dX9_load_58 : decode cX9_load 58 = .ok (.iload_n 3, 1) := dk_29 (dk_at dksX9_load_2 10 rfl rfl)
theorem dX9_load_59 : decode cX9_load 59 = .ok (.goto 15, 3) := dk_167 0 15 (dk_at dksX9_load_2 11 rfl rfl)
theorem dX9_load_62 : decode cX9_load 62 = .ok (.aload_n 0, 1) := dk_42 (dk_at dksX9_load_2 14 rfl rfl)
theorem dX9_load_63 : decode cX9_load 63 = .ok (.getfield 7, 3) := dk_180 0 7 (dk_at dksX9_load_2 15 rfl rfl)
theorem dX9_load_66 : decode cX9_load 66 = .ok (.bipush 110, 2) := dk_16 110 (dk_at dksX9_load_2 18 rfl rfl)
theorem dX9_load_68 : decode cX9_load 68 = .ok (.iload_n 3, 1) := dk_29 (dk_at dksX9_load_2 20 rfl rfl)
theorem dX9_load_69 : decode cX9_load 69 = .ok (.iadd, 1) := dk_96 (dk_at dksX9_load_2 21 rfl rfl)
theorem dX9_load_70 : decode cX9_load 70 = .ok (.bipush 6, 2) := dk_16 6 (dk_at dksX9_load_2 22 rfl rfl)
theorem dX9_load_72 : decode cX9_load 72 = .ok (.isub, 1) := dk_100 (dk_at dksX9_load_3 0 rfl rfl)
theorem dX9_load_73 : decode cX9_load 73 = .ok (.iaload, 1) := dk_46 (dk_at dksX9_load_3 1 rfl rfl)
theorem dX9_load_74 : decode cX9_load 74 = .ok (.invokevirtual 107, 3) := dk_182 0 107 (dk_at dksX9_load_3 2 rfl rfl)
theorem dX9_load_77 : decode cX9_load 77 = .ok (.ireturn, 1) := dk_172 (dk_at dksX9_load_3 5 rfl rfl)
abbrev cX9_isLoad : ByteArray := prog_21_method_56_code
def yX9_isLoad : MethodName := ⟨RX9, "isLoad", "(I)Z"⟩
def dkwX9_isLoad_0 : List UInt8 := [27, 155, 0, 17, 27, 42, 180, 0, 7, 6, 46, 162, 0, 7, 4, 167, 0, 4, 3, 172]
abbrev dktX9_isLoad_0 : List UInt8 := dkwX9_isLoad_0 ++ []
theorem dksX9_isLoad_0 : cX9_isLoad.data.toList.drop 0 = dktX9_isLoad_0 := by decide +kernel
theorem dX9_isLoad_0 : decode cX9_isLoad 0 = .ok (.iload_n 1, 1) := dk_27 (dk_at dksX9_isLoad_0 0 rfl rfl)
theorem dX9_isLoad_1 : decode cX9_isLoad 1 = .ok (.ifCond .lt 17, 3) := dk_155 0 17 (dk_at dksX9_isLoad_0 1 rfl rfl)
theorem dX9_isLoad_4 : decode cX9_isLoad 4 = .ok (.iload_n 1, 1) := dk_27 (dk_at dksX9_isLoad_0 4 rfl rfl)
theorem dX9_isLoad_5 : decode cX9_isLoad 5 = .ok (.aload_n 0, 1) := dk_42 (dk_at dksX9_isLoad_0 5 rfl rfl)
theorem dX9_isLoad_6 : decode cX9_isLoad 6 = .ok (.getfield 7, 3) := dk_180 0 7 (dk_at dksX9_isLoad_0 6 rfl rfl)
theorem dX9_isLoad_9 : decode cX9_isLoad 9 = .ok (.iconst 3, 1) := dk_6 (dk_at dksX9_isLoad_0 9 rfl rfl)
theorem dX9_isLoad_10 : decode cX9_isLoad 10 = .ok (.iaload, 1) := dk_46 (dk_at dksX9_isLoad_0 10 rfl rfl)
theorem dX9_isLoad_11 : decode cX9_isLoad 11 = .ok (.if_icmp .ge 7, 3) := dk_162 0 7 (dk_at dksX9_isLoad_0 11 rfl rfl)
theorem dX9_isLoad_14 : decode cX9_isLoad 14 = .ok (.iconst 1, 1) := dk_4 (dk_at dksX9_isLoad_0 14 rfl rfl)
theorem dX9_isLoad_15 : decode cX9_isLoad 15 = .ok (.goto 4, 3) := dk_167 0 4 (dk_at dksX9_isLoad_0 15 rfl rfl)
theorem dX9_isLoad_18 : decode cX9_isLoad 18 = .ok (.iconst 0, 1) := dk_3 (dk_at dksX9_isLoad_0 18 rfl rfl)
theorem dX9_isLoad_19 : decode cX9_isLoad 19 = .ok (.ireturn, 1) := dk_172 (dk_at dksX9_isLoad_0 19 rfl rfl)
