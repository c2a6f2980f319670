/-! SillBridges$Reader -/
set_option maxRecDepth 100000
def RX10 : String := "SillBridges$Reader"
def TX10 : u_T := fun k => match k with
  | 0 => ("SillBridges$Reader", "size", "I", true)
  | 1 => ("SillBridges$Reader", "at", "I", false)
  | 2 => ("SillBridges$Reader", "behind", "I", false)
  | 3 => ("SillBridges$Reader", "sort", "I", false)
  | 4 => ("SillBridges$Reader", "number", "I", false)
  | 5 => ("SillBridges$Reader", "steps", "I", false)
  | _ => ("SillBridges$Reader", "this$0", "LSillBridges;", true)
def tyX10 : Nat → FieldType := fun k => match k with
  | 0 => .int
  | 1 => .int
  | 2 => .int
  | 3 => .int
  | 4 => .int
  | 5 => .int
  | _ => .object "SillBridges"
abbrev wsX100 : List Cond := u_ws RX10 TX10 7
theorem nmX10 : ∀ a, a < 7 → ∀ b, b < 7 → a ≠ b → (TX10 a).2.1 ≠ (TX10 b).2.1 := by decide +kernel
theorem tyX10_ok : ∀ k, k < 7 → parseFieldDescriptor (TX10 k).2.2.1 = some (tyX10 k) := by decide +kernel
abbrev cX10_init : ByteArray := prog_11_method_1_code
def yX10_init : MethodName := ⟨RX10, "<init>", "(LSillBridges;I)V"⟩
def dkwX10_init_0 : List UInt8 := [42, 43, 181, 0, 3, 42, 183, 0, 9, 42, 28, 181, 0, 15, 42, 182, 0, 19, 177]
abbrev dktX10_init_0 : List UInt8 := dkwX10_init_0 ++ []
theorem dksX10_init_0 : cX10_init.data.toList.drop 0 = dktX10_init_0 := by decide +kernel
theorem dX10_init_0 : decode cX10_init 0 = .ok (.aload_n 0, 1) := dk_42 (dk_at dksX10_init_0 0 rfl rfl)
theorem dX10_init_1 : decode cX10_init 1 = .ok (.aload_n 1, 1) := dk_43 (dk_at dksX10_init_0 1 rfl rfl)
theorem dX10_init_2 : decode cX10_init 2 = .ok (.putfield 3, 3) := dk_181 0 3 (dk_at dksX10_init_0 2 rfl rfl)
theorem dX10_init_5 : decode cX10_init 5 = .ok (.aload_n 0, 1) := dk_42 (dk_at dksX10_init_0 5 rfl rfl)
theorem dX10_init_6 : decode cX10_init 6 = .ok (.invokespecial 9, 3) := dk_183 0 9 (dk_at dksX10_init_0 6 rfl rfl)
theorem dX10_init_9 : decode cX10_init 9 = .ok (.aload_n 0, 1) := dk_42 (dk_at dksX10_init_0 9 rfl rfl)
theorem dX10_init_10 : decode cX10_init 10 = .ok (.iload_n 2, 1) := dk_28 (dk_at dksX10_init_0 10 rfl rfl)
theorem dX10_init_11 : decode cX10_init 11 = .ok (.putfield 15, 3) := dk_181 0 15 (dk_at dksX10_init_0 11 rfl rfl)
theorem dX10_init_14 : decode cX10_init 14 = .ok (.aload_n 0, 1) := dk_42 (dk_at dksX10_init_0 14 rfl rfl)
theorem dX10_init_15 : decode cX10_init 15 = .ok (.invokevirtual 19, 3) := dk_182 0 19 (dk_at dksX10_init_0 15 rfl rfl)
theorem dX10_init_18 : decode cX10_init 18 = .ok (.return_, 1) := dk_177 (dk_at dksX10_init_0 18 rfl rfl)
abbrev cX10_next : ByteArray := prog_11_method_4_code
def yX10_next : MethodName := ⟨RX10, "next", "()V"⟩
def dkwX10_next_11 : List UInt8 := [180, 0, 29, 51, 16, 59, 160, 0, 7, 6, 167, 0, 4, 7, 181, 0, 32, 177]
abbrev dktX10_next_11 : List UInt8 := dkwX10_next_11 ++ []
def dkwX10_next_10 : List UInt8 := [167, 0, 39, 42, 42, 180, 0, 29, 4, 96, 181, 0, 26, 42, 42, 180, 0, 3, 180, 0, 22, 42]
abbrev dktX10_next_10 : List UInt8 := dkwX10_next_10 ++ dktX10_next_11
def dkwX10_next_9 : List UInt8 := [42, 42, 180, 0, 26, 42, 180, 0, 29, 100, 7, 164, 0, 7, 7, 167, 0, 4, 5, 181, 0, 32]
abbrev dktX10_next_9 : List UInt8 := dkwX10_next_9 ++ dktX10_next_10
def dkwX10_next_8 : List UInt8 := [180, 0, 26, 51, 96, 16, 48, 100, 181, 0, 42, 42, 89, 180, 0, 26, 4, 96, 181, 0, 26, 167, 255, 195]
abbrev dktX10_next_8 : List UInt8 := dkwX10_next_8 ++ dktX10_next_9
def dkwX10_next_7 : List UInt8 := [180, 0, 29, 100, 7, 162, 0, 30, 42, 16, 10, 42, 180, 0, 42, 104, 42, 180, 0, 3, 180, 0, 22, 42]
abbrev dktX10_next_7 : List UInt8 := dkwX10_next_7 ++ dktX10_next_8
def dkwX10_next_6 : List UInt8 := [153, 0, 97, 42, 3, 181, 0, 42, 42, 42, 180, 0, 26, 182, 0, 39, 153, 0, 56, 42, 180, 0, 26, 42]
abbrev dktX10_next_6 : List UInt8 := dkwX10_next_6 ++ dktX10_next_7
def dkwX10_next_5 : List UInt8 := [153, 0, 157, 42, 89, 180, 0, 26, 4, 96, 181, 0, 26, 167, 255, 235, 42, 42, 180, 0, 29, 182, 0, 39]
abbrev dktX10_next_5 : List UInt8 := dkwX10_next_5 ++ dktX10_next_6
def dkwX10_next_4 : List UInt8 := [180, 0, 29, 182, 0, 35, 153, 0, 32, 42, 4, 181, 0, 32, 42, 42, 180, 0, 26, 182, 0, 35]
abbrev dktX10_next_4 : List UInt8 := dkwX10_next_4 ++ dktX10_next_5
def dkwX10_next_3 : List UInt8 := [181, 0, 26, 42, 3, 181, 0, 32, 42, 180, 0, 29, 42, 180, 0, 15, 161, 0, 4, 177, 42, 42]
abbrev dktX10_next_3 : List UInt8 := dkwX10_next_3 ++ dktX10_next_4
def dkwX10_next_2 : List UInt8 := [51, 16, 32, 160, 0, 16, 42, 89, 180, 0, 29, 4, 96, 181, 0, 29, 167, 255, 201, 42, 42, 180, 0, 29]
abbrev dktX10_next_2 : List UInt8 := dkwX10_next_2 ++ dktX10_next_3
def dkwX10_next_1 : List UInt8 := [180, 0, 22, 42, 180, 0, 29, 51, 16, 10, 159, 0, 20, 42, 180, 0, 3, 180, 0, 22, 42, 180, 0, 29]
abbrev dktX10_next_1 : List UInt8 := dkwX10_next_1 ++ dktX10_next_2
def dkwX10_next_0 : List UInt8 := [42, 42, 180, 0, 26, 181, 0, 29, 42, 180, 0, 29, 42, 180, 0, 15, 162, 0, 50, 42, 180, 0, 3]
abbrev dktX10_next_0 : List UInt8 := dkwX10_next_0 ++ dktX10_next_1
theorem dksX10_next_0 : cX10_next.data.toList.drop 0 = dktX10_next_0 := by decide +kernel
theorem dksX10_next_1 : cX10_next.data.toList.drop 23 = dktX10_next_1 := dk_seg dksX10_next_0 23 rfl rfl
theorem dksX10_next_2 : cX10_next.data.toList.drop 47 = dktX10_next_2 := dk_seg dksX10_next_1 24 rfl rfl
theorem dksX10_next_3 : cX10_next.data.toList.drop 71 = dktX10_next_3 := dk_seg dksX10_next_2 24 rfl rfl
theorem dksX10_next_4 : cX10_next.data.toList.drop 93 = dktX10_next_4 := dk_seg dksX10_next_3 22 rfl rfl
theorem dksX10_next_5 : cX10_next.data.toList.drop 115 = dktX10_next_5 := dk_seg dksX10_next_4 22 rfl rfl
theorem dksX10_next_6 : cX10_next.data.toList.drop 139 = dktX10_next_6 := dk_seg dksX10_next_5 24 rfl rfl
theorem dksX10_next_7 : cX10_next.data.toList.drop 163 = dktX10_next_7 := dk_seg dksX10_next_6 24 rfl rfl
theorem dksX10_next_8 : cX10_next.data.toList.drop 187 = dktX10_next_8 := dk_seg dksX10_next_7 24 rfl rfl
theorem dksX10_next_9 : cX10_next.data.toList.drop 211 = dktX10_next_9 := dk_seg dksX10_next_8 24 rfl rfl
theorem dksX10_next_10 : cX10_next.data.toList.drop 233 = dktX10_next_10 := dk_seg dksX10_next_9 22 rfl rfl
theorem dksX10_next_11 : cX10_next.data.toList.drop 255 = dktX10_next_11 := dk_seg dksX10_next_10 22 rfl rfl
theorem dX10_next_0 : decode cX10_next 0 = .ok (.aload_n 0, 1) := dk_42 (dk_at dksX10_next_0 0 rfl rfl)
theorem dX10_next_1 : decode cX10_next 1 = .ok (.aload_n 0, 1) := dk_42 (dk_at dksX10_next_0 1 rfl rfl)
theorem dX10_next_2 : decode cX10_next 2 = .ok (.getfield 26, 3) := dk_180 0 26 (dk_at dksX10_next_0 2 rfl rfl)
theorem dX10_next_5 : decode cX10_next 5 = .ok (.putfield 29, 3) := dk_181 0 29 (dk_at dksX10_next_0 5 rfl rfl)
theorem dX10_next_8 : decode cX10_next 8 = .ok (.aload_n 0, 1) := dk_42 (dk_at dksX10_next_0 8 rfl rfl)
theorem dX10_next_9 : decode cX10_next 9 = .ok (.getfield 29, 3) := dk_180 0 29 (dk_at dksX10_next_0 9 rfl rfl)
theorem dX10_next_12 : decode cX10_next 12 = .ok (.aload_n 0, 1) := dk_42 (dk_at dksX10_next_0 12 rfl rfl)
theorem dX10_next_13 : decode cX10_next 13 = .ok (.getfield 15, 3) := dk_180 0 15 (dk_at dksX10_next_0 13 rfl rfl)
theorem dX10_next_16 : decode cX10_next 16 = .ok (.if_icmp .ge 50, 3) := dk_162 0 50 (dk_at dksX10_next_0 16 rfl rfl)
theorem dX10_next_19 : decode cX10_next 19 = .ok (.aload_n 0, 1) := dk_42 (dk_at dksX10_next_0 19 rfl rfl)
theorem dX10_next_20 : decode cX10_next 20 = .ok (.getfield 3, 3) := dk_180 0 3 (dk_at dksX10_next_0 20 rfl rfl)
theorem dX10_next_23 : decode cX10_next 23 = .ok (.getfield 22, 3) := dk_180 0 22 (dk_at dksX10_next_1 0 rfl rfl)
theorem dX10_next_26 : decode cX10_next 26 = .ok (.aload_n 0, 1) := dk_42 (dk_at dksX10_next_1 3 rfl rfl)
theorem dX10_next_27 : decode cX10_next 27 = .ok (.getfield 29, 3) := dk_180 0 29 (dk_at dksX10_next_1 4 rfl rfl)
theorem dX10_next_30 : decode cX10_next 30 = .ok (.baload, 1) := dk_51 (dk_at dksX10_next_1 7 rfl rfl)
theorem dX10_next_31 : decode cX10_next 31 = .ok (.bipush 10, 2) := dk_16 10 (dk_at dksX10_next_1 8 rfl rfl)
theorem dX10_next_33 : decode cX10_next 33 = .ok (.if_icmp .eq 20, 3) := dk_159 0 20 (dk_at dksX10_next_1 10 rfl rfl)
theorem dX10_next_36 : decode cX10_next 36 = .ok (.aload_n 0, 1) := dk_42 (dk_at dksX10_next_1 13 rfl rfl)
theorem dX10_next_37 : decode cX10_next 37 = .ok (.getfield 3, 3) := dk_180 0 3 (dk_at dksX10_next_1 14 rfl rfl)
theorem dX10_next_40 : decode cX10_next 40 = .ok (.getfield 22, 3) := dk_180 0 22 (dk_at dksX10_next_1 17 rfl rfl)
theorem dX10_next_43 : decode cX10_next 43 = .ok (.aload_n 0, 1) := dk_42 (dk_at dksX10_next_1 20 rfl rfl)
theorem dX10_next_44 : decode cX10_next 44 = .ok (.getfield 29, 3) := dk_180 0 29 (dk_at dksX10_next_1 21 rfl rfl)
theorem dX10_next_47 : decode cX10_next 47 = .ok (.baload, 1) := dk_51 (dk_at dksX10_next_2 0 rfl rfl)
theorem dX10_next_48 : decode cX10_next 48 = .ok (.bipush 32, 2) := dk_16 32 (dk_at dksX10_next_2 1 rfl rfl)
theorem dX10_next_50 : decode cX10_next 50 = .ok (.if_icmp .ne 16, 3) := dk_160 0 16 (dk_at dksX10_next_2 3 rfl rfl)
theorem dX10_next_53 : decode cX10_next 53 = .ok (.aload_n 0, 1) := dk_42 (dk_at dksX10_next_2 6 rfl rfl)
theorem dX10_next_54 : decode cX10_next 54 = .ok (.dup, 1) := dk_89 (dk_at dksX10_next_2 7 rfl rfl)
theorem dX10_next_55 : decode cX10_next 55 = .ok (.getfield 29, 3) := dk_180 0 29 (dk_at dksX10_next_2 8 rfl rfl)
theorem dX10_next_58 : decode cX10_next 58 = .ok (.iconst 1, 1) := dk_4 (dk_at dksX10_next_2 11 rfl rfl)
theorem dX10_next_59 : decode cX10_next 59 = .ok (.iadd, 1) := dk_96 (dk_at dksX10_next_2 12 rfl rfl)
theorem dX10_next_60 : decode cX10_next 60 = .ok (.putfield 29, 3) := dk_181 0 29 (dk_at dksX10_next_2 13 rfl rfl)
theorem dX10_next_63 : decode cX10_next 63 = .ok (.goto (-55), 3) := dk_167 255 201 (dk_at dksX10_next_2 16 rfl rfl)
theorem dX10_next_66 : decode cX10_next 66 = .ok (.aload_n 0, 1) := dk_42 (dk_at dksX10_next_2 19 rfl rfl)
theorem dX10_next_67 : decode cX10_next 67 = .ok (.aload_n 0, 1) := dk_42 (dk_at dksX10_next_2 20 rfl rfl)
theorem dX10_next_68 : decode cX10_next 68 = .ok (.getfield 29, 3) := dk_180 0 29 (dk_at dksX10_next_2 21 rfl rfl)
theorem dX10_next_71 : decode cX10_next 71 = .ok (.putfield 26, 3) := dk_181 0 26 (dk_at dksX10_next_3 0 rfl rfl)
theorem dX10_next_74 : decode cX10_next 74 = .ok (.aload_n 0, 1) := dk_42 (dk_at dksX10_next_3 3 rfl rfl)
theorem dX10_next_75 : decode cX10_next 75 = .ok (.iconst 0, 1) := dk_3 (dk_at dksX10_next_3 4 rfl rfl)
theorem dX10_next_76 : decode cX10_next 76 = .ok (.putfield 32, 3) := dk_181 0 32 (dk_at dksX10_next_3 5 rfl rfl)
theorem dX10_next_79 : decode cX10_next 79 = .ok (.aload_n 0, 1) := dk_42 (dk_at dksX10_next_3 8 rfl rfl)
theorem dX10_next_80 : decode cX10_next 80 = .ok (.getfield 29, 3) := dk_180 0 29 (dk_at dksX10_next_3 9 rfl rfl)
theorem dX10_next_83 : decode cX10_next 83 = .ok (.aload_n 0, 1) := dk_42 (dk_at dksX10_next_3 12 rfl rfl)
theorem dX10_next_84 : decode cX10_next 84 = .ok (.getfield 15, 3) := dk_180 0 15 (dk_at dksX10_next_3 13 rfl rfl)
theorem dX10_next_87 : decode cX10_next 87 = .ok (.if_icmp .lt 4, 3) := dk_161 0 4 (dk_at dksX10_next_3 16 rfl rfl)
theorem dX10_next_90 : decode cX10_next 90 = .ok (.return_, 1) := dk_177 (dk_at dksX10_next_3 19 rfl rfl)
theorem dX10_next_91 : decode cX10_next 91 = .ok (.aload_n 0, 1) := dk_42 (dk_at dksX10_next_3 20 rfl rfl)
theorem dX10_next_92 : decode cX10_next 92 = .ok (.aload_n 0, 1) := dk_42 (dk_at dksX10_next_3 21 rfl rfl)
theorem dX10_next_93 : decode cX10_next 93 = .ok (.getfield 29, 3) := dk_180 0 29 (dk_at dksX10_next_4 0 rfl rfl)
theorem dX10_next_96 : decode cX10_next 96 = .ok (.invokevirtual 35, 3) := dk_182 0 35 (dk_at dksX10_next_4 3 rfl rfl)
theorem dX10_next_99 : decode cX10_next 99 = .ok (.ifCond .eq 32, 3) := dk_153 0 32 (dk_at dksX10_next_4 6 rfl rfl)
theorem dX10_next_102 : decode cX10_next 102 = .ok (.aload_n 0, 1) := dk_42 (dk_at dksX10_next_4 9 rfl rfl)
theorem dX10_next_103 : decode cX10_next 103 = .ok (.iconst 1, 1) := dk_4 (dk_at dksX10_next_4 10 rfl rfl)
theorem dX10_next_104 : decode cX10_next 104 = .ok (.putfield 32, 3) := dk_181 0 32 (dk_at dksX10_next_4 11 rfl rfl)
theorem dX10_next_107 : decode cX10_next 107 = .ok (.aload_n 0, 1) := dk_42 (dk_at dksX10_next_4 14 rfl rfl)
theorem dX10_next_108 : decode cX10_next 108 = .ok (.aload_n 0, 1) := dk_42 (dk_at dksX10_next_4 15 rfl rfl)
theorem dX10_next_109 : decode cX10_next 109 = .ok (.getfield 26, 3) := dk_180 0 26 (dk_at dksX10_next_4 16 rfl rfl)
theorem dX10_next_112 : decode cX10_next 112 = .ok (.invokevirtual 35, 3) := dk_182 0 35 (dk_at dksX10_next_4 19 rfl rfl)
theorem dX10_next_115 : decode cX10_next 115 = .ok (.ifCond .eq 157, 3) := dk_153 0 157 (dk_at dksX10_next_5 0 rfl rfl)
theorem dX10_next_118 : decode cX10_next 118 = .ok (.aload_n 0, 1) := dk_42 (dk_at dksX10_next_5 3 rfl rfl)
theorem dX10_next_119 : decode cX10_next 119 = .ok (.dup, 1) := dk_89 (dk_at dksX10_next_5 4 rfl rfl)
theorem dX10_next_120 : decode cX10_next 120 = .ok (.getfield 26, 3) := dk_180 0 26 (dk_at dksX10_next_5 5 rfl rfl)
theorem dX10_next_123 : decode cX10_next 123 = .ok (.iconst 1, 1) := dk_4 (dk_at dksX10_next_5 8 rfl rfl)
theorem dX10_next_124 : decode cX10_next 124 = .ok (.iadd, 1) := dk_96 (dk_at dksX10_next_5 9 rfl rfl)
theorem dX10_next_125 : decode cX10_next 125 = .ok (.putfield 26, 3) := dk_181 0 26 (dk_at dksX10_next_5 10 rfl rfl)
theorem dX10_next_128 : decode cX10_next 128 = .ok (.goto (-21), 3) := dk_167 255 235 (dk_at dksX10_next_5 13 rfl rfl)
theorem dX10_next_131 : decode cX10_next 131 = .ok (.aload_n 0, 1) := dk_42 (dk_at dksX10_next_5 16 rfl rfl)
theorem dX10_next_132 : decode cX10_next 132 = .ok (.aload_n 0, 1) := dk_42 (dk_at dksX10_next_5 17 rfl rfl)
theorem dX10_next_133 : decode cX10_next 133 = .ok (.getfield 29, 3) := dk_180 0 29 (dk_at dksX10_next_5 18 rfl rfl)
theorem dX10_next_136 : decode cX10_next 136 = .ok (.invokevirtual 39, 3) := dk_182 0 39 (dk_at dksX10_next_5 21 rfl rfl)
theorem dX10_next_139 : decode cX10_next 139 = .ok (.ifCond .eq 97, 3) := dk_153 0 97 (dk_at dksX10_next_6 0 rfl rfl)
theorem dX10_next_142 : decode cX10_next 142 = .ok (.aload_n 0, 1) := dk_42 (dk_at dksX10_next_6 3 rfl rfl)
theorem dX10_next_143 : decode cX10_next 143 = .ok (.iconst 0, 1) := dk_3 (dk_at dksX10_next_6 4 rfl rfl)
theorem dX10_next_144 : decode cX10_next 144 = .ok (.putfield 42, 3) := dk_181 0 42 (dk_at dksX10_next_6 5 rfl rfl)
theorem dX10_next_147 : decode cX10_next 147 = .ok (.aload_n 0, 1) := dk_42 (dk_at dksX10_next_6 8 rfl rfl)
theorem dX10_next_148 : decode cX10_next 148 = .ok (.aload_n 0, 1) := dk_42 (dk_at dksX10_next_6 9 rfl rfl)
theorem dX10_next_149 : decode cX10_next 149 = .ok (.getfield 26, 3) := dk_180 0 26 (dk_at dksX10_next_6 10 rfl rfl)
theorem dX10_next_152 : decode cX10_next 152 = .ok (.invokevirtual 39, 3) := dk_182 0 39 (dk_at dksX10_next_6 13 rfl rfl)
theorem dX10_next_155 : decode cX10_next 155 = .ok (.ifCond .eq 56, 3) := dk_153 0 56 (dk_at dksX10_next_6 16 rfl rfl)
theorem dX10_next_158 : decode cX10_next 158 = .ok (.aload_n 0, 1) := dk_42 (dk_at dksX10_next_6 19 rfl rfl)
theorem dX10_next_159 : decode cX10_next 159 = .ok (.getfield 26, 3) := dk_180 0 26 (dk_at dksX10_next_6 20 rfl rfl)
theorem dX10_next_162 : decode cX10_next 162 = .ok (.aload_n 0, 1) := dk_42 (dk_at dksX10_next_6 23 rfl rfl)
theorem dX10_next_163 : decode cX10_next 163 = .ok (.getfield 29, 3) := dk_180 0 29 (dk_at dksX10_next_7 0 rfl rfl)
theorem dX10_next_166 : decode cX10_next 166 = .ok (.isub, 1) := dk_100 (dk_at dksX10_next_7 3 rfl rfl)
theorem dX10_next_167 : decode cX10_next 167 = .ok (.iconst 4, 1) := dk_7 (dk_at dksX10_next_7 4 rfl rfl)
theorem dX10_next_168 : decode cX10_next 168 = .ok (.if_icmp .ge 30, 3) := dk_162 0 30 (dk_at dksX10_next_7 5 rfl rfl)
theorem dX10_next_171 : decode cX10_next 171 = .ok (.aload_n 0, 1) := dk_42 (dk_at dksX10_next_7 8 rfl rfl)
theorem dX10_next_172 : decode cX10_next 172 = .ok (.bipush 10, 2) := dk_16 10 (dk_at dksX10_next_7 9 rfl rfl)
theorem dX10_next_174 : decode cX10_next 174 = .ok (.aload_n 0, 1) := dk_42 (dk_at dksX10_next_7 11 rfl rfl)
theorem dX10_next_175 : decode cX10_next 175 = .ok (.getfield 42, 3) := dk_180 0 42 (dk_at dksX10_next_7 12 rfl rfl)
theorem dX10_next_178 : decode cX10_next 178 = .ok (.imul, 1) := dk_104 (dk_at dksX10_next_7 15 rfl rfl)
theorem dX10_next_179 : decode cX10_next 179 = .ok (.aload_n 0, 1) := dk_42 (dk_at dksX10_next_7 16 rfl rfl)
theorem dX10_next_180 : decode cX10_next 180 = .ok (.getfield 3, 3) := dk_180 0 3 (dk_at dksX10_next_7 17 rfl rfl)
theorem dX10_next_183 : decode cX10_next 183 = .ok (.getfield 22, 3) := dk_180 0 22 (dk_at dksX10_next_7 20 rfl rfl)
theorem dX10_next_186 : decode cX10_next 186 = .ok (.aload_n 0, 1) := dk_42 (dk_at dksX10_next_7 23 rfl rfl)
theorem dX10_next_187 : decode cX10_next 187 = .ok (.getfield 26, 3) := dk_180 0 26 (dk_at dksX10_next_8 0 rfl rfl)
theorem dX10_next_190 : decode cX10_next 190 = .ok (.baload, 1) := dk_51 (dk_at dksX10_next_8 3 rfl rfl)
theorem dX10_next_191 : decode cX10_next 191 = .ok (.iadd, 1) := dk_96 (dk_at dksX10_next_8 4 rfl rfl)
theorem dX10_next_192 : decode cX10_next 192 = .ok (.bipush 48, 2) := dk_16 48 (dk_at dksX10_next_8 5 rfl rfl)
theorem dX10_next_194 : decode cX10_next 194 = .ok (.isub, 1) := dk_100 (dk_at dksX10_next_8 7 rfl rfl)
theorem dX10_next_195 : decode cX10_next 195 = .ok (.putfield 42, 3) := dk_181 0 42 (dk_at dksX10_next_8 8 rfl rfl)
theorem dX10_next_198 : decode cX10_next 198 = .ok (.aload_n 0, 1) := dk_42 (dk_at dksX10_next_8 11 rfl rfl)
theorem dX10_next_199 : decode cX10_next 199 = .ok (.dup, 1) := dk_89 (dk_at dksX10_next_8 12 rfl rfl)
theorem dX10_next_200 : decode cX10_next 200 = .ok (.getfield 26, 3) := dk_180 0 26 (dk_at dksX10_next_8 13 rfl rfl)
theorem dX10_next_203 : decode cX10_next 203 = .ok (.iconst 1, 1) := dk_4 (dk_at dksX10_next_8 16 rfl rfl)
theorem dX10_next_204 : decode cX10_next 204 = .ok (.iadd, 1) := dk_96 (dk_at dksX10_next_8 17 rfl rfl)
theorem dX10_next_205 : decode cX10_next 205 = .ok (.putfield 26, 3) := dk_181 0 26 (dk_at dksX10_next_8 18 rfl rfl)
theorem dX10_next_208 : decode cX10_next 208 = .ok (.goto (-61), 3) := dk_167 255 195 (dk_at dksX10_next_8 21 rfl rfl)
theorem dX10_next_211 : decode cX10_next 211 = .ok (.aload_n 0, 1) := dk_42 (dk_at dksX10_next_9 0 rfl rfl)
theorem dX10_next_212 : decode cX10_next 212 = .ok (.aload_n 0, 1) := dk_42 (dk_at dksX10_next_9 1 rfl rfl)
theorem dX10_next_213 : decode cX10_next 213 = .ok (.getfield 26, 3) := dk_180 0 26 (dk_at dksX10_next_9 2 rfl rfl)
theorem dX10_next_216 : decode cX10_next 216 = .ok (.aload_n 0, 1) := dk_42 (dk_at dksX10_next_9 5 rfl rfl)
theorem dX10_next_217 : decode cX10_next 217 = .ok (.getfield 29, 3) := dk_180 0 29 (dk_at dksX10_next_9 6 rfl rfl)
theorem dX10_next_220 : decode cX10_next 220 = .ok (.isub, 1) := dk_100 (dk_at dksX10_next_9 9 rfl rfl)
theorem dX10_next_221 : decode cX10_next 221 = .ok (.iconst 4, 1) := dk_7 (dk_at dksX10_next_9 10 rfl rfl)
theorem dX10_next_222 : decode cX10_next 222 = .ok (.if_icmp .le 7, 3) := dk_164 0 7 (dk_at dksX10_next_9 11 rfl rfl)
theorem dX10_next_225 : decode cX10_next 225 = .ok (.iconst 4, 1) := dk_7 (dk_at dksX10_next_9 14 rfl rfl)
theorem dX10_next_226 : decode cX10_next 226 = .ok (.goto 4, 3) := dk_167 0 4 (dk_at dksX10_next_9 15 rfl rfl)
theorem dX10_next_229 : decode cX10_next 229 = .ok (.iconst 2, 1) := dk_5 (dk_at dksX10_next_9 18 rfl rfl)
theorem dX10_next_230 : decode cX10_next 230 = .ok (.putfield 32, 3) := dk_181 0 32 (dk_at dksX10_next_9 19 rfl rfl)
theorem dX10_next_233 : decode cX10_next 233 = .ok (.goto 39, 3) := dk_167 0 39 (dk_at dksX10_next_10 0 rfl rfl)
theorem dX10_next_236 : decode cX10_next 236 = .ok (.aload_n 0, 1) := dk_42 (dk_at dksX10_next_10 3 rfl rfl)
theorem dX10_next_237 : decode cX10_next 237 = .ok (.aload_n 0, 1) := dk_42 (dk_at dksX10_next_10 4 rfl rfl)
theorem dX10_next_238 : decode cX10_next 238 = .ok (.getfield 29, 3) := dk_180 0 29 (dk_at dksX10_next_10 5 rfl rfl)
theorem dX10_next_241 : decode cX10_next 241 = .ok (.iconst 1, 1) := dk_4 (dk_at dksX10_next_10 8 rfl rfl)
theorem dX10_next_242 : decode cX10_next 242 = .ok (.iadd, 1) := dk_96 (dk_at dksX10_next_10 9 rfl rfl)
theorem dX10_next_243 : decode cX10_next 243 = .ok (.putfield 26, 3) := dk_181 0 26 (dk_at dksX10_next_10 10 rfl rfl)
theorem dX10_next_246 : decode cX10_next 246 = .ok (.aload_n 0, 1) := dk_42 (dk_at dksX10_next_10 13 rfl rfl)
theorem dX10_next_247 : decode cX10_next 247 = .ok (.aload_n 0, 1) := dk_42 (dk_at dksX10_next_10 14 rfl rfl)
theorem dX10_next_248 : decode cX10_next 248 = .ok (.getfield 3, 3) := dk_180 0 3 (dk_at dksX10_next_10 15 rfl rfl)
theorem dX10_next_251 : decode cX10_next 251 = .ok (.getfield 22, 3) := dk_180 0 22 (dk_at dksX10_next_10 18 rfl rfl)
theorem dX10_next_254 : decode cX10_next 254 = .ok (.aload_n 0, 1) := dk_42 (dk_at dksX10_next_10 21 rfl rfl)
theorem dX10_next_255 : decode cX10_next 255 = .ok (.getfield 29, 3) := dk_180 0 29 (dk_at dksX10_next_11 0 rfl rfl)
theorem dX10_next_258 : decode cX10_next 258 = .ok (.baload, 1) := dk_51 (dk_at dksX10_next_11 3 rfl rfl)
theorem dX10_next_259 : decode cX10_next 259 = .ok (.bipush 59, 2) := dk_16 59 (dk_at dksX10_next_11 4 rfl rfl)
theorem dX10_next_261 : decode cX10_next 261 = .ok (.if_icmp .ne 7, 3) := dk_160 0 7 (dk_at dksX10_next_11 6 rfl rfl)
theorem dX10_next_264 : decode cX10_next 264 = .ok (.iconst 3, 1) := dk_6 (dk_at dksX10_next_11 9 rfl rfl)
theorem dX10_next_265 : decode cX10_next 265 = .ok (.goto 4, 3) := dk_167 0 4 (dk_at dksX10_next_11 10 rfl rfl)
theorem dX10_next_268 : decode cX10_next 268 = .ok (.iconst 4, 1) := dk_7 (dk_at dksX10_next_11 13 rfl rfl)
theorem dX10_next_269 : decode cX10_next 269 = .ok (.putfield 32, 3) := dk_181 0 32 (dk_at dksX10_next_11 14 rfl rfl)
theorem dX10_next_272 : decode cX10_next 272 = .ok (.return_, 1) := dk_177 (dk_at dksX10_next_11 17 rfl rfl)
abbrev cX10_isLetter : ByteArray := prog_11_method_2_code
def yX10_isLetter : MethodName := ⟨RX10, "isLetter", "(I)Z"⟩
def dkwX10_isLetter_1 : List UInt8 := [180, 0, 3, 180, 0, 22, 27, 51, 16, 122, 163, 0, 7, 4, 167, 0, 4, 3, 172]
abbrev dktX10_isLetter_1 : List UInt8 := dkwX10_isLetter_1 ++ []
def dkwX10_isLetter_0 : List UInt8 := [27, 42, 180, 0, 15, 162, 0, 35, 42, 180, 0, 3, 180, 0, 22, 27, 51, 16, 97, 161, 0, 21, 42]
abbrev dktX10_isLetter_0 : List UInt8 := dkwX10_isLetter_0 ++ dktX10_isLetter_1
theorem dksX10_isLetter_0 : cX10_isLetter.data.toList.drop 0 = dktX10_isLetter_0 := by decide +kernel
theorem dksX10_isLetter_1 : cX10_isLetter.data.toList.drop 23 = dktX10_isLetter_1 := dk_seg dksX10_isLetter_0 23 rfl rfl
theorem dX10_isLetter_0 : decode cX10_isLetter 0 = .ok (.iload_n 1, 1) := dk_27 (dk_at dksX10_isLetter_0 0 rfl rfl)
theorem dX10_isLetter_1 : decode cX10_isLetter 1 = .ok (.aload_n 0, 1) := dk_42 (dk_at dksX10_isLetter_0 1 rfl rfl)
theorem dX10_isLetter_2 : decode cX10_isLetter 2 = .ok (.getfield 15, 3) := dk_180 0 15 (dk_at dksX10_isLetter_0 2 rfl rfl)
theorem dX10_isLetter_5 : decode cX10_isLetter 5 = .ok (.if_icmp .ge 35, 3) := dk_162 0 35 (dk_at dksX10_isLetter_0 5 rfl rfl)
theorem dX10_isLetter_8 : decode cX10_isLetter 8 = .ok (.aload_n 0, 1) := dk_42 (dk_at dksX10_isLetter_0 8 rfl rfl)
theorem dX10_isLetter_9 : decode cX10_isLetter 9 = .ok (.getfield 3, 3) := dk_180 0 3 (dk_at dksX10_isLetter_0 9 rfl rfl)
theorem dX10_isLetter_12 : decode cX10_isLetter 12 = .ok (.getfield 22, 3) := dk_180 0 22 (dk_at dksX10_isLetter_0 12 rfl rfl)
theorem dX10_isLetter_15 : decode cX10_isLetter 15 = .ok (.iload_n 1, 1) := dk_27 (dk_at dksX10_isLetter_0 15 rfl rfl)
theorem dX10_isLetter_16 : decode cX10_isLetter 16 = .ok (.baload, 1) := dk_51 (dk_at dksX10_isLetter_0 16 rfl rfl)
theorem dX10_isLetter_17 : decode cX10_isLetter 17 = .ok (.bipush 97, 2) := dk_16 97 (dk_at dksX10_isLetter_0 17 rfl rfl)
theorem dX10_isLetter_19 : decode cX10_isLetter 19 = .ok (.if_icmp .lt 21, 3) := dk_161 0 21 (dk_at dksX10_isLetter_0 19 rfl rfl)
theorem dX10_isLetter_22 : decode cX10_isLetter 22 = .ok (.aload_n 0, 1) := dk_42 (dk_at dksX10_isLetter_0 22 rfl rfl)
theorem dX10_isLetter_23 : decode cX10_isLetter 23 = .ok (.getfield 3, 3) := dk_180 0 3 (dk_at dksX10_isLetter_1 0 rfl rfl)
theorem dX10_isLetter_26 : decode cX10_isLetter 26 = .ok (.getfield 22, 3) := dk_180 0 22 (dk_at dksX10_isLetter_1 3 rfl rfl)
theorem dX10_isLetter_29 : decode cX10_isLetter 29 = .ok (.iload_n 1, 1) := dk_27 (dk_at dksX10_isLetter_1 6 rfl rfl)
theorem dX10_isLetter_30 : decode cX10_isLetter 30 = .ok (.baload, 1) := dk_51 (dk_at dksX10_isLetter_1 7 rfl rfl)
theorem dX10_isLetter_31 : decode cX10_isLetter 31 = .ok (.bipush 122, 2) := dk_16 122 (dk_at dksX10_isLetter_1 8 rfl rfl)
theorem dX10_isLetter_33 : decode cX10_isLetter 33 = .ok (.if_icmp .gt 7, 3) := dk_163 0 7 (dk_at dksX10_isLetter_1 10 rfl rfl)
theorem dX10_isLetter_36 : decode cX10_isLetter 36 = .ok (.iconst 1, 1) := dk_4 (dk_at dksX10_isLetter_1 13 rfl rfl)
theorem dX10_isLetter_37 : decode cX10_isLetter 37 = .ok (.goto 4, 3) := dk_167 0 4 (dk_at dksX10_isLetter_1 14 rfl rfl)
theorem dX10_isLetter_40 : decode cX10_isLetter 40 = .ok (.iconst 0, 1) := dk_3 (dk_at dksX10_isLetter_1 17 rfl rfl)
theorem dX10_isLetter_41 : decode cX10_isLetter 41 = .ok (.ireturn, 1) := dk_172 (dk_at dksX10_isLetter_1 18 rfl rfl)
abbrev cX10_isDigit : ByteArray := prog_11_method_3_code
def yX10_isDigit : MethodName := ⟨RX10, "isDigit", "(I)Z"⟩
def dkwX10_isDigit_1 : List UInt8 := [180, 0, 3, 180, 0, 22, 27, 51, 16, 57, 163, 0, 7, 4, 167, 0, 4, 3, 172]
abbrev dktX10_isDigit_1 : List UInt8 := dkwX10_isDigit_1 ++ []
def dkwX10_isDigit_0 : List UInt8 := [27, 42, 180, 0, 15, 162, 0, 35, 42, 180, 0, 3, 180, 0, 22, 27, 51, 16, 48, 161, 0, 21, 42]
abbrev dktX10_isDigit_0 : List UInt8 := dkwX10_isDigit_0 ++ dktX10_isDigit_1
theorem dksX10_isDigit_0 : cX10_isDigit.data.toList.drop 0 = dktX10_isDigit_0 := by decide +kernel
theorem dksX10_isDigit_1 : cX10_isDigit.data.toList.drop 23 = dktX10_isDigit_1 := dk_seg dksX10_isDigit_0 23 rfl rfl
theorem dX10_isDigit_0 : decode cX10_isDigit 0 = .ok (.iload_n 1, 1) := dk_27 (dk_at dksX10_isDigit_0 0 rfl rfl)
theorem dX10_isDigit_1 : decode cX10_isDigit 1 = .ok (.aload_n 0, 1) := dk_42 (dk_at dksX10_isDigit_0 1 rfl rfl)
theorem dX10_isDigit_2 : decode cX10_isDigit 2 = .ok (.getfield 15, 3) := dk_180 0 15 (dk_at dksX10_isDigit_0 2 rfl rfl)
theorem dX10_isDigit_5 : decode cX10_isDigit 5 = .ok (.if_icmp .ge 35, 3) := dk_162 0 35 (dk_at dksX10_isDigit_0 5 rfl rfl)
theorem dX10_isDigit_8 : decode cX10_isDigit 8 = .ok (.aload_n 0, 1) := dk_42 (dk_at dksX10_isDigit_0 8 rfl rfl)
theorem dX10_isDigit_9 : decode cX10_isDigit 9 = .ok (.getfield 3, 3) := dk_180 0 3 (dk_at dksX10_isDigit_0 9 rfl rfl)
theorem dX10_isDigit_12 : decode cX10_isDigit 12 = .ok (.getfield 22, 3) := dk_180 0 22 (dk_at dksX10_isDigit_0 12 rfl rfl)
theorem dX10_isDigit_15 : decode cX10_isDigit 15 = .ok (.iload_n 1, 1) := dk_27 (dk_at dksX10_isDigit_0 15 rfl rfl)
theorem dX10_isDigit_16 : decode cX10_isDigit 16 = .ok (.baload, 1) := dk_51 (dk_at dksX10_isDigit_0 16 rfl rfl)
theorem dX10_isDigit_17 : decode cX10_isDigit 17 = .ok (.bipush 48, 2) := dk_16 48 (dk_at dksX10_isDigit_0 17 rfl rfl)
theorem dX10_isDigit_19 : decode cX10_isDigit 19 = .ok (.if_icmp .lt 21, 3) := dk_161 0 21 (dk_at dksX10_isDigit_0 19 rfl rfl)
theorem dX10_isDigit_22 : decode cX10_isDigit 22 = .ok (.aload_n 0, 1) := dk_42 (dk_at dksX10_isDigit_0 22 rfl rfl)
theorem dX10_isDigit_23 : decode cX10_isDigit 23 = .ok (.getfield 3, 3) := dk_180 0 3 (dk_at dksX10_isDigit_1 0 rfl rfl)
theorem dX10_isDigit_26 : decode cX10_isDigit 26 = .ok (.getfield 22, 3) := dk_180 0 22 (dk_at dksX10_isDigit_1 3 rfl rfl)
theorem dX10_isDigit_29 : decode cX10_isDigit 29 = .ok (.iload_n 1, 1) := dk_27 (dk_at dksX10_isDigit_1 6 rfl rfl)
theorem dX10_isDigit_30 : decode cX10_isDigit 30 = .ok (.baload, 1) := dk_51 (dk_at dksX10_isDigit_1 7 rfl rfl)
theorem dX10_isDigit_31 : decode cX10_isDigit 31 = .ok (.bipush 57, 2) := dk_16 57 (dk_at dksX10_isDigit_1 8 rfl rfl)
theorem dX10_isDigit_33 : decode cX10_isDigit 33 = .ok (.if_icmp .gt 7, 3) := dk_163 0 7 (dk_at dksX10_isDigit_1 10 rfl rfl)
theorem dX10_isDigit_36 : decode cX10_isDigit 36 = .ok (.iconst 1, 1) := dk_4 (dk_at dksX10_isDigit_1 13 rfl rfl)
theorem dX10_isDigit_37 : decode cX10_isDigit 37 = .ok (.goto 4, 3) := dk_167 0 4 (dk_at dksX10_isDigit_1 14 rfl rfl)
theorem dX10_isDigit_40 : decode cX10_isDigit 40 = .ok (.iconst 0, 1) := dk_3 (dk_at dksX10_isDigit_1 17 rfl rfl)
theorem dX10_isDigit_41 : decode cX10_isDigit 41 = .ok (.ireturn, 1) := dk_172 (dk_at dksX10_isDigit_1 18 rfl rfl)
abbrev cX10_town : ByteArray := prog_11_method_19_code
def yX10_town : MethodName := ⟨RX10, "town", "(LSillBridges$Town;)V"⟩
def dkwX10_town_4 : List UInt8 := [182, 0, 64, 191, 42, 182, 0, 185, 167, 255, 155, 177]
abbrev dktX10_town_4 : List UInt8 := dkwX10_town_4 ++ []
def dkwX10_town_3 : List UInt8 := [182, 0, 179, 167, 0, 25, 42, 18, 110, 182, 0, 68, 153, 0, 11, 42, 43, 182, 0, 182, 167, 0, 8, 42]
abbrev dktX10_town_3 : List UInt8 := dkwX10_town_3 ++ dktX10_town_4
def dkwX10_town_2 : List UInt8 := [153, 0, 11, 42, 43, 182, 0, 176, 167, 0, 42, 42, 18, 108, 182, 0, 68, 153, 0, 11, 42, 43]
abbrev dktX10_town_2 : List UInt8 := dkwX10_town_2 ++ dktX10_town_3
def dkwX10_town_1 : List UInt8 := [42, 18, 77, 182, 0, 68, 153, 0, 11, 42, 43, 182, 0, 173, 167, 0, 59, 42, 18, 97, 182, 0, 68]
abbrev dktX10_town_1 : List UInt8 := dkwX10_town_1 ++ dktX10_town_2
def dkwX10_town_0 : List UInt8 := [42, 180, 0, 32, 153, 0, 100, 42, 18, 75, 182, 0, 68, 153, 0, 11, 42, 43, 182, 0, 169, 167, 0, 76]
abbrev dktX10_town_0 : List UInt8 := dkwX10_town_0 ++ dktX10_town_1
theorem dksX10_town_0 : cX10_town.data.toList.drop 0 = dktX10_town_0 := by decide +kernel
theorem dksX10_town_1 : cX10_town.data.toList.drop 24 = dktX10_town_1 := dk_seg dksX10_town_0 24 rfl rfl
theorem dksX10_town_2 : cX10_town.data.toList.drop 47 = dktX10_town_2 := dk_seg dksX10_town_1 23 rfl rfl
theorem dksX10_town_3 : cX10_town.data.toList.drop 69 = dktX10_town_3 := dk_seg dksX10_town_2 22 rfl rfl
theorem dksX10_town_4 : cX10_town.data.toList.drop 93 = dktX10_town_4 := dk_seg dksX10_town_3 24 rfl rfl
theorem dX10_town_0 : decode cX10_town 0 = .ok (.aload_n 0, 1) := dk_42 (dk_at dksX10_town_0 0 rfl rfl)
theorem dX10_town_1 : decode cX10_town 1 = .ok (.getfield 32, 3) := dk_180 0 32 (dk_at dksX10_town_0 1 rfl rfl)
theorem dX10_town_4 : decode cX10_town 4 = .ok (.ifCond .eq 100, 3) := dk_153 0 100 (dk_at dksX10_town_0 4 rfl rfl)
theorem dX10_town_7 : decode cX10_town 7 = .ok (.aload_n 0, 1) := dk_42 (dk_at dksX10_town_0 7 rfl rfl)
theorem dX10_town_8 : decode cX10_town 8 = .ok (.ldc 75, 2) := dk_18 75 (dk_at dksX10_town_0 8 rfl rfl)
theorem dX10_town_10 : decode cX10_town 10 = .ok (.invokevirtual 68, 3) := dk_182 0 68 (dk_at dksX10_town_0 10 rfl rfl)
theorem dX10_town_13 : decode cX10_town 13 = .ok (.ifCond .eq 11, 3) := dk_153 0 11 (dk_at dksX10_town_0 13 rfl rfl)
theorem dX10_town_16 : decode cX10_town 16 = .ok (.aload_n 0, 1) := dk_42 (dk_at dksX10_town_0 16 rfl rfl)
theorem dX10_town_17 : decode cX10_town 17 = .ok (.aload_n 1, 1) := dk_43 (dk_at dksX10_town_0 17 rfl rfl)
theorem dX10_town_18 : decode cX10_town 18 = .ok (.invokevirtual 169, 3) := dk_182 0 169 (dk_at dksX10_town_0 18 rfl rfl)
theorem dX10_town_21 : decode cX10_town 21 = .ok (.goto 76, 3) := dk_167 0 76 (dk_at dksX10_town_0 21 rfl rfl)
theorem dX10_town_24 : decode cX10_town 24 = .ok (.aload_n 0, 1) := dk_42 (dk_at dksX10_town_1 0 rfl rfl)
theorem dX10_town_25 : decode cX10_town 25 = .ok (.ldc 77, 2) := dk_18 77 (dk_at dksX10_town_1 1 rfl rfl)
theorem dX10_town_27 : decode cX10_town 27 = .ok (.invokevirtual 68, 3) := dk_182 0 68 (dk_at dksX10_town_1 3 rfl rfl)
theorem dX10_town_30 : decode cX10_town 30 = .ok (.ifCond .eq 11, 3) := dk_153 0 11 (dk_at dksX10_town_1 6 rfl rfl)
theorem dX10_town_33 : decode cX10_town 33 = .ok (.aload_n 0, 1) := dk_42 (dk_at dksX10_town_1 9 rfl rfl)
theorem dX10_town_34 : decode cX10_town 34 = .ok (.aload_n 1, 1) := dk_43 (dk_at dksX10_town_1 10 rfl rfl)
theorem dX10_town_35 : decode cX10_town 35 = .ok (.invokevirtual 173, 3) := dk_182 0 173 (dk_at dksX10_town_1 11 rfl rfl)
theorem dX10_town_38 : decode cX10_town 38 = .ok (.goto 59, 3) := dk_167 0 59 (dk_at dksX10_town_1 14 rfl rfl)
theorem dX10_town_41 : decode cX10_town 41 = .ok (.aload_n 0, 1) := dk_42 (dk_at dksX10_town_1 17 rfl rfl)
theorem dX10_town_42 : decode cX10_town 42 = .ok (.ldc 97, 2) := dk_18 97 (dk_at dksX10_town_1 18 rfl rfl)
theorem dX10_town_44 : decode cX10_town 44 = .ok (.invokevirtual 68, 3) := dk_182 0 68 (dk_at dksX10_town_1 20 rfl rfl)
theorem dX10_town_47 : decode cX10_town 47 = .ok (.ifCond .eq 11, 3) := dk_153 0 11 (dk_at dksX10_town_2 0 rfl rfl)
theorem dX10_town_50 : decode cX10_town 50 = .ok (.aload_n 0, 1) := dk_42 (dk_at dksX10_town_2 3 rfl rfl)
theorem dX10_town_51 : decode cX10_town 51 = .ok (.aload_n 1, 1) := dk_43 (dk_at dksX10_town_2 4 rfl rfl)
theorem dX10_town_52 : decode cX10_town 52 = .ok (.invokevirtual 176, 3) := dk_182 0 176 (dk_at dksX10_town_2 5 rfl rfl)
theorem dX10_town_55 : decode cX10_town 55 = .ok (.goto 42, 3) := dk_167 0 42 (dk_at dksX10_town_2 8 rfl rfl)
theorem dX10_town_58 : decode cX10_town 58 = .ok (.aload_n 0, 1) := dk_42 (dk_at dksX10_town_2 11 rfl rfl)
theorem dX10_town_59 : decode cX10_town 59 = .ok (.ldc 108, 2) := dk_18 108 (dk_at dksX10_town_2 12 rfl rfl)
theorem dX10_town_61 : decode cX10_town 61 = .ok (.invokevirtual 68, 3) := dk_182 0 68 (dk_at dksX10_town_2 14 rfl rfl)
theorem dX10_town_64 : decode cX10_town 64 = .ok (.ifCond .eq 11, 3) := dk_153 0 11 (dk_at dksX10_town_2 17 rfl rfl)
theorem dX10_town_67 : decode cX10_town 67 = .ok (.aload_n 0, 1) := dk_42 (dk_at dksX10_town_2 20 rfl rfl)
theorem dX10_town_68 : decode cX10_town 68 = .ok (.aload_n 1, 1) := dk_43 (dk_at dksX10_town_2 21 rfl rfl)
theorem dX10_town_69 : decode cX10_town 69 = .ok (.invokevirtual 179, 3) := dk_182 0 179 (dk_at dksX10_town_3 0 rfl rfl)
theorem dX10_town_72 : decode cX10_town 72 = .ok (.goto 25, 3) := dk_167 0 25 (dk_at dksX10_town_3 3 rfl rfl)
theorem dX10_town_75 : decode cX10_town 75 = .ok (.aload_n 0, 1) := dk_42 (dk_at dksX10_town_3 6 rfl rfl)
theorem dX10_town_76 : decode cX10_town 76 = .ok (.ldc 110, 2) := dk_18 110 (dk_at dksX10_town_3 7 rfl rfl)
theorem dX10_town_78 : decode cX10_town 78 = .ok (.invokevirtual 68, 3) := dk_182 0 68 (dk_at dksX10_town_3 9 rfl rfl)
theorem dX10_town_81 : decode cX10_town 81 = .ok (.ifCond .eq 11, 3) := dk_153 0 11 (dk_at dksX10_town_3 12 rfl rfl)
theorem dX10_town_84 : decode cX10_town 84 = .ok (.aload_n 0, 1) := dk_42 (dk_at dksX10_town_3 15 rfl rfl)
theorem dX10_town_85 : decode cX10_town 85 = .ok (.aload_n 1, 1) := dk_43 (dk_at dksX10_town_3 16 rfl rfl)
theorem dX10_town_86 : decode cX10_town 86 = .ok (.invokevirtual 182, 3) := dk_182 0 182 (dk_at dksX10_town_3 17 rfl rfl)
theorem dX10_town_89 : decode cX10_town 89 = .ok (.goto 8, 3) := dk_167 0 8 (dk_at dksX10_town_3 20 rfl rfl)
theorem dX10_town_92 : decode cX10_town 92 = .ok (.aload_n 0, 1) := dk_42 (dk_at dksX10_town_3 23 rfl rfl)
theorem dX10_town_93 : decode cX10_town 93 = .ok (.invokevirtual 64, 3) := dk_182 0 64 (dk_at dksX10_town_4 0 rfl rfl)
theorem dX10_town_96 : decode cX10_town 96 = .ok (.athrow, 1) := dk_191 (dk_at dksX10_town_4 3 rfl rfl)
theorem dX10_town_97 : decode cX10_town 97 = .ok (.aload_n 0, 1) := dk_42 (dk_at dksX10_town_4 4 rfl rfl)
theorem dX10_town_98 : decode cX10_town 98 = .ok (.invokevirtual 185, 3) := dk_182 0 185 (dk_at dksX10_town_4 5 rfl rfl)
theorem dX10_town_101 : decode cX10_town 101 = .ok (.goto (-101), 3) := dk_167 255 155 (dk_at dksX10_town_4 8 rfl rfl)
theorem dX10_town_104 : decode cX10_town 104 = .ok (.return_, 1) := dk_177 (dk_at dksX10_town_4 11 rfl rfl)
abbrev cX10_isWord : ByteArray := prog_11_method_5_code
def yX10_isWord : MethodName := ⟨RX10, "isWord", "(Ljava/lang/String;)Z"⟩
def dkwX10_isWord_2 : List UInt8 := [96, 51, 43, 28, 182, 0, 51, 159, 0, 5, 3, 172, 132, 2, 1, 167, 255, 221, 4, 172]
abbrev dktX10_isWord_2 : List UInt8 := dkwX10_isWord_2 ++ []
def dkwX10_isWord_1 : List UInt8 := [3, 172, 3, 61, 28, 43, 182, 0, 45, 162, 0, 33, 42, 180, 0, 3, 180, 0, 22, 42, 180, 0, 29, 28]
abbrev dktX10_isWord_1 : List UInt8 := dkwX10_isWord_1 ++ dktX10_isWord_2
def dkwX10_isWord_0 : List UInt8 := [42, 180, 0, 32, 4, 160, 0, 19, 42, 180, 0, 26, 42, 180, 0, 29, 100, 43, 182, 0, 45, 159, 0, 5]
abbrev dktX10_isWord_0 : List UInt8 := dkwX10_isWord_0 ++ dktX10_isWord_1
theorem dksX10_isWord_0 : cX10_isWord.data.toList.drop 0 = dktX10_isWord_0 := by decide +kernel
theorem dksX10_isWord_1 : cX10_isWord.data.toList.drop 24 = dktX10_isWord_1 := dk_seg dksX10_isWord_0 24 rfl rfl
theorem dksX10_isWord_2 : cX10_isWord.data.toList.drop 48 = dktX10_isWord_2 := dk_seg dksX10_isWord_1 24 rfl rfl
theorem dX10_isWord_0 : decode cX10_isWord 0 = .ok (.aload_n 0, 1) := dk_42 (dk_at dksX10_isWord_0 0 rfl rfl)
theorem dX10_isWord_1 : decode cX10_isWord 1 = .ok (.getfield 32, 3) := dk_180 0 32 (dk_at dksX10_isWord_0 1 rfl rfl)
theorem dX10_isWord_4 : decode cX10_isWord 4 = .ok (.iconst 1, 1) := dk_4 (dk_at dksX10_isWord_0 4 rfl rfl)
theorem dX10_isWord_5 : decode cX10_isWord 5 = .ok (.if_icmp .ne 19, 3) := dk_160 0 19 (dk_at dksX10_isWord_0 5 rfl rfl)
theorem dX10_isWord_8 : decode cX10_isWord 8 = .ok (.aload_n 0, 1) := dk_42 (dk_at dksX10_isWord_0 8 rfl rfl)
theorem dX10_isWord_9 : decode cX10_isWord 9 = .ok (.getfield 26, 3) := dk_180 0 26 (dk_at dksX10_isWord_0 9 rfl rfl)
theorem dX10_isWord_12 : decode cX10_isWord 12 = .ok (.aload_n 0, 1) := dk_42 (dk_at dksX10_isWord_0 12 rfl rfl)
theorem dX10_isWord_13 : decode cX10_isWord 13 = .ok (.getfield 29, 3) := dk_180 0 29 (dk_at dksX10_isWord_0 13 rfl rfl)
theorem dX10_isWord_16 : decode cX10_isWord 16 = .ok (.isub, 1) := dk_100 (dk_at dksX10_isWord_0 16 rfl rfl)
theorem dX10_isWord_17 : decode cX10_isWord 17 = .ok (.aload_n 1, 1) := dk_43 (dk_at dksX10_isWord_0 17 rfl rfl)
theorem dX10_isWord_18 : decode cX10_isWord 18 = .ok (.invokevirtual 45, 3) := dk_182 0 45 (dk_at dksX10_isWord_0 18 rfl rfl)
theorem dX10_isWord_21 : decode cX10_isWord 21 = .ok (.if_icmp .eq 5, 3) := dk_159 0 5 (dk_at dksX10_isWord_0 21 rfl rfl)
theorem dX10_isWord_24 : decode cX10_isWord 24 = .ok (.iconst 0, 1) := dk_3 (dk_at dksX10_isWord_1 0 rfl rfl)
theorem dX10_isWord_25 : decode cX10_isWord 25 = .ok (.ireturn, 1) := dk_172 (dk_at dksX10_isWord_1 1 rfl rfl)
theorem dX10_isWord_26 : decode cX10_isWord 26 = .ok (.iconst 0, 1) := dk_3 (dk_at dksX10_isWord_1 2 rfl rfl)
theorem dX10_isWord_27 : decode cX10_isWord 27 = .ok (.istore_n 2, 1) := dk_61 (dk_at dksX10_isWord_1 3 rfl rfl)
theorem dX10_isWord_28 : decode cX10_isWord 28 = .ok (.iload_n 2, 1) := dk_28 (dk_at dksX10_isWord_1 4 rfl rfl)
theorem dX10_isWord_29 : decode cX10_isWord 29 = .ok (.aload_n 1, 1) := dk_43 (dk_at dksX10_isWord_1 5 rfl rfl)
theorem dX10_isWord_30 : decode cX10_isWord 30 = .ok (.invokevirtual 45, 3) := dk_182 0 45 (dk_at dksX10_isWord_1 6 rfl rfl)
theorem dX10_isWord_33 : decode cX10_isWord 33 = .ok (.if_icmp .ge 33, 3) := dk_162 0 33 (dk_at dksX10_isWord_1 9 rfl rfl)
theorem dX10_isWord_36 : decode cX10_isWord 36 = .ok (.aload_n 0, 1) := dk_42 (dk_at dksX10_isWord_1 12 rfl rfl)
theorem dX10_isWord_37 : decode cX10_isWord 37 = .ok (.getfield 3, 3) := dk_180 0 3 (dk_at dksX10_isWord_1 13 rfl rfl)
theorem dX10_isWord_40 : decode cX10_isWord 40 = .ok (.getfield 22, 3) := dk_180 0 22 (dk_at dksX10_isWord_1 16 rfl rfl)
theorem dX10_isWord_43 : decode cX10_isWord 43 = .ok (.aload_n 0, 1) := dk_42 (dk_at dksX10_isWord_1 19 rfl rfl)
theorem dX10_isWord_44 : decode cX10_isWord 44 = .ok (.getfield 29, 3) := dk_180 0 29 (dk_at dksX10_isWord_1 20 rfl rfl)
theorem dX10_isWord_47 : decode cX10_isWord 47 = .ok (.iload_n 2, 1) := dk_28 (dk_at dksX10_isWord_1 23 rfl rfl)
theorem dX10_isWord_48 : decode cX10_isWord 48 = .ok (.iadd, 1) := dk_96 (dk_at dksX10_isWord_2 0 rfl rfl)
theorem dX10_isWord_49 : decode cX10_isWord 49 = .ok (.baload, 1) := dk_51 (dk_at dksX10_isWord_2 1 rfl rfl)
theorem dX10_isWord_50 : decode cX10_isWord 50 = .ok (.aload_n 1, 1) := dk_43 (dk_at dksX10_isWord_2 2 rfl rfl)
theorem dX10_isWord_51 : decode cX10_isWord 51 = .ok (.iload_n 2, 1) := dk_28 (dk_at dksX10_isWord_2 3 rfl rfl)
theorem dX10_isWord_52 : decode cX10_isWord 52 = .ok (.invokevirtual 51, 3) := dk_182 0 51 (dk_at dksX10_isWord_2 4 rfl rfl)
theorem dX10_isWord_55 : decode cX10_isWord 55 = .ok (.if_icmp .eq 5, 3) := dk_159 0 5 (dk_at dksX10_isWord_2 7 rfl rfl)
theorem dX10_isWord_58 : decode cX10_isWord 58 = .ok (.iconst 0, 1) := dk_3 (dk_at dksX10_isWord_2 10 rfl rfl)
theorem dX10_isWord_59 : decode cX10_isWord 59 = .ok (.ireturn, 1) := dk_172 (dk_at dksX10_isWord_2 11 rfl rfl)
theorem dX10_isWord_60 : decode cX10_isWord 60 = .ok (.iinc 2 1, 3) := dk_132 2 1 (dk_at dksX10_isWord_2 12 rfl rfl)
theorem dX10_isWord_63 : decode cX10_isWord 63 = .ok (.goto (-35), 3) := dk_167 255 221 (dk_at dksX10_isWord_2 15 rfl rfl)
theorem dX10_isWord_66 : decode cX10_isWord 66 = .ok (.iconst 1, 1) := dk_4 (dk_at dksX10_isWord_2 18 rfl rfl)
theorem dX10_isWord_67 : decode cX10_isWord 67 = .ok (.ireturn, 1) := dk_172 (dk_at dksX10_isWord_2 19 rfl rfl)
abbrev cX10_newPlace : ByteArray := prog_11_method_20_code
def yX10_newPlace : MethodName := ⟨RX10, "newPlace", "(LSillBridges$Town;)V"⟩
def dkwX10_newPlace_2 : List UInt8 := [180, 0, 188, 4, 96, 181, 0, 188, 177]
abbrev dktX10_newPlace_2 : List UInt8 := dkwX10_newPlace_2 ++ []
def dkwX10_newPlace_1 : List UInt8 := [182, 0, 59, 191, 42, 182, 0, 19, 43, 180, 0, 191, 43, 180, 0, 188, 42, 43, 182, 0, 195, 80, 43, 89]
abbrev dktX10_newPlace_1 : List UInt8 := dkwX10_newPlace_1 ++ dktX10_newPlace_2
def dkwX10_newPlace_0 : List UInt8 := [43, 180, 0, 188, 16, 6, 160, 0, 20, 42, 180, 0, 3, 180, 0, 55, 16, 6, 42, 180, 0, 29]
abbrev dktX10_newPlace_0 : List UInt8 := dkwX10_newPlace_0 ++ dktX10_newPlace_1
theorem dksX10_newPlace_0 : cX10_newPlace.data.toList.drop 0 = dktX10_newPlace_0 := by decide +kernel
theorem dksX10_newPlace_1 : cX10_newPlace.data.toList.drop 22 = dktX10_newPlace_1 := dk_seg dksX10_newPlace_0 22 rfl rfl
theorem dksX10_newPlace_2 : cX10_newPlace.data.toList.drop 46 = dktX10_newPlace_2 := dk_seg dksX10_newPlace_1 24 rfl rfl
theorem dX10_newPlace_0 : decode cX10_newPlace 0 = .ok (.aload_n 1, 1) := dk_43 (dk_at dksX10_newPlace_0 0 rfl rfl)
theorem dX10_newPlace_1 : decode cX10_newPlace 1 = .ok (.getfield 188, 3) := dk_180 0 188 (dk_at dksX10_newPlace_0 1 rfl rfl)
theorem dX10_newPlace_4 : decode cX10_newPlace 4 = .ok (.bipush 6, 2) := dk_16 6 (dk_at dksX10_newPlace_0 4 rfl rfl)
theorem dX10_newPlace_6 : decode cX10_newPlace 6 = .ok (.if_icmp .ne 20, 3) := dk_160 0 20 (dk_at dksX10_newPlace_0 6 rfl rfl)
theorem dX10_newPlace_9 : decode cX10_newPlace 9 = .ok (.aload_n 0, 1) := dk_42 (dk_at dksX10_newPlace_0 9 rfl rfl)
theorem dX10_newPlace_10 : decode cX10_newPlace 10 = .ok (.getfield 3, 3) := dk_180 0 3 (dk_at dksX10_newPlace_0 10 rfl rfl)
theorem dX10_newPlace_13 : decode cX10_newPlace 13 = .ok (.getfield 55, 3) := dk_180 0 55 (dk_at dksX10_newPlace_0 13 rfl rfl)
theorem dX10_newPlace_16 : decode cX10_newPlace 16 = .ok (.bipush 6, 2) := dk_16 6 (dk_at dksX10_newPlace_0 16 rfl rfl)
theorem dX10_newPlace_18 : decode cX10_newPlace 18 = .ok (.aload_n 0, 1) := dk_42 (dk_at dksX10_newPlace_0 18 rfl rfl)
theorem dX10_newPlace_19 : decode cX10_newPlace 19 = .ok (.getfield 29, 3) := dk_180 0 29 (dk_at dksX10_newPlace_0 19 rfl rfl)
theorem dX10_newPlace_22 : decode cX10_newPlace 22 = .ok (.invokevirtual 59, 3) := dk_182 0 59 (dk_at dksX10_newPlace_1 0 rfl rfl)
theorem dX10_newPlace_25 : decode cX10_newPlace 25 = .ok (.athrow, 1) := dk_191 (dk_at dksX10_newPlace_1 3 rfl rfl)
theorem dX10_newPlace_26 : decode cX10_newPlace 26 = .ok (.aload_n 0, 1) := dk_42 (dk_at dksX10_newPlace_1 4 rfl rfl)
theorem dX10_newPlace_27 : decode cX10_newPlace 27 = .ok (.invokevirtual 19, 3) := dk_182 0 19 (dk_at dksX10_newPlace_1 5 rfl rfl)
theorem dX10_newPlace_30 : decode cX10_newPlace 30 = .ok (.aload_n 1, 1) := dk_43 (dk_at dksX10_newPlace_1 8 rfl rfl)
theorem dX10_newPlace_31 : decode cX10_newPlace 31 = .ok (.getfield 191, 3) := dk_180 0 191 (dk_at dksX10_newPlace_1 9 rfl rfl)
theorem dX10_newPlace_34 : decode cX10_newPlace 34 = .ok (.aload_n 1, 1) := dk_43 (dk_at dksX10_newPlace_1 12 rfl rfl)
theorem dX10_newPlace_35 : decode cX10_newPlace 35 = .ok (.getfield 188, 3) := dk_180 0 188 (dk_at dksX10_newPlace_1 13 rfl rfl)
theorem dX10_newPlace_38 : decode cX10_newPlace 38 = .ok (.aload_n 0, 1) := dk_42 (dk_at dksX10_newPlace_1 16 rfl rfl)
theorem dX10_newPlace_39 : decode cX10_newPlace 39 = .ok (.aload_n 1, 1) := dk_43 (dk_at dksX10_newPlace_1 17 rfl rfl)
theorem dX10_newPlace_40 : decode cX10_newPlace 40 = .ok (.invokevirtual 195, 3) := dk_182 0 195 (dk_at dksX10_newPlace_1 18 rfl rfl)
theorem dX10_newPlace_43 : decode cX10_newPlace 43 = .ok (.lastore, 1) := dk_80 (dk_at dksX10_newPlace_1 21 rfl rfl)
theorem dX10_newPlace_44 : decode cX10_newPlace 44 = .ok (.aload_n 1, 1) := dk_43 (dk_at dksX10_newPlace_1 22 rfl rfl)
theorem dX10_newPlace_45 : decode cX10_newPlace 45 = .ok (.dup, 1) := dk_89 (dk_at dksX10_newPlace_1 23 rfl rfl)
theorem dX10_newPlace_46 : decode cX10_newPlace 46 = .ok (.getfield 188, 3) := dk_180 0 188 (dk_at dksX10_newPlace_2 0 rfl rfl)
theorem dX10_newPlace_49 : decode cX10_newPlace 49 = .ok (.iconst 1, 1) := dk_4 (dk_at dksX10_newPlace_2 3 rfl rfl)
theorem dX10_newPlace_50 : decode cX10_newPlace 50 = .ok (.iadd, 1) := dk_96 (dk_at dksX10_newPlace_2 4 rfl rfl)
theorem dX10_newPlace_51 : decode cX10_newPlace 51 = .ok (.putfield 188, 3) := dk_181 0 188 (dk_at dksX10_newPlace_2 5 rfl rfl)
theorem dX10_newPlace_54 : decode cX10_newPlace 54 = .ok (.return_, 1) := dk_177 (dk_at dksX10_newPlace_2 8 rfl rfl)
abbrev cX10_fresh : ByteArray := prog_11_method_13_code
def yX10_fresh : MethodName := ⟨RX10, "fresh", "(LSillBridges$Town;)J"⟩
def dkwX10_fresh_1 : List UInt8 := [180, 0, 29, 182, 0, 59, 191, 42, 182, 0, 19, 32, 173]
abbrev dktX10_fresh_1 : List UInt8 := dkwX10_fresh_1 ++ []
def dkwX10_fresh_0 : List UInt8 := [42, 182, 0, 142, 65, 43, 32, 182, 0, 146, 153, 0, 19, 42, 180, 0, 3, 180, 0, 55, 6, 42]
abbrev dktX10_fresh_0 : List UInt8 := dkwX10_fresh_0 ++ dktX10_fresh_1
theorem dksX10_fresh_0 : cX10_fresh.data.toList.drop 0 = dktX10_fresh_0 := by decide +kernel
theorem dksX10_fresh_1 : cX10_fresh.data.toList.drop 22 = dktX10_fresh_1 := dk_seg dksX10_fresh_0 22 rfl rfl
theorem dX10_fresh_0 : decode cX10_fresh 0 = .ok (.aload_n 0, 1) := dk_42 (dk_at dksX10_fresh_0 0 rfl rfl)
theorem dX10_fresh_1 : decode cX10_fresh 1 = .ok (.invokevirtual 142, 3) := dk_182 0 142 (dk_at dksX10_fresh_0 1 rfl rfl)
theorem dX10_fresh_4 : decode cX10_fresh 4 = .ok (.lstore_n 2, 1) := dk_65 (dk_at dksX10_fresh_0 4 rfl rfl)
theorem dX10_fresh_5 : decode cX10_fresh 5 = .ok (.aload_n 1, 1) := dk_43 (dk_at dksX10_fresh_0 5 rfl rfl)
theorem dX10_fresh_6 : decode cX10_fresh 6 = .ok (.lload_n 2, 1) := dk_32 (dk_at dksX10_fresh_0 6 rfl rfl)
theorem dX10_fresh_7 : decode cX10_fresh 7 = .ok (.invokevirtual 146, 3) := dk_182 0 146 (dk_at dksX10_fresh_0 7 rfl rfl)
theorem dX10_fresh_10 : decode cX10_fresh 10 = .ok (.ifCond .eq 19, 3) := dk_153 0 19 (dk_at dksX10_fresh_0 10 rfl rfl)
theorem dX10_fresh_13 : decode cX10_fresh 13 = .ok (.aload_n 0, 1) := dk_42 (dk_at dksX10_fresh_0 13 rfl rfl)
theorem dX10_fresh_14 : decode cX10_fresh 14 = .ok (.getfield 3, 3) := dk_180 0 3 (dk_at dksX10_fresh_0 14 rfl rfl)
theorem dX10_fresh_17 : decode cX10_fresh 17 = .ok (.getfield 55, 3) := dk_180 0 55 (dk_at dksX10_fresh_0 17 rfl rfl)
theorem dX10_fresh_20 : decode cX10_fresh 20 = .ok (.iconst 3, 1) := dk_6 (dk_at dksX10_fresh_0 20 rfl rfl)
theorem dX10_fresh_21 : decode cX10_fresh 21 = .ok (.aload_n 0, 1) := dk_42 (dk_at dksX10_fresh_0 21 rfl rfl)
theorem dX10_fresh_22 : decode cX10_fresh 22 = .ok (.getfield 29, 3) := dk_180 0 29 (dk_at dksX10_fresh_1 0 rfl rfl)
theorem dX10_fresh_25 : decode cX10_fresh 25 = .ok (.invokevirtual 59, 3) := dk_182 0 59 (dk_at dksX10_fresh_1 3 rfl rfl)
theorem dX10_fresh_28 : decode cX10_fresh 28 = .ok (.athrow, 1) := dk_191 (dk_at dksX10_fresh_1 6 rfl rfl)
theorem dX10_fresh_29 : decode cX10_fresh 29 = .ok (.aload_n 0, 1) := dk_42 (dk_at dksX10_fresh_1 7 rfl rfl)
theorem dX10_fresh_30 : decode cX10_fresh 30 = .ok (.invokevirtual 19, 3) := dk_182 0 19 (dk_at dksX10_fresh_1 8 rfl rfl)
theorem dX10_fresh_33 : decode cX10_fresh 33 = .ok (.lload_n 2, 1) := dk_32 (dk_at dksX10_fresh_1 11 rfl rfl)
theorem dX10_fresh_34 : decode cX10_fresh 34 = .ok (.lreturn, 1) := dk_173 (dk_at dksX10_fresh_1 12 rfl rfl)
abbrev cX10_name : ByteArray := prog_11_method_12_code
def yX10_name : MethodName := ⟨RX10, "name", "()J"⟩
def dkwX10_name_3 : List UInt8 := [132, 3, 1, 167, 255, 224, 31, 173]
abbrev dktX10_name_3 : List UInt8 := dkwX10_name_3 ++ []
def dkwX10_name_2 : List UInt8 := [162, 0, 30, 31, 20, 0, 138, 105, 42, 180, 0, 3, 180, 0, 22, 29, 51, 133, 97, 20, 0, 140, 101, 64]
abbrev dktX10_name_2 : List UInt8 := dkwX10_name_2 ++ dktX10_name_3
def dkwX10_name_1 : List UInt8 := [182, 0, 134, 153, 0, 8, 42, 182, 0, 64, 191, 9, 64, 42, 180, 0, 29, 62, 29, 42, 180, 0, 26]
abbrev dktX10_name_1 : List UInt8 := dkwX10_name_1 ++ dktX10_name_2
def dkwX10_name_0 : List UInt8 := [42, 180, 0, 32, 4, 160, 0, 24, 42, 180, 0, 26, 42, 180, 0, 29, 100, 16, 8, 163, 0, 10, 42]
abbrev dktX10_name_0 : List UInt8 := dkwX10_name_0 ++ dktX10_name_1
theorem dksX10_name_0 : cX10_name.data.toList.drop 0 = dktX10_name_0 := by decide +kernel
theorem dksX10_name_1 : cX10_name.data.toList.drop 23 = dktX10_name_1 := dk_seg dksX10_name_0 23 rfl rfl
theorem dksX10_name_2 : cX10_name.data.toList.drop 46 = dktX10_name_2 := dk_seg dksX10_name_1 23 rfl rfl
theorem dksX10_name_3 : cX10_name.data.toList.drop 70 = dktX10_name_3 := dk_seg dksX10_name_2 24 rfl rfl
theorem dX10_name_0 : decode cX10_name 0 = .ok (.aload_n 0, 1) := dk_42 (dk_at dksX10_name_0 0 rfl rfl)
theorem dX10_name_1 : decode cX10_name 1 = .ok (.getfield 32, 3) := dk_180 0 32 (dk_at dksX10_name_0 1 rfl rfl)
theorem dX10_name_4 : decode cX10_name 4 = .ok (.iconst 1, 1) := dk_4 (dk_at dksX10_name_0 4 rfl rfl)
theorem dX10_name_5 : decode cX10_name 5 = .ok (.if_icmp .ne 24, 3) := dk_160 0 24 (dk_at dksX10_name_0 5 rfl rfl)
theorem dX10_name_8 : decode cX10_name 8 = .ok (.aload_n 0, 1) := dk_42 (dk_at dksX10_name_0 8 rfl rfl)
theorem dX10_name_9 : decode cX10_name 9 = .ok (.getfield 26, 3) := dk_180 0 26 (dk_at dksX10_name_0 9 rfl rfl)
theorem dX10_name_12 : decode cX10_name 12 = .ok (.aload_n 0, 1) := dk_42 (dk_at dksX10_name_0 12 rfl rfl)
theorem dX10_name_13 : decode cX10_name 13 = .ok (.getfield 29, 3) := dk_180 0 29 (dk_at dksX10_name_0 13 rfl rfl)
theorem dX10_name_16 : decode cX10_name 16 = .ok (.isub, 1) := dk_100 (dk_at dksX10_name_0 16 rfl rfl)
theorem dX10_name_17 : decode cX10_name 17 = .ok (.bipush 8, 2) := dk_16 8 (dk_at dksX10_name_0 17 rfl rfl)
theorem dX10_name_19 : decode cX10_name 19 = .ok (.if_icmp .gt 10, 3) := dk_163 0 10 (dk_at dksX10_name_0 19 rfl rfl)
theorem dX10_name_22 : decode cX10_name 22 = .ok (.aload_n 0, 1) := dk_42 (dk_at dksX10_name_0 22 rfl rfl)
theorem dX10_name_23 : decode cX10_name 23 = .ok (.invokevirtual 134, 3) := dk_182 0 134 (dk_at dksX10_name_1 0 rfl rfl)
theorem dX10_name_26 : decode cX10_name 26 = .ok (.ifCond .eq 8, 3) := dk_153 0 8 (dk_at dksX10_name_1 3 rfl rfl)
theorem dX10_name_29 : decode cX10_name 29 = .ok (.aload_n 0, 1) := dk_42 (dk_at dksX10_name_1 6 rfl rfl)
theorem dX10_name_30 : decode cX10_name 30 = .ok (.invokevirtual 64, 3) := dk_182 0 64 (dk_at dksX10_name_1 7 rfl rfl)
theorem dX10_name_33 : decode cX10_name 33 = .ok (.athrow, 1) := dk_191 (dk_at dksX10_name_1 10 rfl rfl)
theorem dX10_name_34 : decode cX10_name 34 = .ok (.lconst 0, 1) := dk_9 (dk_at dksX10_name_1 11 rfl rfl)
theorem dX10_name_35 : decode cX10_name 35 = .ok (.lstore_n 1, 1) := dk_64 (dk_at dksX10_name_1 12 rfl rfl)
theorem dX10_name_36 : decode cX10_name 36 = .ok (.aload_n 0, 1) := dk_42 (dk_at dksX10_name_1 13 rfl rfl)
theorem dX10_name_37 : decode cX10_name 37 = .ok (.getfield 29, 3) := dk_180 0 29 (dk_at dksX10_name_1 14 rfl rfl)
theorem dX10_name_40 : decode cX10_name 40 = .ok (.istore_n 3, 1) := dk_62 (dk_at dksX10_name_1 17 rfl rfl)
theorem dX10_name_41 : decode cX10_name 41 = .ok (.iload_n 3, 1) := dk_29 (dk_at dksX10_name_1 18 rfl rfl)
theorem dX10_name_42 : decode cX10_name 42 = .ok (.aload_n 0, 1) := dk_42 (dk_at dksX10_name_1 19 rfl rfl)
theorem dX10_name_43 : decode cX10_name 43 = .ok (.getfield 26, 3) := dk_180 0 26 (dk_at dksX10_name_1 20 rfl rfl)
theorem dX10_name_46 : decode cX10_name 46 = .ok (.if_icmp .ge 30, 3) := dk_162 0 30 (dk_at dksX10_name_2 0 rfl rfl)
theorem dX10_name_49 : decode cX10_name 49 = .ok (.lload_n 1, 1) := dk_31 (dk_at dksX10_name_2 3 rfl rfl)
theorem dX10_name_50 : decode cX10_name 50 = .ok (.ldc2_w 138, 3) := dk_20 0 138 (dk_at dksX10_name_2 4 rfl rfl)
theorem dX10_name_53 : decode cX10_name 53 = .ok (.lmul, 1) := dk_105 (dk_at dksX10_name_2 7 rfl rfl)
theorem dX10_name_54 : decode cX10_name 54 = .ok (.aload_n 0, 1) := dk_42 (dk_at dksX10_name_2 8 rfl rfl)
theorem dX10_name_55 : decode cX10_name 55 = .ok (.getfield 3, 3) := dk_180 0 3 (dk_at dksX10_name_2 9 rfl rfl)
theorem dX10_name_58 : decode cX10_name 58 = .ok (.getfield 22, 3) := dk_180 0 22 (dk_at dksX10_name_2 12 rfl rfl)
theorem dX10_name_61 : decode cX10_name 61 = .ok (.iload_n 3, 1) := dk_29 (dk_at dksX10_name_2 15 rfl rfl)
theorem dX10_name_62 : decode cX10_name 62 = .ok (.baload, 1) := dk_51 (dk_at dksX10_name_2 16 rfl rfl)
theorem dX10_name_63 : decode cX10_name 63 = .ok (.i2l, 1) := dk_133 (dk_at dksX10_name_2 17 rfl rfl)
theorem dX10_name_64 : decode cX10_name 64 = .ok (.ladd, 1) := dk_97 (dk_at dksX10_name_2 18 rfl rfl)
theorem dX10_name_65 : decode cX10_name 65 = .ok (.ldc2_w 140, 3) := dk_20 0 140 (dk_at dksX10_name_2 19 rfl rfl)
theorem dX10_name_68 : decode cX10_name 68 = .ok (.lsub, 1) := dk_101 (dk_at dksX10_name_2 22 rfl rfl)
theorem dX10_name_69 : decode cX10_name 69 = .ok (.lstore_n 1, 1) := dk_64 (dk_at dksX10_name_2 23 rfl rfl)
theorem dX10_name_70 : decode cX10_name 70 = .ok (.iinc 3 1, 3) := dk_132 3 1 (dk_at dksX10_name_3 0 rfl rfl)
theorem dX10_name_73 : decode cX10_name 73 = .ok (.goto (-32), 3) := dk_167 255 224 (dk_at dksX10_name_3 3 rfl rfl)
theorem dX10_name_76 : decode cX10_name 76 = .ok (.lload_n 1, 1) := dk_31 (dk_at dksX10_name_3 6 rfl rfl)
theorem dX10_name_77 : decode cX10_name 77 = .ok (.lreturn, 1) := dk_173 (dk_at dksX10_name_3 7 rfl rfl)
abbrev cX10_isKept : ByteArray := prog_11_method_11_code
def yX10_isKept : MethodName := ⟨RX10, "isKept", "()Z"⟩
def dkwX10_isKept_12 : List UInt8 := [182, 0, 68, 154, 0, 12, 42, 18, 132, 182, 0, 68, 153, 0, 7, 4, 167, 0, 4, 3, 172]
abbrev dktX10_isKept_12 : List UInt8 := dkwX10_isKept_12 ++ []
def dkwX10_isKept_11 : List UInt8 := [154, 0, 39, 42, 18, 126, 182, 0, 68, 154, 0, 30, 42, 18, 128, 182, 0, 68, 154, 0, 21, 42, 18, 130]
abbrev dktX10_isKept_11 : List UInt8 := dkwX10_isKept_11 ++ dktX10_isKept_12
def dkwX10_isKept_10 : List UInt8 := [154, 0, 61, 29, 154, 0, 57, 42, 18, 122, 182, 0, 68, 154, 0, 48, 42, 18, 124, 182, 0, 68]
abbrev dktX10_isKept_10 : List UInt8 := dkwX10_isKept_10 ++ dktX10_isKept_11
def dkwX10_isKept_9 : List UInt8 := [154, 0, 12, 42, 18, 120, 182, 0, 68, 153, 0, 7, 4, 167, 0, 4, 3, 62, 27, 154, 0, 65, 28]
abbrev dktX10_isKept_9 : List UInt8 := dkwX10_isKept_9 ++ dktX10_isKept_10
def dkwX10_isKept_8 : List UInt8 := [42, 18, 114, 182, 0, 68, 154, 0, 30, 42, 18, 116, 182, 0, 68, 154, 0, 21, 42, 18, 118, 182, 0, 68]
abbrev dktX10_isKept_8 : List UInt8 := dkwX10_isKept_8 ++ dktX10_isKept_9
def dkwX10_isKept_7 : List UInt8 := [182, 0, 68, 154, 0, 57, 42, 18, 110, 182, 0, 68, 154, 0, 48, 42, 18, 112, 182, 0, 68, 154, 0, 39]
abbrev dktX10_isKept_7 : List UInt8 := dkwX10_isKept_7 ++ dktX10_isKept_8
def dkwX10_isKept_6 : List UInt8 := [182, 0, 68, 153, 0, 7, 4, 167, 0, 4, 3, 61, 42, 18, 106, 182, 0, 68, 154, 0, 66, 42, 18, 108]
abbrev dktX10_isKept_6 : List UInt8 := dkwX10_isKept_6 ++ dktX10_isKept_7
def dkwX10_isKept_5 : List UInt8 := [154, 0, 30, 42, 18, 101, 182, 0, 68, 154, 0, 21, 42, 18, 102, 182, 0, 68, 154, 0, 12, 42, 18, 104]
abbrev dktX10_isKept_5 : List UInt8 := dkwX10_isKept_5 ++ dktX10_isKept_6
def dkwX10_isKept_4 : List UInt8 := [42, 18, 95, 182, 0, 68, 154, 0, 48, 42, 18, 97, 182, 0, 68, 154, 0, 39, 42, 18, 99, 182, 0, 68]
abbrev dktX10_isKept_4 : List UInt8 := dkwX10_isKept_4 ++ dktX10_isKept_5
def dkwX10_isKept_3 : List UInt8 := [4, 167, 0, 4, 3, 60, 42, 18, 91, 182, 0, 68, 154, 0, 66, 42, 18, 93, 182, 0, 68, 154, 0, 57]
abbrev dktX10_isKept_3 : List UInt8 := dkwX10_isKept_3 ++ dktX10_isKept_4
def dkwX10_isKept_2 : List UInt8 := [182, 0, 68, 154, 0, 21, 42, 18, 87, 182, 0, 68, 154, 0, 12, 42, 18, 89, 182, 0, 68, 153, 0, 7]
abbrev dktX10_isKept_2 : List UInt8 := dkwX10_isKept_2 ++ dktX10_isKept_3
def dkwX10_isKept_1 : List UInt8 := [154, 0, 48, 42, 18, 81, 182, 0, 68, 154, 0, 39, 42, 18, 83, 182, 0, 68, 154, 0, 30, 42, 18, 85]
abbrev dktX10_isKept_1 : List UInt8 := dkwX10_isKept_1 ++ dktX10_isKept_2
def dkwX10_isKept_0 : List UInt8 := [42, 18, 75, 182, 0, 68, 154, 0, 66, 42, 18, 77, 182, 0, 68, 154, 0, 57, 42, 18, 79, 182, 0, 68]
abbrev dktX10_isKept_0 : List UInt8 := dkwX10_isKept_0 ++ dktX10_isKept_1
theorem dksX10_isKept_0 : cX10_isKept.data.toList.drop 0 = dktX10_isKept_0 := by decide +kernel
theorem dksX10_isKept_1 : cX10_isKept.data.toList.drop 24 = dktX10_isKept_1 := dk_seg dksX10_isKept_0 24 rfl rfl
theorem dksX10_isKept_2 : cX10_isKept.data.toList.drop 48 = dktX10_isKept_2 := dk_seg dksX10_isKept_1 24 rfl rfl
theorem dksX10_isKept_3 : cX10_isKept.data.toList.drop 72 = dktX10_isKept_3 := dk_seg dksX10_isKept_2 24 rfl rfl
theorem dksX10_isKept_4 : cX10_isKept.data.toList.drop 96 = dktX10_isKept_4 := dk_seg dksX10_isKept_3 24 rfl rfl
theorem dksX10_isKept_5 : cX10_isKept.data.toList.drop 120 = dktX10_isKept_5 := dk_seg dksX10_isKept_4 24 rfl rfl
theorem dksX10_isKept_6 : cX10_isKept.data.toList.drop 144 = dktX10_isKept_6 := dk_seg dksX10_isKept_5 24 rfl rfl
theorem dksX10_isKept_7 : cX10_isKept.data.toList.drop 168 = dktX10_isKept_7 := dk_seg dksX10_isKept_6 24 rfl rfl
theorem dksX10_isKept_8 : cX10_isKept.data.toList.drop 192 = dktX10_isKept_8 := dk_seg dksX10_isKept_7 24 rfl rfl
theorem dksX10_isKept_9 : cX10_isKept.data.toList.drop 216 = dktX10_isKept_9 := dk_seg dksX10_isKept_8 24 rfl rfl
theorem dksX10_isKept_10 : cX10_isKept.data.toList.drop 239 = dktX10_isKept_10 := dk_seg dksX10_isKept_9 23 rfl rfl
theorem dksX10_isKept_11 : cX10_isKept.data.toList.drop 261 = dktX10_isKept_11 := dk_seg dksX10_isKept_10 22 rfl rfl
theorem dksX10_isKept_12 : cX10_isKept.data.toList.drop 285 = dktX10_isKept_12 := dk_seg dksX10_isKept_11 24 rfl rfl
theorem dX10_isKept_0 : decode cX10_isKept 0 = .ok (.aload_n 0, 1) := dk_42 (dk_at dksX10_isKept_0 0 rfl rfl)
theorem dX10_isKept_1 : decode cX10_isKept 1 = .ok (.ldc 75, 2) := dk_18 75 (dk_at dksX10_isKept_0 1 rfl rfl)
theorem dX10_isKept_3 : decode cX10_isKept 3 = .ok (.invokevirtual 68, 3) := dk_182 0 68 (dk_at dksX10_isKept_0 3 rfl rfl)
theorem dX10_isKept_6 : decode cX10_isKept 6 = .ok (.ifCond .ne 66, 3) := dk_154 0 66 (dk_at dksX10_isKept_0 6 rfl rfl)
theorem dX10_isKept_9 : decode cX10_isKept 9 = .ok (.aload_n 0, 1) := dk_42 (dk_at dksX10_isKept_0 9 rfl rfl)
theorem dX10_isKept_10 : decode cX10_isKept 10 = .ok (.ldc 77, 2) := dk_18 77 (dk_at dksX10_isKept_0 10 rfl rfl)
theorem dX10_isKept_12 : decode cX10_isKept 12 = .ok (.invokevirtual 68, 3) := dk_182 0 68 (dk_at dksX10_isKept_0 12 rfl rfl)
theorem dX10_isKept_15 : decode cX10_isKept 15 = .ok (.ifCond .ne 57, 3) := dk_154 0 57 (dk_at dksX10_isKept_0 15 rfl rfl)
theorem dX10_isKept_18 : decode cX10_isKept 18 = .ok (.aload_n 0, 1) := dk_42 (dk_at dksX10_isKept_0 18 rfl rfl)
theorem dX10_isKept_19 : decode cX10_isKept 19 = .ok (.ldc 79, 2) := dk_18 79 (dk_at dksX10_isKept_0 19 rfl rfl)
theorem dX10_isKept_21 : decode cX10_isKept 21 = .ok (.invokevirtual 68, 3) := dk_182 0 68 (dk_at dksX10_isKept_0 21 rfl rfl)
theorem dX10_isKept_24 : decode cX10_isKept 24 = .ok (.ifCond .ne 48, 3) := dk_154 0 48 (dk_at dksX10_isKept_1 0 rfl rfl)
theorem dX10_isKept_27 : decode cX10_isKept 27 = .ok (.aload_n 0, 1) := dk_42 (dk_at dksX10_isKept_1 3 rfl rfl)
theorem dX10_isKept_28 : decode cX10_isKept 28 = .ok (.ldc 81, 2) := dk_18 81 (dk_at dksX10_isKept_1 4 rfl rfl)
theorem dX10_isKept_30 : decode cX10_isKept 30 = .ok (.invokevirtual 68, 3) := dk_182 0 68 (dk_at dksX10_isKept_1 6 rfl rfl)
theorem dX10_isKept_33 : decode cX10_isKept 33 = .ok (.ifCond .ne 39, 3) := dk_154 0 39 (dk_at dksX10_isKept_1 9 rfl rfl)
theorem dX10_isKept_36 : decode cX10_isKept 36 = .ok (.aload_n 0, 1) := dk_42 (dk_at dksX10_isKept_1 12 rfl rfl)
theorem dX10_isKept_37 : decode cX10_isKept 37 = .ok (.ldc 83, 2) := dk_18 83 (dk_at dksX10_isKept_1 13 rfl rfl)
theorem dX10_isKept_39 : decode cX10_isKept 39 = .ok (.invokevirtual 68, 3) := dk_182 0 68 (dk_at dksX10_isKept_1 15 rfl rfl)
theorem dX10_isKept_42 : decode cX10_isKept 42 = .ok (.ifCond .ne 30, 3) := dk_154 0 30 (dk_at dksX10_isKept_1 18 rfl rfl)
theorem dX10_isKept_45 : decode cX10_isKept 45 = .ok (.aload_n 0, 1) := dk_42 (dk_at dksX10_isKept_1 21 rfl rfl)
theorem dX10_isKept_46 : decode cX10_isKept 46 = .ok (.ldc 85, 2) := dk_18 85 (dk_at dksX10_isKept_1 22 rfl rfl)
theorem dX10_isKept_48 : decode cX10_isKept 48 = .ok (.invokevirtual 68, 3) := dk_182 0 68 (dk_at dksX10_isKept_2 0 rfl rfl)
theorem dX10_isKept_51 : decode cX10_isKept 51 = .ok (.ifCond .ne 21, 3) := dk_154 0 21 (dk_at dksX10_isKept_2 3 rfl rfl)
theorem dX10_isKept_54 : decode cX10_isKept 54 = .ok (.aload_n 0, 1) := dk_42 (dk_at dksX10_isKept_2 6 rfl rfl)
theorem dX10_isKept_55 : decode cX10_isKept 55 = .ok (.ldc 87, 2) := dk_18 87 (dk_at dksX10_isKept_2 7 rfl rfl)
theorem dX10_isKept_57 : decode cX10_isKept 57 = .ok (.invokevirtual 68, 3) := dk_182 0 68 (dk_at dksX10_isKept_2 9 rfl rfl)
theorem dX10_isKept_60 : decode cX10_isKept 60 = .ok (.ifCond .ne 12, 3) := dk_154 0 12 (dk_at dksX10_isKept_2 12 rfl rfl)
theorem dX10_isKept_63 : decode cX10_isKept 63 = .ok (.aload_n 0, 1) := dk_42 (dk_at dksX10_isKept_2 15 rfl rfl)
theorem dX10_isKept_64 : decode cX10_isKept 64 = .ok (.ldc 89, 2) := dk_18 89 (dk_at dksX10_isKept_2 16 rfl rfl)
theorem dX10_isKept_66 : decode cX10_isKept 66 = .ok (.invokevirtual 68, 3) := dk_182 0 68 (dk_at dksX10_isKept_2 18 rfl rfl)
theorem dX10_isKept_69 : decode cX10_isKept 69 = .ok (.ifCond .eq 7, 3) := dk_153 0 7 (dk_at dksX10_isKept_2 21 rfl rfl)
theorem dX10_isKept_72 : decode cX10_isKept 72 = .ok (.iconst 1, 1) := dk_4 (dk_at dksX10_isKept_3 0 rfl rfl)
theorem dX10_isKept_73 : decode cX10_isKept 73 = .ok (.goto 4, 3) := dk_167 0 4 (dk_at dksX10_isKept_3 1 rfl rfl)
theorem dX10_isKept_76 : decode cX10_isKept 76 = .ok (.iconst 0, 1) := dk_3 (dk_at dksX10_isKept_3 4 rfl rfl)
theorem dX10_isKept_77 : decode cX10_isKept 77 = .ok (.istore_n 1, 1) := dk_60 (dk_at dksX10_isKept_3 5 rfl rfl)
theorem dX10_isKept_78 : decode cX10_isKept 78 = .ok (.aload_n 0, 1) := dk_42 (dk_at dksX10_isKept_3 6 rfl rfl)
theorem dX10_isKept_79 : decode cX10_isKept 79 = .ok (.ldc 91, 2) := dk_18 91 (dk_at dksX10_isKept_3 7 rfl rfl)
theorem dX10_isKept_81 : decode cX10_isKept 81 = .ok (.invokevirtual 68, 3) := dk_182 0 68 (dk_at dksX10_isKept_3 9 rfl rfl)
theorem dX10_isKept_84 : decode cX10_isKept 84 = .ok (.ifCond .ne 66, 3) := dk_154 0 66 (dk_at dksX10_isKept_3 12 rfl rfl)
theorem dX10_isKept_87 : decode cX10_isKept 87 = .ok (.aload_n 0, 1) := dk_42 (dk_at dksX10_isKept_3 15 rfl rfl)
theorem dX10_isKept_88 : decode cX10_isKept 88 = .ok (.ldc 93, 2) := dk_18 93 (dk_at dksX10_isKept_3 16 rfl rfl)
theorem dX10_isKept_90 : decode cX10_isKept 90 = .ok (.invokevirtual 68, 3) := dk_182 0 68 (dk_at dksX10_isKept_3 18 rfl rfl)
theorem dX10_isKept_93 : decode cX10_isKept 93 = .ok (.ifCond .ne 57, 3) := dk_154 0 57 (dk_at dksX10_isKept_3 21 rfl rfl)
theorem dX10_isKept_96 : decode cX10_isKept 96 = .ok (.aload_n 0, 1) := dk_42 (dk_at dksX10_isKept_4 0 rfl rfl)
theorem dX10_isKept_97 : decode cX10_isKept 97 = .ok (.ldc 95, 2) := dk_18 95 (dk_at dksX10_isKept_4 1 rfl rfl)
theorem dX10_isKept_99 : decode cX10_isKept 99 = .ok (.invokevirtual 68, 3) := dk_182 0 68 (dk_at dksX10_isKept_4 3 rfl rfl)
theorem dX10_isKept_102 : decode cX10_isKept 102 = .ok (.ifCond .ne 48, 3) := dk_154 0 48 (dk_at dksX10_isKept_4 6 rfl rfl)
theorem dX10_isKept_105 : decode cX10_isKept 105 = .ok (.aload_n 0, 1) := dk_42 (dk_at dksX10_isKept_4 9 rfl rfl)
theorem dX10_isKept_106 : decode cX10_isKept 106 = .ok (.ldc 97, 2) := dk_18 97 (dk_at dksX10_isKept_4 10 rfl rfl)
theorem dX10_isKept_108 : decode cX10_isKept 108 = .ok (.invokevirtual 68, 3) := dk_182 0 68 (dk_at dksX10_isKept_4 12 rfl rfl)
theorem dX10_isKept_111 : decode cX10_isKept 111 = .ok (.ifCond .ne 39, 3) := dk_154 0 39 (dk_at dksX10_isKept_4 15 rfl rfl)
theorem dX10_isKept_114 : decode cX10_isKept 114 = .ok (.aload_n 0, 1) := dk_42 (dk_at dksX10_isKept_4 18 rfl rfl)
theorem dX10_isKept_115 : decode cX10_isKept 115 = .ok (.ldc 99, 2) := dk_18 99 (dk_at dksX10_isKept_4 19 rfl rfl)
theorem dX10_isKept_117 : decode cX10_isKept 117 = .ok (.invokevirtual 68, 3) := dk_182 0 68 (dk_at dksX10_isKept_4 21 rfl rfl)
theorem dX10_isKept_120 : decode cX10_isKept 120 = .ok (.ifCond .ne 30, 3) := dk_154 0 30 (dk_at dksX10_isKept_5 0 rfl rfl)
theorem dX10_isKept_123 : decode cX10_isKept 123 = .ok (.aload_n 0, 1) := dk_42 (dk_at dksX10_isKept_5 3 rfl rfl)
theorem dX10_isKept_124 : decode cX10_isKept 124 = .ok (.ldc 101, 2) := dk_18 101 (dk_at dksX10_isKept_5 4 rfl rfl)
theorem dX10_isKept_126 : decode cX10_isKept 126 = .ok (.invokevirtual 68, 3) := dk_182 0 68 (dk_at dksX10_isKept_5 6 rfl rfl)
theorem dX10_isKept_129 : decode cX10_isKept 129 = .ok (.ifCond .ne 21, 3) := dk_154 0 21 (dk_at dksX10_isKept_5 9 rfl rfl)
theorem dX10_isKept_132 : decode cX10_isKept 132 = .ok (.aload_n 0, 1) := dk_42 (dk_at dksX10_isKept_5 12 rfl rfl)
theorem dX10_isKept_133 : decode cX10_isKept 133 = .ok (.ldc 102, 2) := dk_18 102 (dk_at dksX10_isKept_5 13 rfl rfl)
theorem dX10_isKept_135 : decode cX10_isKept 135 = .ok (.invokevirtual 68, 3) := dk_182 0 68 (dk_at dksX10_isKept_5 15 rfl rfl)
theorem dX10_isKept_138 : decode cX10_isKept 138 = .ok (.ifCond .ne 12, 3) := dk_154 0 12 (dk_at dksX10_isKept_5 18 rfl rfl)
theorem dX10_isKept_141 : decode cX10_isKept 141 = .ok (.aload_n 0, 1) := dk_42 (dk_at dksX10_isKept_5 21 rfl rfl)
theorem dX10_isKept_142 : decode cX10_isKept 142 = .ok (.ldc 104, 2) := dk_18 104 (dk_at dksX10_isKept_5 22 rfl rfl)
theorem dX10_isKept_144 : decode cX10_isKept 144 = .ok (.invokevirtual 68, 3) := dk_182 0 68 (dk_at dksX10_isKept_6 0 rfl rfl)
theorem dX10_isKept_147 : decode cX10_isKept 147 = .ok (.ifCond .eq 7, 3) := dk_153 0 7 (dk_at dksX10_isKept_6 3 rfl rfl)
theorem dX10_isKept_150 : decode cX10_isKept 150 = .ok (.iconst 1, 1) := dk_4 (dk_at dksX10_isKept_6 6 rfl rfl)
theorem dX10_isKept_151 : decode cX10_isKept 151 = .ok (.goto 4, 3) := dk_167 0 4 (dk_at dksX10_isKept_6 7 rfl rfl)
theorem dX10_isKept_154 : decode cX10_isKept 154 = .ok (.iconst 0, 1) := dk_3 (dk_at dksX10_isKept_6 10 rfl rfl)
theorem dX10_isKept_155 : decode cX10_isKept 155 = .ok (.istore_n 2, 1) := dk_61 (dk_at dksX10_isKept_6 11 rfl rfl)
theorem dX10_isKept_156 : decode cX10_isKept 156 = .ok (.aload_n 0, 1) := dk_42 (dk_at dksX10_isKept_6 12 rfl rfl)
theorem dX10_isKept_157 : decode cX10_isKept 157 = .ok (.ldc 106, 2) := dk_18 106 (dk_at dksX10_isKept_6 13 rfl rfl)
theorem dX10_isKept_159 : decode cX10_isKept 159 = .ok (.invokevirtual 68, 3) := dk_182 0 68 (dk_at dksX10_isKept_6 15 rfl rfl)
theorem dX10_isKept_162 : decode cX10_isKept 162 = .ok (.ifCond .ne 66, 3) := dk_154 0 66 (dk_at dksX10_isKept_6 18 rfl rfl)
theorem dX10_isKept_165 : decode cX10_isKept 165 = .ok (.aload_n 0, 1) := dk_42 (dk_at dksX10_isKept_6 21 rfl rfl)
theorem dX10_isKept_166 : decode cX10_isKept 166 = .ok (.ldc 108, 2) := dk_18 108 (dk_at dksX10_isKept_6 22 rfl rfl)
theorem dX10_isKept_168 : decode cX10_isKept 168 = .ok (.invokevirtual 68, 3) := dk_182 0 68 (dk_at dksX10_isKept_7 0 rfl rfl)
theorem dX10_isKept_171 : decode cX10_isKept 171 = .ok (.ifCond .ne 57, 3) := dk_154 0 57 (dk_at dksX10_isKept_7 3 rfl rfl)
theorem dX10_isKept_174 : decode cX10_isKept 174 = .ok (.aload_n 0, 1) := dk_42 (dk_at dksX10_isKept_7 6 rfl rfl)
theorem dX10_isKept_175 : decode cX10_isKept 175 = .ok (.ldc 110, 2) := dk_18 110 (dk_at dksX10_isKept_7 7 rfl rfl)
theorem dX10_isKept_177 : decode cX10_isKept 177 = .ok (.invokevirtual 68, 3) := dk_182 0 68 (dk_at dksX10_isKept_7 9 rfl rfl)
theorem dX10_isKept_180 : decode cX10_isKept 180 = .ok (.ifCond .ne 48, 3) := dk_154 0 48 (dk_at dksX10_isKept_7 12 rfl rfl)
theorem dX10_isKept_183 : decode cX10_isKept 183 = .ok (.aload_n 0, 1) := dk_42 (dk_at dksX10_isKept_7 15 rfl rfl)
theorem dX10_isKept_184 : decode cX10_isKept 184 = .ok (.ldc 112, 2) := dk_18 112 (dk_at dksX10_isKept_7 16 rfl rfl)
theorem dX10_isKept_186 : decode cX10_isKept 186 = .ok (.invokevirtual 68, 3) := dk_182 0 68 (dk_at dksX10_isKept_7 18 rfl rfl)
theorem dX10_isKept_189 : decode cX10_isKept 189 = .ok (.ifCond .ne 39, 3) := dk_154 0 39 (dk_at dksX10_isKept_7 21 rfl rfl)
theorem dX10_isKept_192 : decode cX10_isKept 192 = .ok (.aload_n 0, 1) := dk_42 (dk_at dksX10_isKept_8 0 rfl rfl)
theorem dX10_isKept_193 : decode cX10_isKept 193 = .ok (.ldc 114, 2) := dk_18 114 (dk_at dksX10_isKept_8 1 rfl rfl)
theorem dX10_isKept_195 : decode cX10_isKept 195 = .ok (.invokevirtual 68, 3) := dk_182 0 68 (dk_at dksX10_isKept_8 3 rfl rfl)
theorem dX10_isKept_198 : decode cX10_isKept 198 = .ok (.ifCond .ne 30, 3) := dk_154 0 30 (dk_at dksX10_isKept_8 6 rfl rfl)
theorem dX10_isKept_201 : decode cX10_isKept 201 = .ok (.aload_n 0, 1) := dk_42 (dk_at dksX10_isKept_8 9 rfl rfl)
theorem dX10_isKept_202 : decode cX10_isKept 202 = .ok (.ldc 116, 2) := dk_18 116 (dk_at dksX10_isKept_8 10 rfl rfl)
theorem dX10_isKept_204 : decode cX10_isKept 204 = .ok (.invokevirtual 68, 3) := dk_182 0 68 (dk_at dksX10_isKept_8 12 rfl rfl)
theorem dX10_isKept_207 : decode cX10_isKept 207 = .ok (.ifCond .ne 21, 3) := dk_154 0 21 (dk_at dksX10_isKept_8 15 rfl rfl)
theorem dX10_isKept_210 : decode cX10_isKept 210 = .ok (.aload_n 0, 1) := dk_42 (dk_at dksX10_isKept_8 18 rfl rfl)
theorem dX10_isKept_211 : decode cX10_isKept 211 = .ok (.ldc 118, 2) := dk_18 118 (dk_at dksX10_isKept_8 19 rfl rfl)
theorem dX10_isKept_213 : decode cX10_isKept 213 = .ok (.invokevirtual 68, 3) := dk_182 0 68 (dk_at dksX10_isKept_8 21 rfl rfl)
theorem dX10_isKept_216 : decode cX10_isKept 216 = .ok (.ifCond .ne 12, 3) := dk_154 0 12 (dk_at dksX10_isKept_9 0 rfl rfl)
theorem dX10_isKept_219 : decode cX10_isKept 219 = .ok (.aload_n 0, 1) := dk_42 (dk_at dksX10_isKept_9 3 rfl rfl)
theorem dX10_isKept_220 : decode cX10_isKept 220 = .ok (.ldc 120, 2) := dk_18 120 (dk_at dksX10_isKept_9 4 rfl rfl)
theorem dX10_isKept_222 : decode cX10_isKept 222 = .ok (.invokevirtual 68, 3) := dk_182 0 68 (dk_at dksX10_isKept_9 6 rfl rfl)
theorem dX10_isKept_225 : decode cX10_isKept 225 = .ok (.ifCond .eq 7, 3) := dk_153 0 7 (dk_at dksX10_isKept_9 9 rfl rfl)
theorem dX10_isKept_228 : decode cX10_isKept 228 = .ok (.iconst 1, 1) := dk_4 (dk_at dksX10_isKept_9 12 rfl rfl)
theorem dX10_isKept_229 : decode cX10_isKept 229 = .ok (.goto 4, 3) := dk_167 0 4 (dk_at dksX10_isKept_9 13 rfl rfl)
theorem dX10_isKept_232 : decode cX10_isKept 232 = .ok (.iconst 0, 1) := dk_3 (dk_at dksX10_isKept_9 16 rfl rfl)
theorem dX10_isKept_233 : decode cX10_isKept 233 = .ok (.istore_n 3, 1) := dk_62 (dk_at dksX10_isKept_9 17 rfl rfl)
theorem dX10_isKept_234 : decode cX10_isKept 234 = .ok (.iload_n 1, 1) := dk_27 (dk_at dksX10_isKept_9 18 rfl rfl)
theorem dX10_isKept_235 : decode cX10_isKept 235 = .ok (.ifCond .ne 65, 3) := dk_154 0 65 (dk_at dksX10_isKept_9 19 rfl rfl)
theorem dX10_isKept_238 : decode cX10_isKept 238 = .ok (.iload_n 2, 1) := dk_28 (dk_at dksX10_isKept_9 22 rfl rfl)
theorem dX10_isKept_239 : decode cX10_isKept 239 = .ok (.ifCond .ne 61, 3) := dk_154 0 61 (dk_at dksX10_isKept_10 0 rfl rfl)
theorem dX10_isKept_242 : decode cX10_isKept 242 = .ok (.iload_n 3, 1) := dk_29 (dk_at dksX10_isKept_10 3 rfl rfl)
theorem dX10_isKept_243 : decode cX10_isKept 243 = .ok (.ifCond .ne 57, 3) := dk_154 0 57 (dk_at dksX10_isKept_10 4 rfl rfl)
theorem dX10_isKept_246 : decode cX10_isKept 246 = .ok (.aload_n 0, 1) := dk_42 (dk_at dksX10_isKept_10 7 rfl rfl)
theorem dX10_isKept_247 : decode cX10_isKept 247 = .ok (.ldc 122, 2) := dk_18 122 (dk_at dksX10_isKept_10 8 rfl rfl)
theorem dX10_isKept_249 : decode cX10_isKept 249 = .ok (.invokevirtual 68, 3) := dk_182 0 68 (dk_at dksX10_isKept_10 10 rfl rfl)
theorem dX10_isKept_252 : decode cX10_isKept 252 = .ok (.ifCond .ne 48, 3) := dk_154 0 48 (dk_at dksX10_isKept_10 13 rfl rfl)
theorem dX10_isKept_255 : decode cX10_isKept 255 = .ok (.aload_n 0, 1) := dk_42 (dk_at dksX10_isKept_10 16 rfl rfl)
theorem dX10_isKept_256 : decode cX10_isKept 256 = .ok (.ldc 124, 2) := dk_18 124 (dk_at dksX10_isKept_10 17 rfl rfl)
theorem dX10_isKept_258 : decode cX10_isKept 258 = .ok (.invokevirtual 68, 3) := dk_182 0 68 (dk_at dksX10_isKept_10 19 rfl rfl)
theorem dX10_isKept_261 : decode cX10_isKept 261 = .ok (.ifCond .ne 39, 3) := dk_154 0 39 (dk_at dksX10_isKept_11 0 rfl rfl)
theorem dX10_isKept_264 : decode cX10_isKept 264 = .ok (.aload_n 0, 1) := dk_42 (dk_at dksX10_isKept_11 3 rfl rfl)
theorem dX10_isKept_265 : decode cX10_isKept 265 = .ok (.ldc 126, 2) := dk_18 126 (dk_at dksX10_isKept_11 4 rfl rfl)
theorem dX10_isKept_267 : decode cX10_isKept 267 = .ok (.invokevirtual 68, 3) := dk_182 0 68 (dk_at dksX10_isKept_11 6 rfl rfl)
theorem dX10_isKept_270 : decode cX10_isKept 270 = .ok (.ifCond .ne 30, 3) := dk_154 0 30 (dk_at dksX10_isKept_11 9 rfl rfl)
theorem dX10_isKept_273 : decode cX10_isKept 273 = .ok (.aload_n 0, 1) := dk_42 (dk_at dksX10_isKept_11 12 rfl rfl)
theorem dX10_isKept_274 : decode cX10_isKept 274 = .ok (.ldc 128, 2) := dk_18 128 (dk_at dksX10_isKept_11 13 rfl rfl)
theorem dX10_isKept_276 : decode cX10_isKept 276 = .ok (.invokevirtual 68, 3) := dk_182 0 68 (dk_at dksX10_isKept_11 15 rfl rfl)
theorem dX10_isKept_279 : decode cX10_isKept 279 = .ok (.ifCond .ne 21, 3) := dk_154 0 21 (dk_at dksX10_isKept_11 18 rfl rfl)
theorem dX10_isKept_282 : decode cX10_isKept 282 = .ok (.aload_n 0, 1) := dk_42 (dk_at dksX10_isKept_11 21 rfl rfl)
theorem dX10_isKept_283 : decode cX10_isKept 283 = .ok (.ldc 130, 2) := dk_18 130 (dk_at dksX10_isKept_11 22 rfl rfl)
theorem dX10_isKept_285 : decode cX10_isKept 285 = .ok (.invokevirtual 68, 3) := dk_182 0 68 (dk_at dksX10_isKept_12 0 rfl rfl)
theorem dX10_isKept_288 : decode cX10_isKept 288 = .ok (.ifCond .ne 12, 3) := dk_154 0 12 (dk_at dksX10_isKept_12 3 rfl rfl)
theorem dX10_isKept_291 : decode cX10_isKept 291 = .ok (.aload_n 0, 1) := dk_42 (dk_at dksX10_isKept_12 6 rfl rfl)
theorem dX10_isKept_292 : decode cX10_isKept 292 = .ok (.ldc 132, 2) := dk_18 132 (dk_at dksX10_isKept_12 7 rfl rfl)
theorem dX10_isKept_294 : decode cX10_isKept 294 = .ok (.invokevirtual 68, 3) := dk_182 0 68 (dk_at dksX10_isKept_12 9 rfl rfl)
theorem dX10_isKept_297 : decode cX10_isKept 297 = .ok (.ifCond .eq 7, 3) := dk_153 0 7 (dk_at dksX10_isKept_12 12 rfl rfl)
theorem dX10_isKept_300 : decode cX10_isKept 300 = .ok (.iconst 1, 1) := dk_4 (dk_at dksX10_isKept_12 15 rfl rfl)
theorem dX10_isKept_301 : decode cX10_isKept 301 = .ok (.goto 4, 3) := dk_167 0 4 (dk_at dksX10_isKept_12 16 rfl rfl)
theorem dX10_isKept_304 : decode cX10_isKept 304 = .ok (.iconst 0, 1) := dk_3 (dk_at dksX10_isKept_12 19 rfl rfl)
theorem dX10_isKept_305 : decode cX10_isKept 305 = .ok (.ireturn, 1) := dk_172 (dk_at dksX10_isKept_12 20 rfl rfl)
abbrev cX10_wrong : ByteArray := prog_11_method_6_code
def yX10_wrong : MethodName := ⟨RX10, "wrong", "()LSillBridges$Bad;"⟩
def dkwX10_wrong_1 : List UInt8 := [182, 0, 59, 176]
abbrev dktX10_wrong_1 : List UInt8 := dkwX10_wrong_1 ++ []
def dkwX10_wrong_0 : List UInt8 := [42, 180, 0, 3, 180, 0, 55, 42, 180, 0, 32, 7, 160, 0, 7, 4, 167, 0, 4, 5, 42, 180, 0, 29]
abbrev dktX10_wrong_0 : List UInt8 := dkwX10_wrong_0 ++ dktX10_wrong_1
theorem dksX10_wrong_0 : cX10_wrong.data.toList.drop 0 = dktX10_wrong_0 := by decide +kernel
theorem dksX10_wrong_1 : cX10_wrong.data.toList.drop 24 = dktX10_wrong_1 := dk_seg dksX10_wrong_0 24 rfl rfl
theorem dX10_wrong_0 : decode cX10_wrong 0 = .ok (.aload_n 0, 1) := dk_42 (dk_at dksX10_wrong_0 0 rfl rfl)
theorem dX10_wrong_1 : decode cX10_wrong 1 = .ok (.getfield 3, 3) := dk_180 0 3 (dk_at dksX10_wrong_0 1 rfl rfl)
theorem dX10_wrong_4 : decode cX10_wrong 4 = .ok (.getfield 55, 3) := dk_180 0 55 (dk_at dksX10_wrong_0 4 rfl rfl)
theorem dX10_wrong_7 : decode cX10_wrong 7 = .ok (.aload_n 0, 1) := dk_42 (dk_at dksX10_wrong_0 7 rfl rfl)
theorem dX10_wrong_8 : decode cX10_wrong 8 = .ok (.getfield 32, 3) := dk_180 0 32 (dk_at dksX10_wrong_0 8 rfl rfl)
theorem dX10_wrong_11 : decode cX10_wrong 11 = .ok (.iconst 4, 1) := dk_7 (dk_at dksX10_wrong_0 11 rfl rfl)
theorem dX10_wrong_12 : decode cX10_wrong 12 = .ok (.if_icmp .ne 7, 3) := dk_160 0 7 (dk_at dksX10_wrong_0 12 rfl rfl)
theorem dX10_wrong_15 : decode cX10_wrong 15 = .ok (.iconst 1, 1) := dk_4 (dk_at dksX10_wrong_0 15 rfl rfl)
theorem dX10_wrong_16 : decode cX10_wrong 16 = .ok (.goto 4, 3) := dk_167 0 4 (dk_at dksX10_wrong_0 16 rfl rfl)
theorem dX10_wrong_19 : decode cX10_wrong 19 = .ok (.iconst 2, 1) := dk_5 (dk_at dksX10_wrong_0 19 rfl rfl)
theorem dX10_wrong_20 : decode cX10_wrong 20 = .ok (.aload_n 0, 1) := dk_42 (dk_at dksX10_wrong_0 20 rfl rfl)
theorem dX10_wrong_21 : decode cX10_wrong 21 = .ok (.getfield 29, 3) := dk_180 0 29 (dk_at dksX10_wrong_0 21 rfl rfl)
theorem dX10_wrong_24 : decode cX10_wrong 24 = .ok (.invokevirtual 59, 3) := dk_182 0 59 (dk_at dksX10_wrong_1 0 rfl rfl)
theorem dX10_wrong_27 : decode cX10_wrong 27 = .ok (.areturn, 1) := dk_176 (dk_at dksX10_wrong_1 3 rfl rfl)
abbrev cX10_newBridge : ByteArray := prog_11_method_21_code
def yX10_newBridge : MethodName := ⟨RX10, "newBridge", "(LSillBridges$Town;)V"⟩
def dkwX10_newBridge_9 : List UInt8 := [43, 180, 0, 228, 43, 180, 0, 199, 25, 8, 83, 43, 89, 180, 0, 199, 4, 96, 181, 0, 199, 177]
abbrev dktX10_newBridge_9 : List UInt8 := dkwX10_newBridge_9 ++ []
def dkwX10_newBridge_8 : List UInt8 := [16, 99, 4, 182, 0, 214, 181, 0, 224, 25, 8, 42, 18, 95, 3, 16, 15, 3, 182, 0, 214, 181, 0, 226]
abbrev dktX10_newBridge_8 : List UInt8 := dkwX10_newBridge_8 ++ dktX10_newBridge_9
def dkwX10_newBridge_7 : List UInt8 := [181, 0, 220, 25, 8, 42, 18, 91, 3, 16, 99, 3, 182, 0, 214, 181, 0, 222, 25, 8, 42, 18, 93, 4]
abbrev dktX10_newBridge_7 : List UInt8 := dkwX10_newBridge_7 ++ dktX10_newBridge_8
def dkwX10_newBridge_6 : List UInt8 := [4, 182, 0, 214, 181, 0, 218, 25, 8, 42, 18, 89, 3, 17, 39, 15, 17, 39, 15, 182, 0, 214]
abbrev dktX10_newBridge_6 : List UInt8 := dkwX10_newBridge_6 ++ dktX10_newBridge_7
def dkwX10_newBridge_5 : List UInt8 := [21, 6, 21, 7, 42, 3, 17, 3, 231, 182, 0, 72, 183, 0, 211, 58, 8, 25, 8, 42, 18, 87, 4, 6]
abbrev dktX10_newBridge_5 : List UInt8 := dkwX10_newBridge_5 ++ dktX10_newBridge_6
def dkwX10_newBridge_4 : List UInt8 := [182, 0, 202, 42, 43, 182, 0, 206, 54, 7, 42, 18, 85, 182, 0, 202, 187, 0, 209, 89, 32, 21, 4]
abbrev dktX10_newBridge_4 : List UInt8 := dkwX10_newBridge_4 ++ dktX10_newBridge_5
def dkwX10_newBridge_3 : List UInt8 := [21, 4, 21, 6, 160, 0, 17, 42, 180, 0, 3, 180, 0, 55, 8, 21, 5, 182, 0, 59, 191, 42, 18, 83]
abbrev dktX10_newBridge_3 : List UInt8 := dkwX10_newBridge_3 ++ dktX10_newBridge_4
def dkwX10_newBridge_2 : List UInt8 := [182, 0, 206, 54, 4, 42, 18, 81, 182, 0, 202, 42, 180, 0, 29, 54, 5, 42, 43, 182, 0, 206, 54, 6]
abbrev dktX10_newBridge_2 : List UInt8 := dkwX10_newBridge_2 ++ dktX10_newBridge_3
def dkwX10_newBridge_1 : List UInt8 := [182, 0, 59, 191, 42, 182, 0, 19, 42, 43, 182, 0, 195, 65, 42, 18, 79, 182, 0, 202, 42, 43]
abbrev dktX10_newBridge_1 : List UInt8 := dkwX10_newBridge_1 ++ dktX10_newBridge_2
def dkwX10_newBridge_0 : List UInt8 := [43, 180, 0, 199, 16, 8, 160, 0, 20, 42, 180, 0, 3, 180, 0, 55, 16, 6, 42, 180, 0, 29]
abbrev dktX10_newBridge_0 : List UInt8 := dkwX10_newBridge_0 ++ dktX10_newBridge_1
theorem dksX10_newBridge_0 : cX10_newBridge.data.toList.drop 0 = dktX10_newBridge_0 := by decide +kernel
theorem dksX10_newBridge_1 : cX10_newBridge.data.toList.drop 22 = dktX10_newBridge_1 := dk_seg dksX10_newBridge_0 22 rfl rfl
theorem dksX10_newBridge_2 : cX10_newBridge.data.toList.drop 44 = dktX10_newBridge_2 := dk_seg dksX10_newBridge_1 22 rfl rfl
theorem dksX10_newBridge_3 : cX10_newBridge.data.toList.drop 68 = dktX10_newBridge_3 := dk_seg dksX10_newBridge_2 24 rfl rfl
theorem dksX10_newBridge_4 : cX10_newBridge.data.toList.drop 92 = dktX10_newBridge_4 := dk_seg dksX10_newBridge_3 24 rfl rfl
theorem dksX10_newBridge_5 : cX10_newBridge.data.toList.drop 115 = dktX10_newBridge_5 := dk_seg dksX10_newBridge_4 23 rfl rfl
theorem dksX10_newBridge_6 : cX10_newBridge.data.toList.drop 139 = dktX10_newBridge_6 := dk_seg dksX10_newBridge_5 24 rfl rfl
theorem dksX10_newBridge_7 : cX10_newBridge.data.toList.drop 161 = dktX10_newBridge_7 := dk_seg dksX10_newBridge_6 22 rfl rfl
theorem dksX10_newBridge_8 : cX10_newBridge.data.toList.drop 185 = dktX10_newBridge_8 := dk_seg dksX10_newBridge_7 24 rfl rfl
theorem dksX10_newBridge_9 : cX10_newBridge.data.toList.drop 209 = dktX10_newBridge_9 := dk_seg dksX10_newBridge_8 24 rfl rfl
theorem dX10_newBridge_0 : decode cX10_newBridge 0 = .ok (.aload_n 1, 1) := dk_43 (dk_at dksX10_newBridge_0 0 rfl rfl)
theorem dX10_newBridge_1 : decode cX10_newBridge 1 = .ok (.getfield 199, 3) := dk_180 0 199 (dk_at dksX10_newBridge_0 1 rfl rfl)
theorem dX10_newBridge_4 : decode cX10_newBridge 4 = .ok (.bipush 8, 2) := dk_16 8 (dk_at dksX10_newBridge_0 4 rfl rfl)
theorem dX10_newBridge_6 : decode cX10_newBridge 6 = .ok (.if_icmp .ne 20, 3) := dk_160 0 20 (dk_at dksX10_newBridge_0 6 rfl rfl)
theorem dX10_newBridge_9 : decode cX10_newBridge 9 = .ok (.aload_n 0, 1) := dk_42 (dk_at dksX10_newBridge_0 9 rfl rfl)
theorem dX10_newBridge_10 : decode cX10_newBridge 10 = .ok (.getfield 3, 3) := dk_180 0 3 (dk_at dksX10_newBridge_0 10 rfl rfl)
theorem dX10_newBridge_13 : decode cX10_newBridge 13 = .ok (.getfield 55, 3) := dk_180 0 55 (dk_at dksX10_newBridge_0 13 rfl rfl)
theorem dX10_newBridge_16 : decode cX10_newBridge 16 = .ok (.bipush 6, 2) := dk_16 6 (dk_at dksX10_newBridge_0 16 rfl rfl)
theorem dX10_newBridge_18 : decode cX10_newBridge 18 = .ok (.aload_n 0, 1) := dk_42 (dk_at dksX10_newBridge_0 18 rfl rfl)
theorem dX10_newBridge_19 : decode cX10_newBridge 19 = .ok (.getfield 29, 3) := dk_180 0 29 (dk_at dksX10_newBridge_0 19 rfl rfl)
theorem dX10_newBridge_22 : decode cX10_newBridge 22 = .ok (.invokevirtual 59, 3) := dk_182 0 59 (dk_at dksX10_newBridge_1 0 rfl rfl)
theorem dX10_newBridge_25 : decode cX10_newBridge 25 = .ok (.athrow, 1) := dk_191 (dk_at dksX10_newBridge_1 3 rfl rfl)
theorem dX10_newBridge_26 : decode cX10_newBridge 26 = .ok (.aload_n 0, 1) := dk_42 (dk_at dksX10_newBridge_1 4 rfl rfl)
theorem dX10_newBridge_27 : decode cX10_newBridge 27 = .ok (.invokevirtual 19, 3) := dk_182 0 19 (dk_at dksX10_newBridge_1 5 rfl rfl)
theorem dX10_newBridge_30 : decode cX10_newBridge 30 = .ok (.aload_n 0, 1) := dk_42 (dk_at dksX10_newBridge_1 8 rfl rfl)
theorem dX10_newBridge_31 : decode cX10_newBridge 31 = .ok (.aload_n 1, 1) := dk_43 (dk_at dksX10_newBridge_1 9 rfl rfl)
theorem dX10_newBridge_32 : decode cX10_newBridge 32 = .ok (.invokevirtual 195, 3) := dk_182 0 195 (dk_at dksX10_newBridge_1 10 rfl rfl)
theorem dX10_newBridge_35 : decode cX10_newBridge 35 = .ok (.lstore_n 2, 1) := dk_65 (dk_at dksX10_newBridge_1 13 rfl rfl)
theorem dX10_newBridge_36 : decode cX10_newBridge 36 = .ok (.aload_n 0, 1) := dk_42 (dk_at dksX10_newBridge_1 14 rfl rfl)
theorem dX10_newBridge_37 : decode cX10_newBridge 37 = .ok (.ldc 79, 2) := dk_18 79 (dk_at dksX10_newBridge_1 15 rfl rfl)
theorem dX10_newBridge_39 : decode cX10_newBridge 39 = .ok (.invokevirtual 202, 3) := dk_182 0 202 (dk_at dksX10_newBridge_1 17 rfl rfl)
theorem dX10_newBridge_42 : decode cX10_newBridge 42 = .ok (.aload_n 0, 1) := dk_42 (dk_at dksX10_newBridge_1 20 rfl rfl)
theorem dX10_newBridge_43 : decode cX10_newBridge 43 = .ok (.aload_n 1, 1) := dk_43 (dk_at dksX10_newBridge_1 21 rfl rfl)
theorem dX10_newBridge_44 : decode cX10_newBridge 44 = .ok (.invokevirtual 206, 3) := dk_182 0 206 (dk_at dksX10_newBridge_2 0 rfl rfl)
theorem dX10_newBridge_47 : decode cX10_newBridge 47 = .ok (.istore 4, 2) := dk_54 4 (dk_at dksX10_newBridge_2 3 rfl rfl)
theorem dX10_newBridge_49 : decode cX10_newBridge 49 = .ok (.aload_n 0, 1) := dk_42 (dk_at dksX10_newBridge_2 5 rfl rfl)
theorem dX10_newBridge_50 : decode cX10_newBridge 50 = .ok (.ldc 81, 2) := dk_18 81 (dk_at dksX10_newBridge_2 6 rfl rfl)
theorem dX10_newBridge_52 : decode cX10_newBridge 52 = .ok (.invokevirtual 202, 3) := dk_182 0 202 (dk_at dksX10_newBridge_2 8 rfl rfl)
theorem dX10_newBridge_55 : decode cX10_newBridge 55 = .ok (.aload_n 0, 1) := dk_42 (dk_at dksX10_newBridge_2 11 rfl rfl)
theorem dX10_newBridge_56 : decode cX10_newBridge 56 = .ok (.getfield 29, 3) := dk_180 0 29 (dk_at dksX10_newBridge_2 12 rfl rfl)
theorem dX10_newBridge_59 : decode cX10_newBridge 59 = .ok (.istore 5, 2) := dk_54 5 (dk_at dksX10_newBridge_2 15 rfl rfl)
theorem dX10_newBridge_61 : decode cX10_newBridge 61 = .ok (.aload_n 0, 1) := dk_42 (dk_at dksX10_newBridge_2 17 rfl rfl)
theorem dX10_newBridge_62 : decode cX10_newBridge 62 = .ok (.aload_n 1, 1) := dk_43 (dk_at dksX10_newBridge_2 18 rfl rfl)
theorem dX10_newBridge_63 : decode cX10_newBridge 63 = .ok (.invokevirtual 206, 3) := dk_182 0 206 (dk_at dksX10_newBridge_2 19 rfl rfl)
theorem dX10_newBridge_66 : decode cX10_newBridge 66 = .ok (.istore 6, 2) := dk_54 6 (dk_at dksX10_newBridge_2 22 rfl rfl)
theorem dX10_newBridge_68 : decode cX10_newBridge 68 = .ok (.iload 4, 2) := dk_21 4 (dk_at dksX10_newBridge_3 0 rfl rfl)
theorem dX10_newBridge_70 : decode cX10_newBridge 70 = .ok (.iload 6, 2) := dk_21 6 (dk_at dksX10_newBridge_3 2 rfl rfl)
theorem dX10_newBridge_72 : decode cX10_newBridge 72 = .ok (.if_icmp .ne 17, 3) := dk_160 0 17 (dk_at dksX10_newBridge_3 4 rfl rfl)
theorem dX10_newBridge_75 : decode cX10_newBridge 75 = .ok (.aload_n 0, 1) := dk_42 (dk_at dksX10_newBridge_3 7 rfl rfl)
theorem dX10_newBridge_76 : decode cX10_newBridge 76 = .ok (.getfield 3, 3) := dk_180 0 3 (dk_at dksX10_newBridge_3 8 rfl rfl)
theorem dX10_newBridge_79 : decode cX10_newBridge 79 = .ok (.getfield 55, 3) := dk_180 0 55 (dk_at dksX10_newBridge_3 11 rfl rfl)
theorem dX10_newBridge_82 : decode cX10_newBridge 82 = .ok (.iconst 5, 1) := dk_8 (dk_at dksX10_newBridge_3 14 rfl rfl)
theorem dX10_newBridge_83 : decode cX10_newBridge 83 = .ok (.iload 5, 2) := dk_21 5 (dk_at dksX10_newBridge_3 15 rfl rfl)
theorem dX10_newBridge_85 : decode cX10_newBridge 85 = .ok (.invokevirtual 59, 3) := dk_182 0 59 (dk_at dksX10_newBridge_3 17 rfl rfl)
theorem dX10_newBridge_88 : decode cX10_newBridge 88 = .ok (.athrow, 1) := dk_191 (dk_at dksX10_newBridge_3 20 rfl rfl)
theorem dX10_newBridge_89 : decode cX10_newBridge 89 = .ok (.aload_n 0, 1) := dk_42 (dk_at dksX10_newBridge_3 21 rfl rfl)
theorem dX10_newBridge_90 : decode cX10_newBridge 90 = .ok (.ldc 83, 2) := dk_18 83 (dk_at dksX10_newBridge_3 22 rfl rfl)
theorem dX10_newBridge_92 : decode cX10_newBridge 92 = .ok (.invokevirtual 202, 3) := dk_182 0 202 (dk_at dksX10_newBridge_4 0 rfl rfl)
theorem dX10_newBridge_95 : decode cX10_newBridge 95 = .ok (.aload_n 0, 1) := dk_42 (dk_at dksX10_newBridge_4 3 rfl rfl)
theorem dX10_newBridge_96 : decode cX10_newBridge 96 = .ok (.aload_n 1, 1) := dk_43 (dk_at dksX10_newBridge_4 4 rfl rfl)
theorem dX10_newBridge_97 : decode cX10_newBridge 97 = .ok (.invokevirtual 206, 3) := dk_182 0 206 (dk_at dksX10_newBridge_4 5 rfl rfl)
theorem dX10_newBridge_100 : decode cX10_newBridge 100 = .ok (.istore 7, 2) := dk_54 7 (dk_at dksX10_newBridge_4 8 rfl rfl)
theorem dX10_newBridge_102 : decode cX10_newBridge 102 = .ok (.aload_n 0, 1) := dk_42 (dk_at dksX10_newBridge_4 10 rfl rfl)
theorem dX10_newBridge_103 : decode cX10_newBridge 103 = .ok (.ldc 85, 2) := dk_18 85 (dk_at dksX10_newBridge_4 11 rfl rfl)
theorem dX10_newBridge_105 : decode cX10_newBridge 105 = .ok (.invokevirtual 202, 3) := dk_182 0 202 (dk_at dksX10_newBridge_4 13 rfl rfl)
theorem dX10_newBridge_108 : decode cX10_newBridge 108 = .ok (.new 209, 3) := dk_187 0 209 (dk_at dksX10_newBridge_4 16 rfl rfl)
theorem dX10_newBridge_111 : decode cX10_newBridge 111 = .ok (.dup, 1) := dk_89 (dk_at dksX10_newBridge_4 19 rfl rfl)
theorem dX10_newBridge_112 : decode cX10_newBridge 112 = .ok (.lload_n 2, 1) := dk_32 (dk_at dksX10_newBridge_4 20 rfl rfl)
theorem dX10_newBridge_113 : decode cX10_newBridge 113 = .ok (.iload 4, 2) := dk_21 4 (dk_at dksX10_newBridge_4 21 rfl rfl)
theorem dX10_newBridge_115 : decode cX10_newBridge 115 = .ok (.iload 6, 2) := dk_21 6 (dk_at dksX10_newBridge_5 0 rfl rfl)
theorem dX10_newBridge_117 : decode cX10_newBridge 117 = .ok (.iload 7, 2) := dk_21 7 (dk_at dksX10_newBridge_5 2 rfl rfl)
theorem dX10_newBridge_119 : decode cX10_newBridge 119 = .ok (.aload_n 0, 1) := dk_42 (dk_at dksX10_newBridge_5 4 rfl rfl)
theorem dX10_newBridge_120 : decode cX10_newBridge 120 = .ok (.iconst 0, 1) := dk_3 (dk_at dksX10_newBridge_5 5 rfl rfl)
theorem dX10_newBridge_121 : decode cX10_newBridge 121 = .ok (.sipush 999, 3) := dk_17 3 231 (dk_at dksX10_newBridge_5 6 rfl rfl)
theorem dX10_newBridge_124 : decode cX10_newBridge 124 = .ok (.invokevirtual 72, 3) := dk_182 0 72 (dk_at dksX10_newBridge_5 9 rfl rfl)
theorem dX10_newBridge_127 : decode cX10_newBridge 127 = .ok (.invokespecial 211, 3) := dk_183 0 211 (dk_at dksX10_newBridge_5 12 rfl rfl)
theorem dX10_newBridge_130 : decode cX10_newBridge 130 = .ok (.astore 8, 2) := dk_58 8 (dk_at dksX10_newBridge_5 15 rfl rfl)
theorem dX10_newBridge_132 : decode cX10_newBridge 132 = .ok (.aload 8, 2) := dk_25 8 (dk_at dksX10_newBridge_5 17 rfl rfl)
theorem dX10_newBridge_134 : decode cX10_newBridge 134 = .ok (.aload_n 0, 1) := dk_42 (dk_at dksX10_newBridge_5 19 rfl rfl)
theorem dX10_newBridge_135 : decode cX10_newBridge 135 = .ok (.ldc 87, 2) := dk_18 87 (dk_at dksX10_newBridge_5 20 rfl rfl)
theorem dX10_newBridge_137 : decode cX10_newBridge 137 = .ok (.iconst 1, 1) := dk_4 (dk_at dksX10_newBridge_5 22 rfl rfl)
theorem dX10_newBridge_138 : decode cX10_newBridge 138 = .ok (.iconst 3, 1) := dk_6 (dk_at dksX10_newBridge_5 23 rfl rfl)
theorem dX10_newBridge_139 : decode cX10_newBridge 139 = .ok (.iconst 1, 1) := dk_4 (dk_at dksX10_newBridge_6 0 rfl rfl)
theorem dX10_newBridge_140 : decode cX10_newBridge 140 = .ok (.invokevirtual 214, 3) := dk_182 0 214 (dk_at dksX10_newBridge_6 1 rfl rfl)
theorem dX10_newBridge_143 : decode cX10_newBridge 143 = .ok (.putfield 218, 3) := dk_181 0 218 (dk_at dksX10_newBridge_6 4 rfl rfl)
theorem dX10_newBridge_146 : decode cX10_newBridge 146 = .ok (.aload 8, 2) := dk_25 8 (dk_at dksX10_newBridge_6 7 rfl rfl)
theorem dX10_newBridge_148 : decode cX10_newBridge 148 = .ok (.aload_n 0, 1) := dk_42 (dk_at dksX10_newBridge_6 9 rfl rfl)
theorem dX10_newBridge_149 : decode cX10_newBridge 149 = .ok (.ldc 89, 2) := dk_18 89 (dk_at dksX10_newBridge_6 10 rfl rfl)
theorem dX10_newBridge_151 : decode cX10_newBridge 151 = .ok (.iconst 0, 1) := dk_3 (dk_at dksX10_newBridge_6 12 rfl rfl)
theorem dX10_newBridge_152 : decode cX10_newBridge 152 = .ok (.sipush 9999, 3) := dk_17 39 15 (dk_at dksX10_newBridge_6 13 rfl rfl)
theorem dX10_newBridge_155 : decode cX10_newBridge 155 = .ok (.sipush 9999, 3) := dk_17 39 15 (dk_at dksX10_newBridge_6 16 rfl rfl)
theorem dX10_newBridge_158 : decode cX10_newBridge 158 = .ok (.invokevirtual 214, 3) := dk_182 0 214 (dk_at dksX10_newBridge_6 19 rfl rfl)
theorem dX10_newBridge_161 : decode cX10_newBridge 161 = .ok (.putfield 220, 3) := dk_181 0 220 (dk_at dksX10_newBridge_7 0 rfl rfl)
theorem dX10_newBridge_164 : decode cX10_newBridge 164 = .ok (.aload 8, 2) := dk_25 8 (dk_at dksX10_newBridge_7 3 rfl rfl)
theorem dX10_newBridge_166 : decode cX10_newBridge 166 = .ok (.aload_n 0, 1) := dk_42 (dk_at dksX10_newBridge_7 5 rfl rfl)
theorem dX10_newBridge_167 : decode cX10_newBridge 167 = .ok (.ldc 91, 2) := dk_18 91 (dk_at dksX10_newBridge_7 6 rfl rfl)
theorem dX10_newBridge_169 : decode cX10_newBridge 169 = .ok (.iconst 0, 1) := dk_3 (dk_at dksX10_newBridge_7 8 rfl rfl)
theorem dX10_newBridge_170 : decode cX10_newBridge 170 = .ok (.bipush 99, 2) := dk_16 99 (dk_at dksX10_newBridge_7 9 rfl rfl)
theorem dX10_newBridge_172 : decode cX10_newBridge 172 = .ok (.iconst 0, 1) := dk_3 (dk_at dksX10_newBridge_7 11 rfl rfl)
theorem dX10_newBridge_173 : decode cX10_newBridge 173 = .ok (.invokevirtual 214, 3) := dk_182 0 214 (dk_at dksX10_newBridge_7 12 rfl rfl)
theorem dX10_newBridge_176 : decode cX10_newBridge 176 = .ok (.putfield 222, 3) := dk_181 0 222 (dk_at dksX10_newBridge_7 15 rfl rfl)
theorem dX10_newBridge_179 : decode cX10_newBridge 179 = .ok (.aload 8, 2) := dk_25 8 (dk_at dksX10_newBridge_7 18 rfl rfl)
theorem dX10_newBridge_181 : decode cX10_newBridge 181 = .ok (.aload_n 0, 1) := dk_42 (dk_at dksX10_newBridge_7 20 rfl rfl)
theorem dX10_newBridge_182 : decode cX10_newBridge 182 = .ok (.ldc 93, 2) := dk_18 93 (dk_at dksX10_newBridge_7 21 rfl rfl)
theorem dX10_newBridge_184 : decode cX10_newBridge 184 = .ok (.iconst 1, 1) := dk_4 (dk_at dksX10_newBridge_7 23 rfl rfl)
theorem dX10_newBridge_185 : decode cX10_newBridge 185 = .ok (.bipush 99, 2) := dk_16 99 (dk_at dksX10_newBridge_8 0 rfl rfl)
theorem dX10_newBridge_187 : decode cX10_newBridge 187 = .ok (.iconst 1, 1) := dk_4 (dk_at dksX10_newBridge_8 2 rfl rfl)
theorem dX10_newBridge_188 : decode cX10_newBridge 188 = .ok (.invokevirtual 214, 3) := dk_182 0 214 (dk_at dksX10_newBridge_8 3 rfl rfl)
theorem dX10_newBridge_191 : decode cX10_newBridge 191 = .ok (.putfield 224, 3) := dk_181 0 224 (dk_at dksX10_newBridge_8 6 rfl rfl)
theorem dX10_newBridge_194 : decode cX10_newBridge 194 = .ok (.aload 8, 2) := dk_25 8 (dk_at dksX10_newBridge_8 9 rfl rfl)
theorem dX10_newBridge_196 : decode cX10_newBridge 196 = .ok (.aload_n 0, 1) := dk_42 (dk_at dksX10_newBridge_8 11 rfl rfl)
theorem dX10_newBridge_197 : decode cX10_newBridge 197 = .ok (.ldc 95, 2) := dk_18 95 (dk_at dksX10_newBridge_8 12 rfl rfl)
theorem dX10_newBridge_199 : decode cX10_newBridge 199 = .ok (.iconst 0, 1) := dk_3 (dk_at dksX10_newBridge_8 14 rfl rfl)
theorem dX10_newBridge_200 : decode cX10_newBridge 200 = .ok (.bipush 15, 2) := dk_16 15 (dk_at dksX10_newBridge_8 15 rfl rfl)
theorem dX10_newBridge_202 : decode cX10_newBridge 202 = .ok (.iconst 0, 1) := dk_3 (dk_at dksX10_newBridge_8 17 rfl rfl)
theorem dX10_newBridge_203 : decode cX10_newBridge 203 = .ok (.invokevirtual 214, 3) := dk_182 0 214 (dk_at dksX10_newBridge_8 18 rfl rfl)
theorem dX10_newBridge_206 : decode cX10_newBridge 206 = .ok (.putfield 226, 3) := dk_181 0 226 (dk_at dksX10_newBridge_8 21 rfl rfl)
theorem dX10_newBridge_209 : decode cX10_newBridge 209 = .ok (.aload_n 1, 1) := dk_43 (dk_at dksX10_newBridge_9 0 rfl rfl)
theorem dX10_newBridge_210 : decode cX10_newBridge 210 = .ok (.getfield 228, 3) := dk_180 0 228 (dk_at dksX10_newBridge_9 1 rfl rfl)
theorem dX10_newBridge_213 : decode cX10_newBridge 213 = .ok (.aload_n 1, 1) := dk_43 (dk_at dksX10_newBridge_9 4 rfl rfl)
theorem dX10_newBridge_214 : decode cX10_newBridge 214 = .ok (.getfield 199, 3) := dk_180 0 199 (dk_at dksX10_newBridge_9 5 rfl rfl)
theorem dX10_newBridge_217 : decode cX10_newBridge 217 = .ok (.aload 8, 2) := dk_25 8 (dk_at dksX10_newBridge_9 8 rfl rfl)
theorem dX10_newBridge_219 : decode cX10_newBridge 219 = .ok (.aastore, 1) := dk_83 (dk_at dksX10_newBridge_9 10 rfl rfl)
theorem dX10_newBridge_220 : decode cX10_newBridge 220 = .ok (.aload_n 1, 1) := dk_43 (dk_at dksX10_newBridge_9 11 rfl rfl)
theorem dX10_newBridge_221 : decode cX10_newBridge 221 = .ok (.dup, 1) := dk_89 (dk_at dksX10_newBridge_9 12 rfl rfl)
theorem dX10_newBridge_222 : decode cX10_newBridge 222 = .ok (.getfield 199, 3) := dk_180 0 199 (dk_at dksX10_newBridge_9 13 rfl rfl)
theorem dX10_newBridge_225 : decode cX10_newBridge 225 = .ok (.iconst 1, 1) := dk_4 (dk_at dksX10_newBridge_9 16 rfl rfl)
theorem dX10_newBridge_226 : decode cX10_newBridge 226 = .ok (.iadd, 1) := dk_96 (dk_at dksX10_newBridge_9 17 rfl rfl)
theorem dX10_newBridge_227 : decode cX10_newBridge 227 = .ok (.putfield 199, 3) := dk_181 0 199 (dk_at dksX10_newBridge_9 18 rfl rfl)
theorem dX10_newBridge_230 : decode cX10_newBridge 230 = .ok (.return_, 1) := dk_177 (dk_at dksX10_newBridge_9 21 rfl rfl)
abbrev cX10_word : ByteArray := prog_11_method_8_code
def yX10_word : MethodName := ⟨RX10, "word", "(Ljava/lang/String;)V"⟩
def dkwX10_word_0 : List UInt8 := [42, 43, 182, 0, 68, 154, 0, 8, 42, 182, 0, 64, 191, 42, 182, 0, 19, 177]
abbrev dktX10_word_0 : List UInt8 := dkwX10_word_0 ++ []
theorem dksX10_word_0 : cX10_word.data.toList.drop 0 = dktX10_word_0 := by decide +kernel
theorem dX10_word_0 : decode cX10_word 0 = .ok (.aload_n 0, 1) := dk_42 (dk_at dksX10_word_0 0 rfl rfl)
theorem dX10_word_1 : decode cX10_word 1 = .ok (.aload_n 1, 1) := dk_43 (dk_at dksX10_word_0 1 rfl rfl)
theorem dX10_word_2 : decode cX10_word 2 = .ok (.invokevirtual 68, 3) := dk_182 0 68 (dk_at dksX10_word_0 2 rfl rfl)
theorem dX10_word_5 : decode cX10_word 5 = .ok (.ifCond .ne 8, 3) := dk_154 0 8 (dk_at dksX10_word_0 5 rfl rfl)
theorem dX10_word_8 : decode cX10_word 8 = .ok (.aload_n 0, 1) := dk_42 (dk_at dksX10_word_0 8 rfl rfl)
theorem dX10_word_9 : decode cX10_word 9 = .ok (.invokevirtual 64, 3) := dk_182 0 64 (dk_at dksX10_word_0 9 rfl rfl)
theorem dX10_word_12 : decode cX10_word 12 = .ok (.athrow, 1) := dk_191 (dk_at dksX10_word_0 12 rfl rfl)
theorem dX10_word_13 : decode cX10_word 13 = .ok (.aload_n 0, 1) := dk_42 (dk_at dksX10_word_0 13 rfl rfl)
theorem dX10_word_14 : decode cX10_word 14 = .ok (.invokevirtual 19, 3) := dk_182 0 19 (dk_at dksX10_word_0 14 rfl rfl)
theorem dX10_word_17 : decode cX10_word 17 = .ok (.return_, 1) := dk_177 (dk_at dksX10_word_0 17 rfl rfl)
abbrev cX10_place : ByteArray := prog_11_method_15_code
def yX10_place : MethodName := ⟨RX10, "place", "(LSillBridges$Town;)I"⟩
def dkwX10_place_0 : List UInt8 := [42, 43, 42, 182, 0, 142, 182, 0, 152, 182, 0, 156, 172]
abbrev dktX10_place_0 : List UInt8 := dkwX10_place_0 ++ []
theorem dksX10_place_0 : cX10_place.data.toList.drop 0 = dktX10_place_0 := by decide +kernel
theorem dX10_place_0 : decode cX10_place 0 = .ok (.aload_n 0, 1) := dk_42 (dk_at dksX10_place_0 0 rfl rfl)
theorem dX10_place_1 : decode cX10_place 1 = .ok (.aload_n 1, 1) := dk_43 (dk_at dksX10_place_0 1 rfl rfl)
theorem dX10_place_2 : decode cX10_place 2 = .ok (.aload_n 0, 1) := dk_42 (dk_at dksX10_place_0 2 rfl rfl)
theorem dX10_place_3 : decode cX10_place 3 = .ok (.invokevirtual 142, 3) := dk_182 0 142 (dk_at dksX10_place_0 3 rfl rfl)
theorem dX10_place_6 : decode cX10_place 6 = .ok (.invokevirtual 152, 3) := dk_182 0 152 (dk_at dksX10_place_0 6 rfl rfl)
theorem dX10_place_9 : decode cX10_place 9 = .ok (.invokevirtual 156, 3) := dk_182 0 156 (dk_at dksX10_place_0 9 rfl rfl)
theorem dX10_place_12 : decode cX10_place 12 = .ok (.ireturn, 1) := dk_172 (dk_at dksX10_place_0 12 rfl rfl)
abbrev cX10_known : ByteArray := prog_11_method_14_code
def yX10_known : MethodName := ⟨RX10, "known", "(I)I"⟩
def dkwX10_known_1 : List UInt8 := [27, 172]
abbrev dktX10_known_1 : List UInt8 := dkwX10_known_1 ++ []
def dkwX10_known_0 : List UInt8 := [27, 156, 0, 19, 42, 180, 0, 3, 180, 0, 55, 6, 42, 180, 0, 29, 182, 0, 59, 191, 42, 182, 0, 19]
abbrev dktX10_known_0 : List UInt8 := dkwX10_known_0 ++ dktX10_known_1
theorem dksX10_known_0 : cX10_known.data.toList.drop 0 = dktX10_known_0 := by decide +kernel
theorem dksX10_known_1 : cX10_known.data.toList.drop 24 = dktX10_known_1 := dk_seg dksX10_known_0 24 rfl rfl
theorem dX10_known_0 : decode cX10_known 0 = .ok (.iload_n 1, 1) := dk_27 (dk_at dksX10_known_0 0 rfl rfl)
theorem dX10_known_1 : decode cX10_known 1 = .ok (.ifCond .ge 19, 3) := dk_156 0 19 (dk_at dksX10_known_0 1 rfl rfl)
theorem dX10_known_4 : decode cX10_known 4 = .ok (.aload_n 0, 1) := dk_42 (dk_at dksX10_known_0 4 rfl rfl)
theorem dX10_known_5 : decode cX10_known 5 = .ok (.getfield 3, 3) := dk_180 0 3 (dk_at dksX10_known_0 5 rfl rfl)
theorem dX10_known_8 : decode cX10_known 8 = .ok (.getfield 55, 3) := dk_180 0 55 (dk_at dksX10_known_0 8 rfl rfl)
theorem dX10_known_11 : decode cX10_known 11 = .ok (.iconst 3, 1) := dk_6 (dk_at dksX10_known_0 11 rfl rfl)
theorem dX10_known_12 : decode cX10_known 12 = .ok (.aload_n 0, 1) := dk_42 (dk_at dksX10_known_0 12 rfl rfl)
theorem dX10_known_13 : decode cX10_known 13 = .ok (.getfield 29, 3) := dk_180 0 29 (dk_at dksX10_known_0 13 rfl rfl)
theorem dX10_known_16 : decode cX10_known 16 = .ok (.invokevirtual 59, 3) := dk_182 0 59 (dk_at dksX10_known_0 16 rfl rfl)
theorem dX10_known_19 : decode cX10_known 19 = .ok (.athrow, 1) := dk_191 (dk_at dksX10_known_0 19 rfl rfl)
theorem dX10_known_20 : decode cX10_known 20 = .ok (.aload_n 0, 1) := dk_42 (dk_at dksX10_known_0 20 rfl rfl)
theorem dX10_known_21 : decode cX10_known 21 = .ok (.invokevirtual 19, 3) := dk_182 0 19 (dk_at dksX10_known_0 21 rfl rfl)
theorem dX10_known_24 : decode cX10_known 24 = .ok (.iload_n 1, 1) := dk_27 (dk_at dksX10_known_1 0 rfl rfl)
theorem dX10_known_25 : decode cX10_known 25 = .ok (.ireturn, 1) := dk_172 (dk_at dksX10_known_1 1 rfl rfl)
abbrev cX10_number : ByteArray := prog_11_method_9_code
def yX10_number : MethodName := ⟨RX10, "number", "(II)I"⟩
def dkwX10_number_2 : List UInt8 := [180, 0, 42, 62, 42, 182, 0, 19, 29, 172]
abbrev dktX10_number_2 : List UInt8 := dkwX10_number_2 ++ []
def dkwX10_number_1 : List UInt8 := [180, 0, 42, 28, 164, 0, 19, 42, 180, 0, 3, 180, 0, 55, 7, 42, 180, 0, 29, 182, 0, 59, 191, 42]
abbrev dktX10_number_1 : List UInt8 := dkwX10_number_1 ++ dktX10_number_2
def dkwX10_number_0 : List UInt8 := [42, 180, 0, 32, 5, 159, 0, 8, 42, 182, 0, 64, 191, 42, 180, 0, 42, 27, 161, 0, 11, 42]
abbrev dktX10_number_0 : List UInt8 := dkwX10_number_0 ++ dktX10_number_1
theorem dksX10_number_0 : cX10_number.data.toList.drop 0 = dktX10_number_0 := by decide +kernel
theorem dksX10_number_1 : cX10_number.data.toList.drop 22 = dktX10_number_1 := dk_seg dksX10_number_0 22 rfl rfl
theorem dksX10_number_2 : cX10_number.data.toList.drop 46 = dktX10_number_2 := dk_seg dksX10_number_1 24 rfl rfl
theorem dX10_number_0 : decode cX10_number 0 = .ok (.aload_n 0, 1) := dk_42 (dk_at dksX10_number_0 0 rfl rfl)
theorem dX10_number_1 : decode cX10_number 1 = .ok (.getfield 32, 3) := dk_180 0 32 (dk_at dksX10_number_0 1 rfl rfl)
theorem dX10_number_4 : decode cX10_number 4 = .ok (.iconst 2, 1) := dk_5 (dk_at dksX10_number_0 4 rfl rfl)
theorem dX10_number_5 : decode cX10_number 5 = .ok (.if_icmp .eq 8, 3) := dk_159 0 8 (dk_at dksX10_number_0 5 rfl rfl)
theorem dX10_number_8 : decode cX10_number 8 = .ok (.aload_n 0, 1) := dk_42 (dk_at dksX10_number_0 8 rfl rfl)
theorem dX10_number_9 : decode cX10_number 9 = .ok (.invokevirtual 64, 3) := dk_182 0 64 (dk_at dksX10_number_0 9 rfl rfl)
theorem dX10_number_12 : decode cX10_number 12 = .ok (.athrow, 1) := dk_191 (dk_at dksX10_number_0 12 rfl rfl)
theorem dX10_number_13 : decode cX10_number 13 = .ok (.aload_n 0, 1) := dk_42 (dk_at dksX10_number_0 13 rfl rfl)
theorem dX10_number_14 : decode cX10_number 14 = .ok (.getfield 42, 3) := dk_180 0 42 (dk_at dksX10_number_0 14 rfl rfl)
theorem dX10_number_17 : decode cX10_number 17 = .ok (.iload_n 1, 1) := dk_27 (dk_at dksX10_number_0 17 rfl rfl)
theorem dX10_number_18 : decode cX10_number 18 = .ok (.if_icmp .lt 11, 3) := dk_161 0 11 (dk_at dksX10_number_0 18 rfl rfl)
theorem dX10_number_21 : decode cX10_number 21 = .ok (.aload_n 0, 1) := dk_42 (dk_at dksX10_number_0 21 rfl rfl)
theorem dX10_number_22 : decode cX10_number 22 = .ok (.getfield 42, 3) := dk_180 0 42 (dk_at dksX10_number_1 0 rfl rfl)
theorem dX10_number_25 : decode cX10_number 25 = .ok (.iload_n 2, 1) := dk_28 (dk_at dksX10_number_1 3 rfl rfl)
theorem dX10_number_26 : decode cX10_number 26 = .ok (.if_icmp .le 19, 3) := dk_164 0 19 (dk_at dksX10_number_1 4 rfl rfl)
theorem dX10_number_29 : decode cX10_number 29 = .ok (.aload_n 0, 1) := dk_42 (dk_at dksX10_number_1 7 rfl rfl)
theorem dX10_number_30 : decode cX10_number 30 = .ok (.getfield 3, 3) := dk_180 0 3 (dk_at dksX10_number_1 8 rfl rfl)
theorem dX10_number_33 : decode cX10_number 33 = .ok (.getfield 55, 3) := dk_180 0 55 (dk_at dksX10_number_1 11 rfl rfl)
theorem dX10_number_36 : decode cX10_number 36 = .ok (.iconst 4, 1) := dk_7 (dk_at dksX10_number_1 14 rfl rfl)
theorem dX10_number_37 : decode cX10_number 37 = .ok (.aload_n 0, 1) := dk_42 (dk_at dksX10_number_1 15 rfl rfl)
theorem dX10_number_38 : decode cX10_number 38 = .ok (.getfield 29, 3) := dk_180 0 29 (dk_at dksX10_number_1 16 rfl rfl)
theorem dX10_number_41 : decode cX10_number 41 = .ok (.invokevirtual 59, 3) := dk_182 0 59 (dk_at dksX10_number_1 19 rfl rfl)
theorem dX10_number_44 : decode cX10_number 44 = .ok (.athrow, 1) := dk_191 (dk_at dksX10_number_1 22 rfl rfl)
theorem dX10_number_45 : decode cX10_number 45 = .ok (.aload_n 0, 1) := dk_42 (dk_at dksX10_number_1 23 rfl rfl)
theorem dX10_number_46 : decode cX10_number 46 = .ok (.getfield 42, 3) := dk_180 0 42 (dk_at dksX10_number_2 0 rfl rfl)
theorem dX10_number_49 : decode cX10_number 49 = .ok (.istore_n 3, 1) := dk_62 (dk_at dksX10_number_2 3 rfl rfl)
theorem dX10_number_50 : decode cX10_number 50 = .ok (.aload_n 0, 1) := dk_42 (dk_at dksX10_number_2 4 rfl rfl)
theorem dX10_number_51 : decode cX10_number 51 = .ok (.invokevirtual 19, 3) := dk_182 0 19 (dk_at dksX10_number_2 5 rfl rfl)
theorem dX10_number_54 : decode cX10_number 54 = .ok (.iload_n 3, 1) := dk_29 (dk_at dksX10_number_2 8 rfl rfl)
theorem dX10_number_55 : decode cX10_number 55 = .ok (.ireturn, 1) := dk_172 (dk_at dksX10_number_2 9 rfl rfl)
abbrev cX10_told : ByteArray := prog_11_method_10_code
def yX10_told : MethodName := ⟨RX10, "told", "(Ljava/lang/String;III)I"⟩
def dkwX10_told_0 : List UInt8 := [42, 43, 182, 0, 68, 154, 0, 6, 21, 4, 172, 42, 182, 0, 19, 42, 28, 29, 182, 0, 72, 172]
abbrev dktX10_told_0 : List UInt8 := dkwX10_told_0 ++ []
theorem dksX10_told_0 : cX10_told.data.toList.drop 0 = dktX10_told_0 := by decide +kernel
theorem dX10_told_0 : decode cX10_told 0 = .ok (.aload_n 0, 1) := dk_42 (dk_at dksX10_told_0 0 rfl rfl)
theorem dX10_told_1 : decode cX10_told 1 = .ok (.aload_n 1, 1) := dk_43 (dk_at dksX10_told_0 1 rfl rfl)
theorem dX10_told_2 : decode cX10_told 2 = .ok (.invokevirtual 68, 3) := dk_182 0 68 (dk_at dksX10_told_0 2 rfl rfl)
theorem dX10_told_5 : decode cX10_told 5 = .ok (.ifCond .ne 6, 3) := dk_154 0 6 (dk_at dksX10_told_0 5 rfl rfl)
theorem dX10_told_8 : decode cX10_told 8 = .ok (.iload 4, 2) := dk_21 4 (dk_at dksX10_told_0 8 rfl rfl)
theorem dX10_told_10 : decode cX10_told 10 = .ok (.ireturn, 1) := dk_172 (dk_at dksX10_told_0 10 rfl rfl)
theorem dX10_told_11 : decode cX10_told 11 = .ok (.aload_n 0, 1) := dk_42 (dk_at dksX10_told_0 11 rfl rfl)
theorem dX10_told_12 : decode cX10_told 12 = .ok (.invokevirtual 19, 3) := dk_182 0 19 (dk_at dksX10_told_0 12 rfl rfl)
theorem dX10_told_15 : decode cX10_told 15 = .ok (.aload_n 0, 1) := dk_42 (dk_at dksX10_told_0 15 rfl rfl)
theorem dX10_told_16 : decode cX10_told 16 = .ok (.iload_n 2, 1) := dk_28 (dk_at dksX10_told_0 16 rfl rfl)
theorem dX10_told_17 : decode cX10_told 17 = .ok (.iload_n 3, 1) := dk_29 (dk_at dksX10_told_0 17 rfl rfl)
theorem dX10_told_18 : decode cX10_told 18 = .ok (.invokevirtual 72, 3) := dk_182 0 72 (dk_at dksX10_told_0 18 rfl rfl)
theorem dX10_told_21 : decode cX10_told 21 = .ok (.ireturn, 1) := dk_172 (dk_at dksX10_told_0 21 rfl rfl)
abbrev cX10_newPerson : ByteArray := prog_11_method_22_code
def yX10_newPerson : MethodName := ⟨RX10, "newPerson", "(LSillBridges$Town;)V"⟩
def dkwX10_newPerson_6 : List UInt8 := [180, 0, 232, 25, 5, 83, 43, 89, 180, 0, 232, 4, 96, 181, 0, 232, 177]
abbrev dktX10_newPerson_6 : List UInt8 := dkwX10_newPerson_6 ++ []
def dkwX10_newPerson_5 : List UInt8 := [18, 106, 182, 0, 68, 153, 0, 13, 42, 182, 0, 19, 25, 5, 4, 181, 0, 244, 43, 180, 0, 247, 43]
abbrev dktX10_newPerson_5 : List UInt8 := dkwX10_newPerson_5 ++ dktX10_newPerson_6
def dkwX10_newPerson_4 : List UInt8 := [182, 0, 206, 181, 0, 240, 25, 5, 42, 18, 104, 3, 17, 3, 231, 3, 182, 0, 214, 181, 0, 242, 42]
abbrev dktX10_newPerson_4 : List UInt8 := dkwX10_newPerson_4 ++ dktX10_newPerson_5
def dkwX10_newPerson_3 : List UInt8 := [183, 0, 237, 58, 5, 42, 18, 102, 182, 0, 68, 153, 0, 17, 42, 182, 0, 19, 25, 5, 42, 43]
abbrev dktX10_newPerson_3 : List UInt8 := dkwX10_newPerson_3 ++ dktX10_newPerson_4
def dkwX10_newPerson_2 : List UInt8 := [182, 0, 72, 54, 4, 42, 18, 101, 182, 0, 202, 187, 0, 235, 89, 32, 21, 4, 42, 43, 182, 0, 206]
abbrev dktX10_newPerson_2 : List UInt8 := dkwX10_newPerson_2 ++ dktX10_newPerson_3
def dkwX10_newPerson_1 : List UInt8 := [191, 42, 182, 0, 19, 42, 43, 182, 0, 195, 65, 42, 18, 99, 182, 0, 202, 42, 4, 17, 3, 231]
abbrev dktX10_newPerson_1 : List UInt8 := dkwX10_newPerson_1 ++ dktX10_newPerson_2
def dkwX10_newPerson_0 : List UInt8 := [43, 180, 0, 232, 7, 160, 0, 20, 42, 180, 0, 3, 180, 0, 55, 16, 6, 42, 180, 0, 29, 182, 0, 59]
abbrev dktX10_newPerson_0 : List UInt8 := dkwX10_newPerson_0 ++ dktX10_newPerson_1
theorem dksX10_newPerson_0 : cX10_newPerson.data.toList.drop 0 = dktX10_newPerson_0 := by decide +kernel
theorem dksX10_newPerson_1 : cX10_newPerson.data.toList.drop 24 = dktX10_newPerson_1 := dk_seg dksX10_newPerson_0 24 rfl rfl
theorem dksX10_newPerson_2 : cX10_newPerson.data.toList.drop 46 = dktX10_newPerson_2 := dk_seg dksX10_newPerson_1 22 rfl rfl
theorem dksX10_newPerson_3 : cX10_newPerson.data.toList.drop 69 = dktX10_newPerson_3 := dk_seg dksX10_newPerson_2 23 rfl rfl
theorem dksX10_newPerson_4 : cX10_newPerson.data.toList.drop 91 = dktX10_newPerson_4 := dk_seg dksX10_newPerson_3 22 rfl rfl
theorem dksX10_newPerson_5 : cX10_newPerson.data.toList.drop 114 = dktX10_newPerson_5 := dk_seg dksX10_newPerson_4 23 rfl rfl
theorem dksX10_newPerson_6 : cX10_newPerson.data.toList.drop 137 = dktX10_newPerson_6 := dk_seg dksX10_newPerson_5 23 rfl rfl
theorem dX10_newPerson_0 : decode cX10_newPerson 0 = .ok (.aload_n 1, 1) := dk_43 (dk_at dksX10_newPerson_0 0 rfl rfl)
theorem dX10_newPerson_1 : decode cX10_newPerson 1 = .ok (.getfield 232, 3) := dk_180 0 232 (dk_at dksX10_newPerson_0 1 rfl rfl)
theorem dX10_newPerson_4 : decode cX10_newPerson 4 = .ok (.iconst 4, 1) := dk_7 (dk_at dksX10_newPerson_0 4 rfl rfl)
theorem dX10_newPerson_5 : decode cX10_newPerson 5 = .ok (.if_icmp .ne 20, 3) := dk_160 0 20 (dk_at dksX10_newPerson_0 5 rfl rfl)
theorem dX10_newPerson_8 : decode cX10_newPerson 8 = .ok (.aload_n 0, 1) := dk_42 (dk_at dksX10_newPerson_0 8 rfl rfl)
theorem dX10_newPerson_9 : decode cX10_newPerson 9 = .ok (.getfield 3, 3) := dk_180 0 3 (dk_at dksX10_newPerson_0 9 rfl rfl)
theorem dX10_newPerson_12 : decode cX10_newPerson 12 = .ok (.getfield 55, 3) := dk_180 0 55 (dk_at dksX10_newPerson_0 12 rfl rfl)
theorem dX10_newPerson_15 : decode cX10_newPerson 15 = .ok (.bipush 6, 2) := dk_16 6 (dk_at dksX10_newPerson_0 15 rfl rfl)
theorem dX10_newPerson_17 : decode cX10_newPerson 17 = .ok (.aload_n 0, 1) := dk_42 (dk_at dksX10_newPerson_0 17 rfl rfl)
theorem dX10_newPerson_18 : decode cX10_newPerson 18 = .ok (.getfield 29, 3) := dk_180 0 29 (dk_at dksX10_newPerson_0 18 rfl rfl)
theorem dX10_newPerson_21 : decode cX10_newPerson 21 = .ok (.invokevirtual 59, 3) := dk_182 0 59 (dk_at dksX10_newPerson_0 21 rfl rfl)
theorem dX10_newPerson_24 : decode cX10_newPerson 24 = .ok (.athrow, 1) := dk_191 (dk_at dksX10_newPerson_1 0 rfl rfl)
theorem dX10_newPerson_25 : decode cX10_newPerson 25 = .ok (.aload_n 0, 1) := dk_42 (dk_at dksX10_newPerson_1 1 rfl rfl)
theorem dX10_newPerson_26 : decode cX10_newPerson 26 = .ok (.invokevirtual 19, 3) := dk_182 0 19 (dk_at dksX10_newPerson_1 2 rfl rfl)
theorem dX10_newPerson_29 : decode cX10_newPerson 29 = .ok (.aload_n 0, 1) := dk_42 (dk_at dksX10_newPerson_1 5 rfl rfl)
theorem dX10_newPerson_30 : decode cX10_newPerson 30 = .ok (.aload_n 1, 1) := dk_43 (dk_at dksX10_newPerson_1 6 rfl rfl)
theorem dX10_newPerson_31 : decode cX10_newPerson 31 = .ok (.invokevirtual 195, 3) := dk_182 0 195 (dk_at dksX10_newPerson_1 7 rfl rfl)
theorem dX10_newPerson_34 : decode cX10_newPerson 34 = .ok (.lstore_n 2, 1) := dk_65 (dk_at dksX10_newPerson_1 10 rfl rfl)
theorem dX10_newPerson_35 : decode cX10_newPerson 35 = .ok (.aload_n 0, 1) := dk_42 (dk_at dksX10_newPerson_1 11 rfl rfl)
theorem dX10_newPerson_36 : decode cX10_newPerson 36 = .ok (.ldc 99, 2) := dk_18 99 (dk_at dksX10_newPerson_1 12 rfl rfl)
theorem dX10_newPerson_38 : decode cX10_newPerson 38 = .ok (.invokevirtual 202, 3) := dk_182 0 202 (dk_at dksX10_newPerson_1 14 rfl rfl)
theorem dX10_newPerson_41 : decode cX10_newPerson 41 = .ok (.aload_n 0, 1) := dk_42 (dk_at dksX10_newPerson_1 17 rfl rfl)
theorem dX10_newPerson_42 : decode cX10_newPerson 42 = .ok (.iconst 1, 1) := dk_4 (dk_at dksX10_newPerson_1 18 rfl rfl)
theorem dX10_newPerson_43 : decode cX10_newPerson 43 = .ok (.sipush 999, 3) := dk_17 3 231 (dk_at dksX10_newPerson_1 19 rfl rfl)
theorem dX10_newPerson_46 : decode cX10_newPerson 46 = .ok (.invokevirtual 72, 3) := dk_182 0 72 (dk_at dksX10_newPerson_2 0 rfl rfl)
theorem dX10_newPerson_49 : decode cX10_newPerson 49 = .ok (.istore 4, 2) := dk_54 4 (dk_at dksX10_newPerson_2 3 rfl rfl)
theorem dX10_newPerson_51 : decode cX10_newPerson 51 = .ok (.aload_n 0, 1) := dk_42 (dk_at dksX10_newPerson_2 5 rfl rfl)
theorem dX10_newPerson_52 : decode cX10_newPerson 52 = .ok (.ldc 101, 2) := dk_18 101 (dk_at dksX10_newPerson_2 6 rfl rfl)
theorem dX10_newPerson_54 : decode cX10_newPerson 54 = .ok (.invokevirtual 202, 3) := dk_182 0 202 (dk_at dksX10_newPerson_2 8 rfl rfl)
theorem dX10_newPerson_57 : decode cX10_newPerson 57 = .ok (.new 235, 3) := dk_187 0 235 (dk_at dksX10_newPerson_2 11 rfl rfl)
theorem dX10_newPerson_60 : decode cX10_newPerson 60 = .ok (.dup, 1) := dk_89 (dk_at dksX10_newPerson_2 14 rfl rfl)
theorem dX10_newPerson_61 : decode cX10_newPerson 61 = .ok (.lload_n 2, 1) := dk_32 (dk_at dksX10_newPerson_2 15 rfl rfl)
theorem dX10_newPerson_62 : decode cX10_newPerson 62 = .ok (.iload 4, 2) := dk_21 4 (dk_at dksX10_newPerson_2 16 rfl rfl)
theorem dX10_newPerson_64 : decode cX10_newPerson 64 = .ok (.aload_n 0, 1) := dk_42 (dk_at dksX10_newPerson_2 18 rfl rfl)
theorem dX10_newPerson_65 : decode cX10_newPerson 65 = .ok (.aload_n 1, 1) := dk_43 (dk_at dksX10_newPerson_2 19 rfl rfl)
theorem dX10_newPerson_66 : decode cX10_newPerson 66 = .ok (.invokevirtual 206, 3) := dk_182 0 206 (dk_at dksX10_newPerson_2 20 rfl rfl)
theorem dX10_newPerson_69 : decode cX10_newPerson 69 = .ok (.invokespecial 237, 3) := dk_183 0 237 (dk_at dksX10_newPerson_3 0 rfl rfl)
theorem dX10_newPerson_72 : decode cX10_newPerson 72 = .ok (.astore 5, 2) := dk_58 5 (dk_at dksX10_newPerson_3 3 rfl rfl)
theorem dX10_newPerson_74 : decode cX10_newPerson 74 = .ok (.aload_n 0, 1) := dk_42 (dk_at dksX10_newPerson_3 5 rfl rfl)
theorem dX10_newPerson_75 : decode cX10_newPerson 75 = .ok (.ldc 102, 2) := dk_18 102 (dk_at dksX10_newPerson_3 6 rfl rfl)
theorem dX10_newPerson_77 : decode cX10_newPerson 77 = .ok (.invokevirtual 68, 3) := dk_182 0 68 (dk_at dksX10_newPerson_3 8 rfl rfl)
theorem dX10_newPerson_80 : decode cX10_newPerson 80 = .ok (.ifCond .eq 17, 3) := dk_153 0 17 (dk_at dksX10_newPerson_3 11 rfl rfl)
theorem dX10_newPerson_83 : decode cX10_newPerson 83 = .ok (.aload_n 0, 1) := dk_42 (dk_at dksX10_newPerson_3 14 rfl rfl)
theorem dX10_newPerson_84 : decode cX10_newPerson 84 = .ok (.invokevirtual 19, 3) := dk_182 0 19 (dk_at dksX10_newPerson_3 15 rfl rfl)
theorem dX10_newPerson_87 : decode cX10_newPerson 87 = .ok (.aload 5, 2) := dk_25 5 (dk_at dksX10_newPerson_3 18 rfl rfl)
theorem dX10_newPerson_89 : decode cX10_newPerson 89 = .ok (.aload_n 0, 1) := dk_42 (dk_at dksX10_newPerson_3 20 rfl rfl)
theorem dX10_newPerson_90 : decode cX10_newPerson 90 = .ok (.aload_n 1, 1) := dk_43 (dk_at dksX10_newPerson_3 21 rfl rfl)
theorem dX10_newPerson_91 : decode cX10_newPerson 91 = .ok (.invokevirtual 206, 3) := dk_182 0 206 (dk_at dksX10_newPerson_4 0 rfl rfl)
theorem dX10_newPerson_94 : decode cX10_newPerson 94 = .ok (.putfield 240, 3) := dk_181 0 240 (dk_at dksX10_newPerson_4 3 rfl rfl)
theorem dX10_newPerson_97 : decode cX10_newPerson 97 = .ok (.aload 5, 2) := dk_25 5 (dk_at dksX10_newPerson_4 6 rfl rfl)
theorem dX10_newPerson_99 : decode cX10_newPerson 99 = .ok (.aload_n 0, 1) := dk_42 (dk_at dksX10_newPerson_4 8 rfl rfl)
theorem dX10_newPerson_100 : decode cX10_newPerson 100 = .ok (.ldc 104, 2) := dk_18 104 (dk_at dksX10_newPerson_4 9 rfl rfl)
theorem dX10_newPerson_102 : decode cX10_newPerson 102 = .ok (.iconst 0, 1) := dk_3 (dk_at dksX10_newPerson_4 11 rfl rfl)
theorem dX10_newPerson_103 : decode cX10_newPerson 103 = .ok (.sipush 999, 3) := dk_17 3 231 (dk_at dksX10_newPerson_4 12 rfl rfl)
theorem dX10_newPerson_106 : decode cX10_newPerson 106 = .ok (.iconst 0, 1) := dk_3 (dk_at dksX10_newPerson_4 15 rfl rfl)
theorem dX10_newPerson_107 : decode cX10_newPerson 107 = .ok (.invokevirtual 214, 3) := dk_182 0 214 (dk_at dksX10_newPerson_4 16 rfl rfl)
theorem dX10_newPerson_110 : decode cX10_newPerson 110 = .ok (.putfield 242, 3) := dk_181 0 242 (dk_at dksX10_newPerson_4 19 rfl rfl)
theorem dX10_newPerson_113 : decode cX10_newPerson 113 = .ok (.aload_n 0, 1) := dk_42 (dk_at dksX10_newPerson_4 22 rfl rfl)
theorem dX10_newPerson_114 : decode cX10_newPerson 114 = .ok (.ldc 106, 2) := dk_18 106 (dk_at dksX10_newPerson_5 0 rfl rfl)
theorem dX10_newPerson_116 : decode cX10_newPerson 116 = .ok (.invokevirtual 68, 3) := dk_182 0 68 (dk_at dksX10_newPerson_5 2 rfl rfl)
theorem dX10_newPerson_119 : decode cX10_newPerson 119 = .ok (.ifCond .eq 13, 3) := dk_153 0 13 (dk_at dksX10_newPerson_5 5 rfl rfl)
theorem dX10_newPerson_122 : decode cX10_newPerson 122 = .ok (.aload_n 0, 1) := dk_42 (dk_at dksX10_newPerson_5 8 rfl rfl)
theorem dX10_newPerson_123 : decode cX10_newPerson 123 = .ok (.invokevirtual 19, 3) := dk_182 0 19 (dk_at dksX10_newPerson_5 9 rfl rfl)
theorem dX10_newPerson_126 : decode cX10_newPerson 126 = .ok (.aload 5, 2) := dk_25 5 (dk_at dksX10_newPerson_5 12 rfl rfl)
theorem dX10_newPerson_128 : decode cX10_newPerson 128 = .ok (.iconst 1, 1) := dk_4 (dk_at dksX10_newPerson_5 14 rfl rfl)
theorem dX10_newPerson_129 : decode cX10_newPerson 129 = .ok (.putfield 244, 3) := dk_181 0 244 (dk_at dksX10_newPerson_5 15 rfl rfl)
theorem dX10_newPerson_132 : decode cX10_newPerson 132 = .ok (.aload_n 1, 1) := dk_43 (dk_at dksX10_newPerson_5 18 rfl rfl)
theorem dX10_newPerson_133 : decode cX10_newPerson 133 = .ok (.getfield 247, 3) := dk_180 0 247 (dk_at dksX10_newPerson_5 19 rfl rfl)
theorem dX10_newPerson_136 : decode cX10_newPerson 136 = .ok (.aload_n 1, 1) := dk_43 (dk_at dksX10_newPerson_5 22 rfl rfl)
theorem dX10_newPerson_137 : decode cX10_newPerson 137 = .ok (.getfield 232, 3) := dk_180 0 232 (dk_at dksX10_newPerson_6 0 rfl rfl)
theorem dX10_newPerson_140 : decode cX10_newPerson 140 = .ok (.aload 5, 2) := dk_25 5 (dk_at dksX10_newPerson_6 3 rfl rfl)
theorem dX10_newPerson_142 : decode cX10_newPerson 142 = .ok (.aastore, 1) := dk_83 (dk_at dksX10_newPerson_6 5 rfl rfl)
theorem dX10_newPerson_143 : decode cX10_newPerson 143 = .ok (.aload_n 1, 1) := dk_43 (dk_at dksX10_newPerson_6 6 rfl rfl)
theorem dX10_newPerson_144 : decode cX10_newPerson 144 = .ok (.dup, 1) := dk_89 (dk_at dksX10_newPerson_6 7 rfl rfl)
theorem dX10_newPerson_145 : decode cX10_newPerson 145 = .ok (.getfield 232, 3) := dk_180 0 232 (dk_at dksX10_newPerson_6 8 rfl rfl)
theorem dX10_newPerson_148 : decode cX10_newPerson 148 = .ok (.iconst 1, 1) := dk_4 (dk_at dksX10_newPerson_6 11 rfl rfl)
theorem dX10_newPerson_149 : decode cX10_newPerson 149 = .ok (.iadd, 1) := dk_96 (dk_at dksX10_newPerson_6 12 rfl rfl)
theorem dX10_newPerson_150 : decode cX10_newPerson 150 = .ok (.putfield 232, 3) := dk_181 0 232 (dk_at dksX10_newPerson_6 13 rfl rfl)
theorem dX10_newPerson_153 : decode cX10_newPerson 153 = .ok (.return_, 1) := dk_177 (dk_at dksX10_newPerson_6 16 rfl rfl)
abbrev cX10_newLoad : ByteArray := prog_11_method_23_code
def yX10_newLoad : MethodName := ⟨RX10, "newLoad", "(LSillBridges$Town;)V"⟩
def dkwX10_newLoad_3 : List UInt8 := [21, 4, 42, 43, 182, 0, 206, 183, 1, 2, 83, 43, 89, 180, 0, 250, 4, 96, 181, 0, 250, 177]
abbrev dktX10_newLoad_3 : List UInt8 := dkwX10_newLoad_3 ++ []
def dkwX10_newLoad_2 : List UInt8 := [182, 0, 72, 54, 4, 42, 18, 101, 182, 0, 202, 43, 180, 0, 253, 43, 180, 0, 250, 187, 1, 0, 89, 32]
abbrev dktX10_newLoad_2 : List UInt8 := dkwX10_newLoad_2 ++ dktX10_newLoad_3
def dkwX10_newLoad_1 : List UInt8 := [191, 42, 182, 0, 19, 42, 43, 182, 0, 195, 65, 42, 18, 99, 182, 0, 202, 42, 4, 17, 3, 231]
abbrev dktX10_newLoad_1 : List UInt8 := dkwX10_newLoad_1 ++ dktX10_newLoad_2
def dkwX10_newLoad_0 : List UInt8 := [43, 180, 0, 250, 5, 160, 0, 20, 42, 180, 0, 3, 180, 0, 55, 16, 6, 42, 180, 0, 29, 182, 0, 59]
abbrev dktX10_newLoad_0 : List UInt8 := dkwX10_newLoad_0 ++ dktX10_newLoad_1
theorem dksX10_newLoad_0 : cX10_newLoad.data.toList.drop 0 = dktX10_newLoad_0 := by decide +kernel
theorem dksX10_newLoad_1 : cX10_newLoad.data.toList.drop 24 = dktX10_newLoad_1 := dk_seg dksX10_newLoad_0 24 rfl rfl
theorem dksX10_newLoad_2 : cX10_newLoad.data.toList.drop 46 = dktX10_newLoad_2 := dk_seg dksX10_newLoad_1 22 rfl rfl
theorem dksX10_newLoad_3 : cX10_newLoad.data.toList.drop 70 = dktX10_newLoad_3 := dk_seg dksX10_newLoad_2 24 rfl rfl
theorem dX10_newLoad_0 : decode cX10_newLoad 0 = .ok (.aload_n 1, 1) := dk_43 (dk_at dksX10_newLoad_0 0 rfl rfl)
theorem dX10_newLoad_1 : decode cX10_newLoad 1 = .ok (.getfield 250, 3) := dk_180 0 250 (dk_at dksX10_newLoad_0 1 rfl rfl)
theorem dX10_newLoad_4 : decode cX10_newLoad 4 = .ok (.iconst 2, 1) := dk_5 (dk_at dksX10_newLoad_0 4 rfl rfl)
theorem dX10_newLoad_5 : decode cX10_newLoad 5 = .ok (.if_icmp .ne 20, 3) := dk_160 0 20 (dk_at dksX10_newLoad_0 5 rfl rfl)
theorem dX10_newLoad_8 : decode cX10_newLoad 8 = .ok (.aload_n 0, 1) := dk_42 (dk_at dksX10_newLoad_0 8 rfl rfl)
theorem dX10_newLoad_9 : decode cX10_newLoad 9 = .ok (.getfield 3, 3) := dk_180 0 3 (dk_at dksX10_newLoad_0 9 rfl rfl)
theorem dX10_newLoad_12 : decode cX10_newLoad 12 = .ok (.getfield 55, 3) := dk_180 0 55 (dk_at dksX10_newLoad_0 12 rfl rfl)
theorem dX10_newLoad_15 : decode cX10_newLoad 15 = .ok (.bipush 6, 2) := dk_16 6 (dk_at dksX10_newLoad_0 15 rfl rfl)
theorem dX10_newLoad_17 : decode cX10_newLoad 17 = .ok (.aload_n 0, 1) := dk_42 (dk_at dksX10_newLoad_0 17 rfl rfl)
theorem dX10_newLoad_18 : decode cX10_newLoad 18 = .ok (.getfield 29, 3) := dk_180 0 29 (dk_at dksX10_newLoad_0 18 rfl rfl)
theorem dX10_newLoad_21 : decode cX10_newLoad 21 = .ok (.invokevirtual 59, 3) := dk_182 0 59 (dk_at dksX10_newLoad_0 21 rfl rfl)
theorem dX10_newLoad_24 : decode cX10_newLoad 24 = .ok (.athrow, 1) := dk_191 (dk_at dksX10_newLoad_1 0 rfl rfl)
theorem dX10_newLoad_25 : decode cX10_newLoad 25 = .ok (.aload_n 0, 1) := dk_42 (dk_at dksX10_newLoad_1 1 rfl rfl)
theorem dX10_newLoad_26 : decode cX10_newLoad 26 = .ok (.invokevirtual 19, 3) := dk_182 0 19 (dk_at dksX10_newLoad_1 2 rfl rfl)
theorem dX10_newLoad_29 : decode cX10_newLoad 29 = .ok (.aload_n 0, 1) := dk_42 (dk_at dksX10_newLoad_1 5 rfl rfl)
theorem dX10_newLoad_30 : decode cX10_newLoad 30 = .ok (.aload_n 1, 1) := dk_43 (dk_at dksX10_newLoad_1 6 rfl rfl)
theorem dX10_newLoad_31 : decode cX10_newLoad 31 = .ok (.invokevirtual 195, 3) := dk_182 0 195 (dk_at dksX10_newLoad_1 7 rfl rfl)
theorem dX10_newLoad_34 : decode cX10_newLoad 34 = .ok (.lstore_n 2, 1) := dk_65 (dk_at dksX10_newLoad_1 10 rfl rfl)
theorem dX10_newLoad_35 : decode cX10_newLoad 35 = .ok (.aload_n 0, 1) := dk_42 (dk_at dksX10_newLoad_1 11 rfl rfl)
theorem dX10_newLoad_36 : decode cX10_newLoad 36 = .ok (.ldc 99, 2) := dk_18 99 (dk_at dksX10_newLoad_1 12 rfl rfl)
theorem dX10_newLoad_38 : decode cX10_newLoad 38 = .ok (.invokevirtual 202, 3) := dk_182 0 202 (dk_at dksX10_newLoad_1 14 rfl rfl)
theorem dX10_newLoad_41 : decode cX10_newLoad 41 = .ok (.aload_n 0, 1) := dk_42 (dk_at dksX10_newLoad_1 17 rfl rfl)
theorem dX10_newLoad_42 : decode cX10_newLoad 42 = .ok (.iconst 1, 1) := dk_4 (dk_at dksX10_newLoad_1 18 rfl rfl)
theorem dX10_newLoad_43 : decode cX10_newLoad 43 = .ok (.sipush 999, 3) := dk_17 3 231 (dk_at dksX10_newLoad_1 19 rfl rfl)
theorem dX10_newLoad_46 : decode cX10_newLoad 46 = .ok (.invokevirtual 72, 3) := dk_182 0 72 (dk_at dksX10_newLoad_2 0 rfl rfl)
theorem dX10_newLoad_49 : decode cX10_newLoad 49 = .ok (.istore 4, 2) := dk_54 4 (dk_at dksX10_newLoad_2 3 rfl rfl)
theorem dX10_newLoad_51 : decode cX10_newLoad 51 = .ok (.aload_n 0, 1) := dk_42 (dk_at dksX10_newLoad_2 5 rfl rfl)
theorem dX10_newLoad_52 : decode cX10_newLoad 52 = .ok (.ldc 101, 2) := dk_18 101 (dk_at dksX10_newLoad_2 6 rfl rfl)
theorem dX10_newLoad_54 : decode cX10_newLoad 54 = .ok (.invokevirtual 202, 3) := dk_182 0 202 (dk_at dksX10_newLoad_2 8 rfl rfl)
theorem dX10_newLoad_57 : decode cX10_newLoad 57 = .ok (.aload_n 1, 1) := dk_43 (dk_at dksX10_newLoad_2 11 rfl rfl)
theorem dX10_newLoad_58 : decode cX10_newLoad 58 = .ok (.getfield 253, 3) := dk_180 0 253 (dk_at dksX10_newLoad_2 12 rfl rfl)
theorem dX10_newLoad_61 : decode cX10_newLoad 61 = .ok (.aload_n 1, 1) := dk_43 (dk_at dksX10_newLoad_2 15 rfl rfl)
theorem dX10_newLoad_62 : decode cX10_newLoad 62 = .ok (.getfield 250, 3) := dk_180 0 250 (dk_at dksX10_newLoad_2 16 rfl rfl)
theorem dX10_newLoad_65 : decode cX10_newLoad 65 = .ok (.new 256, 3) := dk_187 1 0 (dk_at dksX10_newLoad_2 19 rfl rfl)
theorem dX10_newLoad_68 : decode cX10_newLoad 68 = .ok (.dup, 1) := dk_89 (dk_at dksX10_newLoad_2 22 rfl rfl)
theorem dX10_newLoad_69 : decode cX10_newLoad 69 = .ok (.lload_n 2, 1) := dk_32 (dk_at dksX10_newLoad_2 23 rfl rfl)
theorem dX10_newLoad_70 : decode cX10_newLoad 70 = .ok (.iload 4, 2) := dk_21 4 (dk_at dksX10_newLoad_3 0 rfl rfl)
theorem dX10_newLoad_72 : decode cX10_newLoad 72 = .ok (.aload_n 0, 1) := dk_42 (dk_at dksX10_newLoad_3 2 rfl rfl)
theorem dX10_newLoad_73 : decode cX10_newLoad 73 = .ok (.aload_n 1, 1) := dk_43 (dk_at dksX10_newLoad_3 3 rfl rfl)
theorem dX10_newLoad_74 : decode cX10_newLoad 74 = .ok (.invokevirtual 206, 3) := dk_182 0 206 (dk_at dksX10_newLoad_3 4 rfl rfl)
theorem dX10_newLoad_77 : decode cX10_newLoad 77 = .ok (.invokespecial 258, 3) := dk_183 1 2 (dk_at dksX10_newLoad_3 7 rfl rfl)
theorem dX10_newLoad_80 : decode cX10_newLoad 80 = .ok (.aastore, 1) := dk_83 (dk_at dksX10_newLoad_3 10 rfl rfl)
theorem dX10_newLoad_81 : decode cX10_newLoad 81 = .ok (.aload_n 1, 1) := dk_43 (dk_at dksX10_newLoad_3 11 rfl rfl)
theorem dX10_newLoad_82 : decode cX10_newLoad 82 = .ok (.dup, 1) := dk_89 (dk_at dksX10_newLoad_3 12 rfl rfl)
theorem dX10_newLoad_83 : decode cX10_newLoad 83 = .ok (.getfield 250, 3) := dk_180 0 250 (dk_at dksX10_newLoad_3 13 rfl rfl)
theorem dX10_newLoad_86 : decode cX10_newLoad 86 = .ok (.iconst 1, 1) := dk_4 (dk_at dksX10_newLoad_3 16 rfl rfl)
theorem dX10_newLoad_87 : decode cX10_newLoad 87 = .ok (.iadd, 1) := dk_96 (dk_at dksX10_newLoad_3 17 rfl rfl)
theorem dX10_newLoad_88 : decode cX10_newLoad 88 = .ok (.putfield 250, 3) := dk_181 0 250 (dk_at dksX10_newLoad_3 18 rfl rfl)
theorem dX10_newLoad_91 : decode cX10_newLoad 91 = .ok (.return_, 1) := dk_177 (dk_at dksX10_newLoad_3 21 rfl rfl)
abbrev cX10_newStone : ByteArray := prog_11_method_24_code
def yX10_newStone : MethodName := ⟨RX10, "newStone", "(LSillBridges$Town;)V"⟩
def dkwX10_newStone_1 : List UInt8 := [43, 182, 0, 206, 92, 46, 28, 96, 79, 177]
abbrev dktX10_newStone_1 : List UInt8 := dkwX10_newStone_1 ++ []
def dkwX10_newStone_0 : List UInt8 := [42, 182, 0, 19, 42, 3, 17, 3, 231, 182, 0, 72, 61, 42, 18, 101, 182, 0, 202, 43, 180, 1, 3, 42]
abbrev dktX10_newStone_0 : List UInt8 := dkwX10_newStone_0 ++ dktX10_newStone_1
theorem dksX10_newStone_0 : cX10_newStone.data.toList.drop 0 = dktX10_newStone_0 := by decide +kernel
theorem dksX10_newStone_1 : cX10_newStone.data.toList.drop 24 = dktX10_newStone_1 := dk_seg dksX10_newStone_0 24 rfl rfl
theorem dX10_newStone_0 : decode cX10_newStone 0 = .ok (.aload_n 0, 1) := dk_42 (dk_at dksX10_newStone_0 0 rfl rfl)
theorem dX10_newStone_1 : decode cX10_newStone 1 = .ok (.invokevirtual 19, 3) := dk_182 0 19 (dk_at dksX10_newStone_0 1 rfl rfl)
theorem dX10_newStone_4 : decode cX10_newStone 4 = .ok (.aload_n 0, 1) := dk_42 (dk_at dksX10_newStone_0 4 rfl rfl)
theorem dX10_newStone_5 : decode cX10_newStone 5 = .ok (.iconst 0, 1) := dk_3 (dk_at dksX10_newStone_0 5 rfl rfl)
theorem dX10_newStone_6 : decode cX10_newStone 6 = .ok (.sipush 999, 3) := dk_17 3 231 (dk_at dksX10_newStone_0 6 rfl rfl)
theorem dX10_newStone_9 : decode cX10_newStone 9 = .ok (.invokevirtual 72, 3) := dk_182 0 72 (dk_at dksX10_newStone_0 9 rfl rfl)
theorem dX10_newStone_12 : decode cX10_newStone 12 = .ok (.istore_n 2, 1) := dk_61 (dk_at dksX10_newStone_0 12 rfl rfl)
theorem dX10_newStone_13 : decode cX10_newStone 13 = .ok (.aload_n 0, 1) := dk_42 (dk_at dksX10_newStone_0 13 rfl rfl)
theorem dX10_newStone_14 : decode cX10_newStone 14 = .ok (.ldc 101, 2) := dk_18 101 (dk_at dksX10_newStone_0 14 rfl rfl)
theorem dX10_newStone_16 : decode cX10_newStone 16 = .ok (.invokevirtual 202, 3) := dk_182 0 202 (dk_at dksX10_newStone_0 16 rfl rfl)
theorem dX10_newStone_19 : decode cX10_newStone 19 = .ok (.aload_n 1, 1) := dk_43 (dk_at dksX10_newStone_0 19 rfl rfl)
theorem dX10_newStone_20 : decode cX10_newStone 20 = .ok (.getfield 259, 3) := dk_180 1 3 (dk_at dksX10_newStone_0 20 rfl rfl)
theorem dX10_newStone_23 : decode cX10_newStone 23 = .ok (.aload_n 0, 1) := dk_42 (dk_at dksX10_newStone_0 23 rfl rfl)
theorem dX10_newStone_24 : decode cX10_newStone 24 = .ok (.aload_n 1, 1) := dk_43 (dk_at dksX10_newStone_1 0 rfl rfl)
theorem dX10_newStone_25 : decode cX10_newStone 25 = .ok (.invokevirtual 206, 3) := dk_182 0 206 (dk_at dksX10_newStone_1 1 rfl rfl)
theorem dX10_newStone_28 : decode cX10_newStone 28 = .ok (.dup2, 1) := dk_92 (dk_at dksX10_newStone_1 4 rfl rfl)
theorem dX10_newStone_29 : decode cX10_newStone 29 = .ok (.iaload, 1) := dk_46 (dk_at dksX10_newStone_1 5 rfl rfl)
theorem dX10_newStone_30 : decode cX10_newStone 30 = .ok (.iload_n 2, 1) := dk_28 (dk_at dksX10_newStone_1 6 rfl rfl)
theorem dX10_newStone_31 : decode cX10_newStone 31 = .ok (.iadd, 1) := dk_96 (dk_at dksX10_newStone_1 7 rfl rfl)
theorem dX10_newStone_32 : decode cX10_newStone 32 = .ok (.iastore, 1) := dk_79 (dk_at dksX10_newStone_1 8 rfl rfl)
theorem dX10_newStone_33 : decode cX10_newStone 33 = .ok (.return_, 1) := dk_177 (dk_at dksX10_newStone_1 9 rfl rfl)
abbrev cX10_close : ByteArray := prog_11_method_7_code
def yX10_close : MethodName := ⟨RX10, "close", "()V"⟩
def dkwX10_close_0 : List UInt8 := [42, 180, 0, 32, 6, 159, 0, 8, 42, 182, 0, 64, 191, 42, 182, 0, 19, 177]
abbrev dktX10_close_0 : List UInt8 := dkwX10_close_0 ++ []
theorem dksX10_close_0 : cX10_close.data.toList.drop 0 = dktX10_close_0 := by decide +kernel
theorem dX10_close_0 : decode cX10_close 0 = .ok (.aload_n 0, 1) := dk_42 (dk_at dksX10_close_0 0 rfl rfl)
theorem dX10_close_1 : decode cX10_close 1 = .ok (.getfield 32, 3) := dk_180 0 32 (dk_at dksX10_close_0 1 rfl rfl)
theorem dX10_close_4 : decode cX10_close 4 = .ok (.iconst 3, 1) := dk_6 (dk_at dksX10_close_0 4 rfl rfl)
theorem dX10_close_5 : decode cX10_close 5 = .ok (.if_icmp .eq 8, 3) := dk_159 0 8 (dk_at dksX10_close_0 5 rfl rfl)
theorem dX10_close_8 : decode cX10_close 8 = .ok (.aload_n 0, 1) := dk_42 (dk_at dksX10_close_0 8 rfl rfl)
theorem dX10_close_9 : decode cX10_close 9 = .ok (.invokevirtual 64, 3) := dk_182 0 64 (dk_at dksX10_close_0 9 rfl rfl)
theorem dX10_close_12 : decode cX10_close 12 = .ok (.athrow, 1) := dk_191 (dk_at dksX10_close_0 12 rfl rfl)
theorem dX10_close_13 : decode cX10_close 13 = .ok (.aload_n 0, 1) := dk_42 (dk_at dksX10_close_0 13 rfl rfl)
theorem dX10_close_14 : decode cX10_close 14 = .ok (.invokevirtual 19, 3) := dk_182 0 19 (dk_at dksX10_close_0 14 rfl rfl)
theorem dX10_close_17 : decode cX10_close 17 = .ok (.return_, 1) := dk_177 (dk_at dksX10_close_0 17 rfl rfl)
abbrev cX10_orders : ByteArray := prog_11_method_25_code
def yX10_orders : MethodName := ⟨RX10, "orders", "(LSillBridges$Town;LSillBridges$Block;)V"⟩
def dkwX10_orders_0 : List UInt8 := [42, 180, 0, 32, 153, 0, 13, 42, 43, 44, 3, 182, 1, 7, 167, 255, 242, 177]
abbrev dktX10_orders_0 : List UInt8 := dkwX10_orders_0 ++ []
theorem dksX10_orders_0 : cX10_orders.data.toList.drop 0 = dktX10_orders_0 := by decide +kernel
theorem dX10_orders_0 : decode cX10_orders 0 = .ok (.aload_n 0, 1) := dk_42 (dk_at dksX10_orders_0 0 rfl rfl)
theorem dX10_orders_1 : decode cX10_orders 1 = .ok (.getfield 32, 3) := dk_180 0 32 (dk_at dksX10_orders_0 1 rfl rfl)
theorem dX10_orders_4 : decode cX10_orders 4 = .ok (.ifCond .eq 13, 3) := dk_153 0 13 (dk_at dksX10_orders_0 4 rfl rfl)
theorem dX10_orders_7 : decode cX10_orders 7 = .ok (.aload_n 0, 1) := dk_42 (dk_at dksX10_orders_0 7 rfl rfl)
theorem dX10_orders_8 : decode cX10_orders 8 = .ok (.aload_n 1, 1) := dk_43 (dk_at dksX10_orders_0 8 rfl rfl)
theorem dX10_orders_9 : decode cX10_orders 9 = .ok (.aload_n 2, 1) := dk_44 (dk_at dksX10_orders_0 9 rfl rfl)
theorem dX10_orders_10 : decode cX10_orders 10 = .ok (.iconst 0, 1) := dk_3 (dk_at dksX10_orders_0 10 rfl rfl)
theorem dX10_orders_11 : decode cX10_orders 11 = .ok (.invokevirtual 263, 3) := dk_182 1 7 (dk_at dksX10_orders_0 11 rfl rfl)
theorem dX10_orders_14 : decode cX10_orders 14 = .ok (.goto (-14), 3) := dk_167 255 242 (dk_at dksX10_orders_0 14 rfl rfl)
theorem dX10_orders_17 : decode cX10_orders 17 = .ok (.return_, 1) := dk_177 (dk_at dksX10_orders_0 17 rfl rfl)
abbrev cX10_step : ByteArray := prog_11_method_27_code
def yX10_step : MethodName := ⟨RX10, "step", "(LSillBridges$Town;LSillBridges$Block;I)V"⟩
def dkwX10_step_5 : List UInt8 := [182, 1, 17, 167, 0, 8, 42, 43, 182, 1, 21, 58, 6, 42, 182, 0, 185, 44, 25, 6, 182, 1, 25, 177]
abbrev dktX10_step_5 : List UInt8 := dkwX10_step_5 ++ []
def dkwX10_step_4 : List UInt8 := [182, 0, 59, 191, 42, 89, 180, 1, 14, 4, 96, 181, 1, 14, 21, 5, 153, 0, 14, 42, 43, 21, 4, 29]
abbrev dktX10_step_4 : List UInt8 := dkwX10_step_4 ++ dktX10_step_5
def dkwX10_step_3 : List UInt8 := [191, 21, 5, 153, 0, 25, 29, 6, 160, 0, 20, 42, 180, 0, 3, 180, 0, 55, 16, 7, 42, 180, 0, 29]
abbrev dktX10_step_3 : List UInt8 := dkwX10_step_3 ++ dktX10_step_4
def dkwX10_step_2 : List UInt8 := [180, 1, 14, 16, 30, 160, 0, 20, 42, 180, 0, 3, 180, 0, 55, 16, 6, 42, 180, 0, 29, 182, 0, 59]
abbrev dktX10_step_2 : List UInt8 := dkwX10_step_2 ++ dktX10_step_3
def dkwX10_step_1 : List UInt8 := [167, 0, 4, 3, 54, 5, 42, 182, 1, 11, 154, 0, 13, 21, 5, 154, 0, 8, 42, 182, 0, 64, 191, 42]
abbrev dktX10_step_1 : List UInt8 := dkwX10_step_1 ++ dktX10_step_2
def dkwX10_step_0 : List UInt8 := [42, 18, 122, 182, 0, 68, 54, 4, 21, 4, 154, 0, 12, 42, 18, 128, 182, 0, 68, 153, 0, 7, 4]
abbrev dktX10_step_0 : List UInt8 := dkwX10_step_0 ++ dktX10_step_1
theorem dksX10_step_0 : cX10_step.data.toList.drop 0 = dktX10_step_0 := by decide +kernel
theorem dksX10_step_1 : cX10_step.data.toList.drop 23 = dktX10_step_1 := dk_seg dksX10_step_0 23 rfl rfl
theorem dksX10_step_2 : cX10_step.data.toList.drop 47 = dktX10_step_2 := dk_seg dksX10_step_1 24 rfl rfl
theorem dksX10_step_3 : cX10_step.data.toList.drop 71 = dktX10_step_3 := dk_seg dksX10_step_2 24 rfl rfl
theorem dksX10_step_4 : cX10_step.data.toList.drop 95 = dktX10_step_4 := dk_seg dksX10_step_3 24 rfl rfl
theorem dksX10_step_5 : cX10_step.data.toList.drop 119 = dktX10_step_5 := dk_seg dksX10_step_4 24 rfl rfl
theorem dX10_step_0 : decode cX10_step 0 = .ok (.aload_n 0, 1) := dk_42 (dk_at dksX10_step_0 0 rfl rfl)
theorem dX10_step_1 : decode cX10_step 1 = .ok (.ldc 122, 2) := dk_18 122 (dk_at dksX10_step_0 1 rfl rfl)
theorem dX10_step_3 : decode cX10_step 3 = .ok (.invokevirtual 68, 3) := dk_182 0 68 (dk_at dksX10_step_0 3 rfl rfl)
theorem dX10_step_6 : decode cX10_step 6 = .ok (.istore 4, 2) := dk_54 4 (dk_at dksX10_step_0 6 rfl rfl)
theorem dX10_step_8 : decode cX10_step 8 = .ok (.iload 4, 2) := dk_21 4 (dk_at dksX10_step_0 8 rfl rfl)
theorem dX10_step_10 : decode cX10_step 10 = .ok (.ifCond .ne 12, 3) := dk_154 0 12 (dk_at dksX10_step_0 10 rfl rfl)
theorem dX10_step_13 : decode cX10_step 13 = .ok (.aload_n 0, 1) := dk_42 (dk_at dksX10_step_0 13 rfl rfl)
theorem dX10_step_14 : decode cX10_step 14 = .ok (.ldc 128, 2) := dk_18 128 (dk_at dksX10_step_0 14 rfl rfl)
theorem dX10_step_16 : decode cX10_step 16 = .ok (.invokevirtual 68, 3) := dk_182 0 68 (dk_at dksX10_step_0 16 rfl rfl)
theorem dX10_step_19 : decode cX10_step 19 = .ok (.ifCond .eq 7, 3) := dk_153 0 7 (dk_at dksX10_step_0 19 rfl rfl)
theorem dX10_step_22 : decode cX10_step 22 = .ok (.iconst 1, 1) := dk_4 (dk_at dksX10_step_0 22 rfl rfl)
theorem dX10_step_23 : decode cX10_step 23 = .ok (.goto 4, 3) := dk_167 0 4 (dk_at dksX10_step_1 0 rfl rfl)
theorem dX10_step_26 : decode cX10_step 26 = .ok (.iconst 0, 1) := dk_3 (dk_at dksX10_step_1 3 rfl rfl)
theorem dX10_step_27 : decode cX10_step 27 = .ok (.istore 5, 2) := dk_54 5 (dk_at dksX10_step_1 4 rfl rfl)
theorem dX10_step_29 : decode cX10_step 29 = .ok (.aload_n 0, 1) := dk_42 (dk_at dksX10_step_1 6 rfl rfl)
theorem dX10_step_30 : decode cX10_step 30 = .ok (.invokevirtual 267, 3) := dk_182 1 11 (dk_at dksX10_step_1 7 rfl rfl)
theorem dX10_step_33 : decode cX10_step 33 = .ok (.ifCond .ne 13, 3) := dk_154 0 13 (dk_at dksX10_step_1 10 rfl rfl)
theorem dX10_step_36 : decode cX10_step 36 = .ok (.iload 5, 2) := dk_21 5 (dk_at dksX10_step_1 13 rfl rfl)
theorem dX10_step_38 : decode cX10_step 38 = .ok (.ifCond .ne 8, 3) := dk_154 0 8 (dk_at dksX10_step_1 15 rfl rfl)
theorem dX10_step_41 : decode cX10_step 41 = .ok (.aload_n 0, 1) := dk_42 (dk_at dksX10_step_1 18 rfl rfl)
theorem dX10_step_42 : decode cX10_step 42 = .ok (.invokevirtual 64, 3) := dk_182 0 64 (dk_at dksX10_step_1 19 rfl rfl)
theorem dX10_step_45 : decode cX10_step 45 = .ok (.athrow, 1) := dk_191 (dk_at dksX10_step_1 22 rfl rfl)
theorem dX10_step_46 : decode cX10_step 46 = .ok (.aload_n 0, 1) := dk_42 (dk_at dksX10_step_1 23 rfl rfl)
theorem dX10_step_47 : decode cX10_step 47 = .ok (.getfield 270, 3) := dk_180 1 14 (dk_at dksX10_step_2 0 rfl rfl)
theorem dX10_step_50 : decode cX10_step 50 = .ok (.bipush 30, 2) := dk_16 30 (dk_at dksX10_step_2 3 rfl rfl)
theorem dX10_step_52 : decode cX10_step 52 = .ok (.if_icmp .ne 20, 3) := dk_160 0 20 (dk_at dksX10_step_2 5 rfl rfl)
theorem dX10_step_55 : decode cX10_step 55 = .ok (.aload_n 0, 1) := dk_42 (dk_at dksX10_step_2 8 rfl rfl)
theorem dX10_step_56 : decode cX10_step 56 = .ok (.getfield 3, 3) := dk_180 0 3 (dk_at dksX10_step_2 9 rfl rfl)
theorem dX10_step_59 : decode cX10_step 59 = .ok (.getfield 55, 3) := dk_180 0 55 (dk_at dksX10_step_2 12 rfl rfl)
theorem dX10_step_62 : decode cX10_step 62 = .ok (.bipush 6, 2) := dk_16 6 (dk_at dksX10_step_2 15 rfl rfl)
theorem dX10_step_64 : decode cX10_step 64 = .ok (.aload_n 0, 1) := dk_42 (dk_at dksX10_step_2 17 rfl rfl)
theorem dX10_step_65 : decode cX10_step 65 = .ok (.getfield 29, 3) := dk_180 0 29 (dk_at dksX10_step_2 18 rfl rfl)
theorem dX10_step_68 : decode cX10_step 68 = .ok (.invokevirtual 59, 3) := dk_182 0 59 (dk_at dksX10_step_2 21 rfl rfl)
theorem dX10_step_71 : decode cX10_step 71 = .ok (.athrow, 1) := dk_191 (dk_at dksX10_step_3 0 rfl rfl)
theorem dX10_step_72 : decode cX10_step 72 = .ok (.iload 5, 2) := dk_21 5 (dk_at dksX10_step_3 1 rfl rfl)
theorem dX10_step_74 : decode cX10_step 74 = .ok (.ifCond .eq 25, 3) := dk_153 0 25 (dk_at dksX10_step_3 3 rfl rfl)
theorem dX10_step_77 : decode cX10_step 77 = .ok (.iload_n 3, 1) := dk_29 (dk_at dksX10_step_3 6 rfl rfl)
theorem dX10_step_78 : decode cX10_step 78 = .ok (.iconst 3, 1) := dk_6 (dk_at dksX10_step_3 7 rfl rfl)
theorem dX10_step_79 : decode cX10_step 79 = .ok (.if_icmp .ne 20, 3) := dk_160 0 20 (dk_at dksX10_step_3 8 rfl rfl)
theorem dX10_step_82 : decode cX10_step 82 = .ok (.aload_n 0, 1) := dk_42 (dk_at dksX10_step_3 11 rfl rfl)
theorem dX10_step_83 : decode cX10_step 83 = .ok (.getfield 3, 3) := dk_180 0 3 (dk_at dksX10_step_3 12 rfl rfl)
theorem dX10_step_86 : decode cX10_step 86 = .ok (.getfield 55, 3) := dk_180 0 55 (dk_at dksX10_step_3 15 rfl rfl)
theorem dX10_step_89 : decode cX10_step 89 = .ok (.bipush 7, 2) := dk_16 7 (dk_at dksX10_step_3 18 rfl rfl)
theorem dX10_step_91 : decode cX10_step 91 = .ok (.aload_n 0, 1) := dk_42 (dk_at dksX10_step_3 20 rfl rfl)
theorem dX10_step_92 : decode cX10_step 92 = .ok (.getfield 29, 3) := dk_180 0 29 (dk_at dksX10_step_3 21 rfl rfl)
theorem dX10_step_95 : decode cX10_step 95 = .ok (.invokevirtual 59, 3) := dk_182 0 59 (dk_at dksX10_step_4 0 rfl rfl)
theorem dX10_step_98 : decode cX10_step 98 = .ok (.athrow, 1) := dk_191 (dk_at dksX10_step_4 3 rfl rfl)
theorem dX10_step_99 : decode cX10_step 99 = .ok (.aload_n 0, 1) := dk_42 (dk_at dksX10_step_4 4 rfl rfl)
theorem dX10_step_100 : decode cX10_step 100 = .ok (.dup, 1) := dk_89 (dk_at dksX10_step_4 5 rfl rfl)
theorem dX10_step_101 : decode cX10_step 101 = .ok (.getfield 270, 3) := dk_180 1 14 (dk_at dksX10_step_4 6 rfl rfl)
theorem dX10_step_104 : decode cX10_step 104 = .ok (.iconst 1, 1) := dk_4 (dk_at dksX10_step_4 9 rfl rfl)
theorem dX10_step_105 : decode cX10_step 105 = .ok (.iadd, 1) := dk_96 (dk_at dksX10_step_4 10 rfl rfl)
theorem dX10_step_106 : decode cX10_step 106 = .ok (.putfield 270, 3) := dk_181 1 14 (dk_at dksX10_step_4 11 rfl rfl)
theorem dX10_step_109 : decode cX10_step 109 = .ok (.iload 5, 2) := dk_21 5 (dk_at dksX10_step_4 14 rfl rfl)
theorem dX10_step_111 : decode cX10_step 111 = .ok (.ifCond .eq 14, 3) := dk_153 0 14 (dk_at dksX10_step_4 16 rfl rfl)
theorem dX10_step_114 : decode cX10_step 114 = .ok (.aload_n 0, 1) := dk_42 (dk_at dksX10_step_4 19 rfl rfl)
theorem dX10_step_115 : decode cX10_step 115 = .ok (.aload_n 1, 1) := dk_43 (dk_at dksX10_step_4 20 rfl rfl)
theorem dX10_step_116 : decode cX10_step 116 = .ok (.iload 4, 2) := dk_21 4 (dk_at dksX10_step_4 21 rfl rfl)
theorem dX10_step_118 : decode cX10_step 118 = .ok (.iload_n 3, 1) := dk_29 (dk_at dksX10_step_4 23 rfl rfl)
theorem dX10_step_119 : decode cX10_step 119 = .ok (.invokevirtual 273, 3) := dk_182 1 17 (dk_at dksX10_step_5 0 rfl rfl)
theorem dX10_step_122 : decode cX10_step 122 = .ok (.goto 8, 3) := dk_167 0 8 (dk_at dksX10_step_5 3 rfl rfl)
theorem dX10_step_125 : decode cX10_step 125 = .ok (.aload_n 0, 1) := dk_42 (dk_at dksX10_step_5 6 rfl rfl)
theorem dX10_step_126 : decode cX10_step 126 = .ok (.aload_n 1, 1) := dk_43 (dk_at dksX10_step_5 7 rfl rfl)
theorem dX10_step_127 : decode cX10_step 127 = .ok (.invokevirtual 277, 3) := dk_182 1 21 (dk_at dksX10_step_5 8 rfl rfl)
theorem dX10_step_130 : decode cX10_step 130 = .ok (.astore 6, 2) := dk_58 6 (dk_at dksX10_step_5 11 rfl rfl)
theorem dX10_step_132 : decode cX10_step 132 = .ok (.aload_n 0, 1) := dk_42 (dk_at dksX10_step_5 13 rfl rfl)
theorem dX10_step_133 : decode cX10_step 133 = .ok (.invokevirtual 185, 3) := dk_182 0 185 (dk_at dksX10_step_5 14 rfl rfl)
theorem dX10_step_136 : decode cX10_step 136 = .ok (.aload_n 2, 1) := dk_44 (dk_at dksX10_step_5 17 rfl rfl)
theorem dX10_step_137 : decode cX10_step 137 = .ok (.aload 6, 2) := dk_25 6 (dk_at dksX10_step_5 18 rfl rfl)
theorem dX10_step_139 : decode cX10_step 139 = .ok (.invokevirtual 281, 3) := dk_182 1 25 (dk_at dksX10_step_5 20 rfl rfl)
theorem dX10_step_142 : decode cX10_step 142 = .ok (.return_, 1) := dk_177 (dk_at dksX10_step_5 23 rfl rfl)
abbrev cX10_isPlain : ByteArray := prog_11_method_26_code
def yX10_isPlain : MethodName := ⟨RX10, "isPlain", "()Z"⟩
def dkwX10_isPlain_2 : List UInt8 := [167, 0, 4, 3, 172]
abbrev dktX10_isPlain_2 : List UInt8 := dkwX10_isPlain_2 ++ []
def dkwX10_isPlain_1 : List UInt8 := [154, 0, 21, 42, 18, 120, 182, 0, 68, 154, 0, 12, 42, 18, 132, 182, 0, 68, 153, 0, 7, 4]
abbrev dktX10_isPlain_1 : List UInt8 := dkwX10_isPlain_1 ++ dktX10_isPlain_2
def dkwX10_isPlain_0 : List UInt8 := [42, 18, 112, 182, 0, 68, 154, 0, 39, 42, 18, 114, 182, 0, 68, 154, 0, 30, 42, 18, 118, 182, 0, 68]
abbrev dktX10_isPlain_0 : List UInt8 := dkwX10_isPlain_0 ++ dktX10_isPlain_1
theorem dksX10_isPlain_0 : cX10_isPlain.data.toList.drop 0 = dktX10_isPlain_0 := by decide +kernel
theorem dksX10_isPlain_1 : cX10_isPlain.data.toList.drop 24 = dktX10_isPlain_1 := dk_seg dksX10_isPlain_0 24 rfl rfl
theorem dksX10_isPlain_2 : cX10_isPlain.data.toList.drop 46 = dktX10_isPlain_2 := dk_seg dksX10_isPlain_1 22 rfl rfl
theorem dX10_isPlain_0 : decode cX10_isPlain 0 = .ok (.aload_n 0, 1) := dk_42 (dk_at dksX10_isPlain_0 0 rfl rfl)
theorem dX10_isPlain_1 : decode cX10_isPlain 1 = .ok (.ldc 112, 2) := dk_18 112 (dk_at dksX10_isPlain_0 1 rfl rfl)
theorem dX10_isPlain_3 : decode cX10_isPlain 3 = .ok (.invokevirtual 68, 3) := dk_182 0 68 (dk_at dksX10_isPlain_0 3 rfl rfl)
theorem dX10_isPlain_6 : decode cX10_isPlain 6 = .ok (.ifCond .ne 39, 3) := dk_154 0 39 (dk_at dksX10_isPlain_0 6 rfl rfl)
theorem dX10_isPlain_9 : decode cX10_isPlain 9 = .ok (.aload_n 0, 1) := dk_42 (dk_at dksX10_isPlain_0 9 rfl rfl)
theorem dX10_isPlain_10 : decode cX10_isPlain 10 = .ok (.ldc 114, 2) := dk_18 114 (dk_at dksX10_isPlain_0 10 rfl rfl)
theorem dX10_isPlain_12 : decode cX10_isPlain 12 = .ok (.invokevirtual 68, 3) := dk_182 0 68 (dk_at dksX10_isPlain_0 12 rfl rfl)
theorem dX10_isPlain_15 : decode cX10_isPlain 15 = .ok (.ifCond .ne 30, 3) := dk_154 0 30 (dk_at dksX10_isPlain_0 15 rfl rfl)
theorem dX10_isPlain_18 : decode cX10_isPlain 18 = .ok (.aload_n 0, 1) := dk_42 (dk_at dksX10_isPlain_0 18 rfl rfl)
theorem dX10_isPlain_19 : decode cX10_isPlain 19 = .ok (.ldc 118, 2) := dk_18 118 (dk_at dksX10_isPlain_0 19 rfl rfl)
theorem dX10_isPlain_21 : decode cX10_isPlain 21 = .ok (.invokevirtual 68, 3) := dk_182 0 68 (dk_at dksX10_isPlain_0 21 rfl rfl)
theorem dX10_isPlain_24 : decode cX10_isPlain 24 = .ok (.ifCond .ne 21, 3) := dk_154 0 21 (dk_at dksX10_isPlain_1 0 rfl rfl)
theorem dX10_isPlain_27 : decode cX10_isPlain 27 = .ok (.aload_n 0, 1) := dk_42 (dk_at dksX10_isPlain_1 3 rfl rfl)
theorem dX10_isPlain_28 : decode cX10_isPlain 28 = .ok (.ldc 120, 2) := dk_18 120 (dk_at dksX10_isPlain_1 4 rfl rfl)
theorem dX10_isPlain_30 : decode cX10_isPlain 30 = .ok (.invokevirtual 68, 3) := dk_182 0 68 (dk_at dksX10_isPlain_1 6 rfl rfl)
theorem dX10_isPlain_33 : decode cX10_isPlain 33 = .ok (.ifCond .ne 12, 3) := dk_154 0 12 (dk_at dksX10_isPlain_1 9 rfl rfl)
theorem dX10_isPlain_36 : decode cX10_isPlain 36 = .ok (.aload_n 0, 1) := dk_42 (dk_at dksX10_isPlain_1 12 rfl rfl)
theorem dX10_isPlain_37 : decode cX10_isPlain 37 = .ok (.ldc 132, 2) := dk_18 132 (dk_at dksX10_isPlain_1 13 rfl rfl)
theorem dX10_isPlain_39 : decode cX10_isPlain 39 = .ok (.invokevirtual 68, 3) := dk_182 0 68 (dk_at dksX10_isPlain_1 15 rfl rfl)
theorem dX10_isPlain_42 : decode cX10_isPlain 42 = .ok (.ifCond .eq 7, 3) := dk_153 0 7 (dk_at dksX10_isPlain_1 18 rfl rfl)
theorem dX10_isPlain_45 : decode cX10_isPlain 45 = .ok (.iconst 1, 1) := dk_4 (dk_at dksX10_isPlain_1 21 rfl rfl)
theorem dX10_isPlain_46 : decode cX10_isPlain 46 = .ok (.goto 4, 3) := dk_167 0 4 (dk_at dksX10_isPlain_2 0 rfl rfl)
theorem dX10_isPlain_49 : decode cX10_isPlain 49 = .ok (.iconst 0, 1) := dk_3 (dk_at dksX10_isPlain_2 3 rfl rfl)
theorem dX10_isPlain_50 : decode cX10_isPlain 50 = .ok (.ireturn, 1) := dk_172 (dk_at dksX10_isPlain_2 4 rfl rfl)
abbrev cX10_block : ByteArray := prog_11_method_30_code
def yX10_block : MethodName := ⟨RX10, "block", "(LSillBridges$Town;ZI)LSillBridges$Block;"⟩
def dkwX10_block_2 : List UInt8 := [25, 4, 29, 4, 96, 182, 1, 7, 167, 255, 237, 42, 182, 0, 19, 25, 4, 176]
abbrev dktX10_block_2 : List UInt8 := dkwX10_block_2 ++ []
def dkwX10_block_1 : List UInt8 := [182, 0, 72, 183, 1, 54, 58, 4, 42, 182, 0, 185, 42, 18, 130, 182, 0, 68, 154, 0, 16, 42, 43]
abbrev dktX10_block_1 : List UInt8 := dkwX10_block_1 ++ dktX10_block_2
def dkwX10_block_0 : List UInt8 := [42, 182, 0, 19, 28, 153, 0, 11, 42, 43, 182, 1, 49, 167, 0, 17, 187, 1, 52, 89, 42, 4, 16, 99]
abbrev dktX10_block_0 : List UInt8 := dkwX10_block_0 ++ dktX10_block_1
theorem dksX10_block_0 : cX10_block.data.toList.drop 0 = dktX10_block_0 := by decide +kernel
theorem dksX10_block_1 : cX10_block.data.toList.drop 24 = dktX10_block_1 := dk_seg dksX10_block_0 24 rfl rfl
theorem dksX10_block_2 : cX10_block.data.toList.drop 47 = dktX10_block_2 := dk_seg dksX10_block_1 23 rfl rfl
theorem dX10_block_0 : decode cX10_block 0 = .ok (.aload_n 0, 1) := dk_42 (dk_at dksX10_block_0 0 rfl rfl)
theorem dX10_block_1 : decode cX10_block 1 = .ok (.invokevirtual 19, 3) := dk_182 0 19 (dk_at dksX10_block_0 1 rfl rfl)
theorem dX10_block_4 : decode cX10_block 4 = .ok (.iload_n 2, 1) := dk_28 (dk_at dksX10_block_0 4 rfl rfl)
theorem dX10_block_5 : decode cX10_block 5 = .ok (.ifCond .eq 11, 3) := dk_153 0 11 (dk_at dksX10_block_0 5 rfl rfl)
theorem dX10_block_8 : decode cX10_block 8 = .ok (.aload_n 0, 1) := dk_42 (dk_at dksX10_block_0 8 rfl rfl)
theorem dX10_block_9 : decode cX10_block 9 = .ok (.aload_n 1, 1) := dk_43 (dk_at dksX10_block_0 9 rfl rfl)
theorem dX10_block_10 : decode cX10_block 10 = .ok (.invokevirtual 305, 3) := dk_182 1 49 (dk_at dksX10_block_0 10 rfl rfl)
theorem dX10_block_13 : decode cX10_block 13 = .ok (.goto 17, 3) := dk_167 0 17 (dk_at dksX10_block_0 13 rfl rfl)
theorem dX10_block_16 : decode cX10_block 16 = .ok (.new 308, 3) := dk_187 1 52 (dk_at dksX10_block_0 16 rfl rfl)
theorem dX10_block_19 : decode cX10_block 19 = .ok (.dup, 1) := dk_89 (dk_at dksX10_block_0 19 rfl rfl)
theorem dX10_block_20 : decode cX10_block 20 = .ok (.aload_n 0, 1) := dk_42 (dk_at dksX10_block_0 20 rfl rfl)
theorem dX10_block_21 : decode cX10_block 21 = .ok (.iconst 1, 1) := dk_4 (dk_at dksX10_block_0 21 rfl rfl)
theorem dX10_block_22 : decode cX10_block 22 = .ok (.bipush 99, 2) := dk_16 99 (dk_at dksX10_block_0 22 rfl rfl)
theorem dX10_block_24 : decode cX10_block 24 = .ok (.invokevirtual 72, 3) := dk_182 0 72 (dk_at dksX10_block_1 0 rfl rfl)
theorem dX10_block_27 : decode cX10_block 27 = .ok (.invokespecial 310, 3) := dk_183 1 54 (dk_at dksX10_block_1 3 rfl rfl)
theorem dX10_block_30 : decode cX10_block 30 = .ok (.astore 4, 2) := dk_58 4 (dk_at dksX10_block_1 6 rfl rfl)
theorem dX10_block_32 : decode cX10_block 32 = .ok (.aload_n 0, 1) := dk_42 (dk_at dksX10_block_1 8 rfl rfl)
theorem dX10_block_33 : decode cX10_block 33 = .ok (.invokevirtual 185, 3) := dk_182 0 185 (dk_at dksX10_block_1 9 rfl rfl)
theorem dX10_block_36 : decode cX10_block 36 = .ok (.aload_n 0, 1) := dk_42 (dk_at dksX10_block_1 12 rfl rfl)
theorem dX10_block_37 : decode cX10_block 37 = .ok (.ldc 130, 2) := dk_18 130 (dk_at dksX10_block_1 13 rfl rfl)
theorem dX10_block_39 : decode cX10_block 39 = .ok (.invokevirtual 68, 3) := dk_182 0 68 (dk_at dksX10_block_1 15 rfl rfl)
theorem dX10_block_42 : decode cX10_block 42 = .ok (.ifCond .ne 16, 3) := dk_154 0 16 (dk_at dksX10_block_1 18 rfl rfl)
theorem dX10_block_45 : decode cX10_block 45 = .ok (.aload_n 0, 1) := dk_42 (dk_at dksX10_block_1 21 rfl rfl)
theorem dX10_block_46 : decode cX10_block 46 = .ok (.aload_n 1, 1) := dk_43 (dk_at dksX10_block_1 22 rfl rfl)
theorem dX10_block_47 : decode cX10_block 47 = .ok (.aload 4, 2) := dk_25 4 (dk_at dksX10_block_2 0 rfl rfl)
theorem dX10_block_49 : decode cX10_block 49 = .ok (.iload_n 3, 1) := dk_29 (dk_at dksX10_block_2 2 rfl rfl)
theorem dX10_block_50 : decode cX10_block 50 = .ok (.iconst 1, 1) := dk_4 (dk_at dksX10_block_2 3 rfl rfl)
theorem dX10_block_51 : decode cX10_block 51 = .ok (.iadd, 1) := dk_96 (dk_at dksX10_block_2 4 rfl rfl)
theorem dX10_block_52 : decode cX10_block 52 = .ok (.invokevirtual 263, 3) := dk_182 1 7 (dk_at dksX10_block_2 5 rfl rfl)
theorem dX10_block_55 : decode cX10_block 55 = .ok (.goto (-19), 3) := dk_167 255 237 (dk_at dksX10_block_2 8 rfl rfl)
theorem dX10_block_58 : decode cX10_block 58 = .ok (.aload_n 0, 1) := dk_42 (dk_at dksX10_block_2 11 rfl rfl)
theorem dX10_block_59 : decode cX10_block 59 = .ok (.invokevirtual 19, 3) := dk_182 0 19 (dk_at dksX10_block_2 12 rfl rfl)
theorem dX10_block_62 : decode cX10_block 62 = .ok (.aload 4, 2) := dk_25 4 (dk_at dksX10_block_2 15 rfl rfl)
theorem dX10_block_64 : decode cX10_block 64 = .ok (.areturn, 1) := dk_176 (dk_at dksX10_block_2 17 rfl rfl)
abbrev cX10_when : ByteArray := prog_11_method_31_code
def yX10_when : MethodName := ⟨RX10, "when", "(LSillBridges$Town;)LSillBridges$When;"⟩
def dkwX10_when_4 : List UInt8 := [187, 1, 57, 89, 5, 21, 5, 2, 183, 1, 59, 176]
abbrev dktX10_when_4 : List UInt8 := dkwX10_when_4 ++ []
def dkwX10_when_3 : List UInt8 := [54, 5, 28, 153, 0, 21, 187, 1, 57, 89, 3, 21, 5, 42, 43, 182, 0, 206, 183, 1, 59, 167, 0, 14]
abbrev dktX10_when_3 : List UInt8 := dkwX10_when_3 ++ dktX10_when_4
def dkwX10_when_2 : List UInt8 := [153, 0, 18, 187, 1, 57, 89, 4, 42, 43, 182, 1, 47, 2, 183, 1, 59, 176, 42, 43, 182, 1, 35]
abbrev dktX10_when_2 : List UInt8 := dkwX10_when_2 ++ dktX10_when_3
def dkwX10_when_1 : List UInt8 := [154, 0, 17, 29, 154, 0, 13, 21, 4, 154, 0, 8, 42, 182, 0, 64, 191, 42, 182, 0, 19, 29]
abbrev dktX10_when_1 : List UInt8 := dkwX10_when_1 ++ dktX10_when_2
def dkwX10_when_0 : List UInt8 := [42, 18, 101, 182, 0, 68, 61, 42, 18, 124, 182, 0, 68, 62, 42, 18, 126, 182, 0, 68, 54, 4, 28]
abbrev dktX10_when_0 : List UInt8 := dkwX10_when_0 ++ dktX10_when_1
theorem dksX10_when_0 : cX10_when.data.toList.drop 0 = dktX10_when_0 := by decide +kernel
theorem dksX10_when_1 : cX10_when.data.toList.drop 23 = dktX10_when_1 := dk_seg dksX10_when_0 23 rfl rfl
theorem dksX10_when_2 : cX10_when.data.toList.drop 45 = dktX10_when_2 := dk_seg dksX10_when_1 22 rfl rfl
theorem dksX10_when_3 : cX10_when.data.toList.drop 68 = dktX10_when_3 := dk_seg dksX10_when_2 23 rfl rfl
theorem dksX10_when_4 : cX10_when.data.toList.drop 92 = dktX10_when_4 := dk_seg dksX10_when_3 24 rfl rfl
theorem dX10_when_0 : decode cX10_when 0 = .ok (.aload_n 0, 1) := dk_42 (dk_at dksX10_when_0 0 rfl rfl)
theorem dX10_when_1 : decode cX10_when 1 = .ok (.ldc 101, 2) := dk_18 101 (dk_at dksX10_when_0 1 rfl rfl)
theorem dX10_when_3 : decode cX10_when 3 = .ok (.invokevirtual 68, 3) := dk_182 0 68 (dk_at dksX10_when_0 3 rfl rfl)
theorem dX10_when_6 : decode cX10_when 6 = .ok (.istore_n 2, 1) := dk_61 (dk_at dksX10_when_0 6 rfl rfl)
theorem dX10_when_7 : decode cX10_when 7 = .ok (.aload_n 0, 1) := dk_42 (dk_at dksX10_when_0 7 rfl rfl)
theorem dX10_when_8 : decode cX10_when 8 = .ok (.ldc 124, 2) := dk_18 124 (dk_at dksX10_when_0 8 rfl rfl)
theorem dX10_when_10 : decode cX10_when 10 = .ok (.invokevirtual 68, 3) := dk_182 0 68 (dk_at dksX10_when_0 10 rfl rfl)
theorem dX10_when_13 : decode cX10_when 13 = .ok (.istore_n 3, 1) := dk_62 (dk_at dksX10_when_0 13 rfl rfl)
theorem dX10_when_14 : decode cX10_when 14 = .ok (.aload_n 0, 1) := dk_42 (dk_at dksX10_when_0 14 rfl rfl)
theorem dX10_when_15 : decode cX10_when 15 = .ok (.ldc 126, 2) := dk_18 126 (dk_at dksX10_when_0 15 rfl rfl)
theorem dX10_when_17 : decode cX10_when 17 = .ok (.invokevirtual 68, 3) := dk_182 0 68 (dk_at dksX10_when_0 17 rfl rfl)
theorem dX10_when_20 : decode cX10_when 20 = .ok (.istore 4, 2) := dk_54 4 (dk_at dksX10_when_0 20 rfl rfl)
theorem dX10_when_22 : decode cX10_when 22 = .ok (.iload_n 2, 1) := dk_28 (dk_at dksX10_when_0 22 rfl rfl)
theorem dX10_when_23 : decode cX10_when 23 = .ok (.ifCond .ne 17, 3) := dk_154 0 17 (dk_at dksX10_when_1 0 rfl rfl)
theorem dX10_when_26 : decode cX10_when 26 = .ok (.iload_n 3, 1) := dk_29 (dk_at dksX10_when_1 3 rfl rfl)
theorem dX10_when_27 : decode cX10_when 27 = .ok (.ifCond .ne 13, 3) := dk_154 0 13 (dk_at dksX10_when_1 4 rfl rfl)
theorem dX10_when_30 : decode cX10_when 30 = .ok (.iload 4, 2) := dk_21 4 (dk_at dksX10_when_1 7 rfl rfl)
theorem dX10_when_32 : decode cX10_when 32 = .ok (.ifCond .ne 8, 3) := dk_154 0 8 (dk_at dksX10_when_1 9 rfl rfl)
theorem dX10_when_35 : decode cX10_when 35 = .ok (.aload_n 0, 1) := dk_42 (dk_at dksX10_when_1 12 rfl rfl)
theorem dX10_when_36 : decode cX10_when 36 = .ok (.invokevirtual 64, 3) := dk_182 0 64 (dk_at dksX10_when_1 13 rfl rfl)
theorem dX10_when_39 : decode cX10_when 39 = .ok (.athrow, 1) := dk_191 (dk_at dksX10_when_1 16 rfl rfl)
theorem dX10_when_40 : decode cX10_when 40 = .ok (.aload_n 0, 1) := dk_42 (dk_at dksX10_when_1 17 rfl rfl)
theorem dX10_when_41 : decode cX10_when 41 = .ok (.invokevirtual 19, 3) := dk_182 0 19 (dk_at dksX10_when_1 18 rfl rfl)
theorem dX10_when_44 : decode cX10_when 44 = .ok (.iload_n 3, 1) := dk_29 (dk_at dksX10_when_1 21 rfl rfl)
theorem dX10_when_45 : decode cX10_when 45 = .ok (.ifCond .eq 18, 3) := dk_153 0 18 (dk_at dksX10_when_2 0 rfl rfl)
theorem dX10_when_48 : decode cX10_when 48 = .ok (.new 313, 3) := dk_187 1 57 (dk_at dksX10_when_2 3 rfl rfl)
theorem dX10_when_51 : decode cX10_when 51 = .ok (.dup, 1) := dk_89 (dk_at dksX10_when_2 6 rfl rfl)
theorem dX10_when_52 : decode cX10_when 52 = .ok (.iconst 1, 1) := dk_4 (dk_at dksX10_when_2 7 rfl rfl)
theorem dX10_when_53 : decode cX10_when 53 = .ok (.aload_n 0, 1) := dk_42 (dk_at dksX10_when_2 8 rfl rfl)
theorem dX10_when_54 : decode cX10_when 54 = .ok (.aload_n 1, 1) := dk_43 (dk_at dksX10_when_2 9 rfl rfl)
theorem dX10_when_55 : decode cX10_when 55 = .ok (.invokevirtual 303, 3) := dk_182 1 47 (dk_at dksX10_when_2 10 rfl rfl)
theorem dX10_when_58 : decode cX10_when 58 = .ok (.iconst (-1), 1) := dk_2 (dk_at dksX10_when_2 13 rfl rfl)
theorem dX10_when_59 : decode cX10_when 59 = .ok (.invokespecial 315, 3) := dk_183 1 59 (dk_at dksX10_when_2 14 rfl rfl)
theorem dX10_when_62 : decode cX10_when 62 = .ok (.areturn, 1) := dk_176 (dk_at dksX10_when_2 17 rfl rfl)
theorem dX10_when_63 : decode cX10_when 63 = .ok (.aload_n 0, 1) := dk_42 (dk_at dksX10_when_2 18 rfl rfl)
theorem dX10_when_64 : decode cX10_when 64 = .ok (.aload_n 1, 1) := dk_43 (dk_at dksX10_when_2 19 rfl rfl)
theorem dX10_when_65 : decode cX10_when 65 = .ok (.invokevirtual 291, 3) := dk_182 1 35 (dk_at dksX10_when_2 20 rfl rfl)
theorem dX10_when_68 : decode cX10_when 68 = .ok (.istore 5, 2) := dk_54 5 (dk_at dksX10_when_3 0 rfl rfl)
theorem dX10_when_70 : decode cX10_when 70 = .ok (.iload_n 2, 1) := dk_28 (dk_at dksX10_when_3 2 rfl rfl)
theorem dX10_when_71 : decode cX10_when 71 = .ok (.ifCond .eq 21, 3) := dk_153 0 21 (dk_at dksX10_when_3 3 rfl rfl)
theorem dX10_when_74 : decode cX10_when 74 = .ok (.new 313, 3) := dk_187 1 57 (dk_at dksX10_when_3 6 rfl rfl)
theorem dX10_when_77 : decode cX10_when 77 = .ok (.dup, 1) := dk_89 (dk_at dksX10_when_3 9 rfl rfl)
theorem dX10_when_78 : decode cX10_when 78 = .ok (.iconst 0, 1) := dk_3 (dk_at dksX10_when_3 10 rfl rfl)
theorem dX10_when_79 : decode cX10_when 79 = .ok (.iload 5, 2) := dk_21 5 (dk_at dksX10_when_3 11 rfl rfl)
theorem dX10_when_81 : decode cX10_when 81 = .ok (.aload_n 0, 1) := dk_42 (dk_at dksX10_when_3 13 rfl rfl)
theorem dX10_when_82 : decode cX10_when 82 = .ok (.aload_n 1, 1) := dk_43 (dk_at dksX10_when_3 14 rfl rfl)
theorem dX10_when_83 : decode cX10_when 83 = .ok (.invokevirtual 206, 3) := dk_182 0 206 (dk_at dksX10_when_3 15 rfl rfl)
theorem dX10_when_86 : decode cX10_when 86 = .ok (.invokespecial 315, 3) := dk_183 1 59 (dk_at dksX10_when_3 18 rfl rfl)
theorem dX10_when_89 : decode cX10_when 89 = .ok (.goto 14, 3) := dk_167 0 14 (dk_at dksX10_when_3 21 rfl rfl)
theorem dX10_when_92 : decode cX10_when 92 = .ok (.new 313, 3) := dk_187 1 57 (dk_at dksX10_when_4 0 rfl rfl)
theorem dX10_when_95 : decode cX10_when 95 = .ok (.dup, 1) := dk_89 (dk_at dksX10_when_4 3 rfl rfl)
theorem dX10_when_96 : decode cX10_when 96 = .ok (.iconst 2, 1) := dk_5 (dk_at dksX10_when_4 4 rfl rfl)
theorem dX10_when_97 : decode cX10_when 97 = .ok (.iload 5, 2) := dk_21 5 (dk_at dksX10_when_4 5 rfl rfl)
theorem dX10_when_99 : decode cX10_when 99 = .ok (.iconst (-1), 1) := dk_2 (dk_at dksX10_when_4 7 rfl rfl)
theorem dX10_when_100 : decode cX10_when 100 = .ok (.invokespecial 315, 3) := dk_183 1 59 (dk_at dksX10_when_4 8 rfl rfl)
theorem dX10_when_103 : decode cX10_when 103 = .ok (.areturn, 1) := dk_176 (dk_at dksX10_when_4 11 rfl rfl)
abbrev cX10_bridge : ByteArray := prog_11_method_16_code
def yX10_bridge : MethodName := ⟨RX10, "bridge", "(LSillBridges$Town;)I"⟩
def dkwX10_bridge_0 : List UInt8 := [42, 43, 42, 182, 0, 142, 182, 0, 160, 182, 0, 156, 172]
abbrev dktX10_bridge_0 : List UInt8 := dkwX10_bridge_0 ++ []
theorem dksX10_bridge_0 : cX10_bridge.data.toList.drop 0 = dktX10_bridge_0 := by decide +kernel
theorem dX10_bridge_0 : decode cX10_bridge 0 = .ok (.aload_n 0, 1) := dk_42 (dk_at dksX10_bridge_0 0 rfl rfl)
theorem dX10_bridge_1 : decode cX10_bridge 1 = .ok (.aload_n 1, 1) := dk_43 (dk_at dksX10_bridge_0 1 rfl rfl)
theorem dX10_bridge_2 : decode cX10_bridge 2 = .ok (.aload_n 0, 1) := dk_42 (dk_at dksX10_bridge_0 2 rfl rfl)
theorem dX10_bridge_3 : decode cX10_bridge 3 = .ok (.invokevirtual 142, 3) := dk_182 0 142 (dk_at dksX10_bridge_0 3 rfl rfl)
theorem dX10_bridge_6 : decode cX10_bridge 6 = .ok (.invokevirtual 160, 3) := dk_182 0 160 (dk_at dksX10_bridge_0 6 rfl rfl)
theorem dX10_bridge_9 : decode cX10_bridge 9 = .ok (.invokevirtual 156, 3) := dk_182 0 156 (dk_at dksX10_bridge_0 9 rfl rfl)
theorem dX10_bridge_12 : decode cX10_bridge 12 = .ok (.ireturn, 1) := dk_172 (dk_at dksX10_bridge_0 12 rfl rfl)
abbrev cX10_person : ByteArray := prog_11_method_17_code
def yX10_person : MethodName := ⟨RX10, "person", "(LSillBridges$Town;)I"⟩
def dkwX10_person_0 : List UInt8 := [42, 43, 42, 182, 0, 142, 182, 0, 163, 182, 0, 156, 172]
abbrev dktX10_person_0 : List UInt8 := dkwX10_person_0 ++ []
theorem dksX10_person_0 : cX10_person.data.toList.drop 0 = dktX10_person_0 := by decide +kernel
theorem dX10_person_0 : decode cX10_person 0 = .ok (.aload_n 0, 1) := dk_42 (dk_at dksX10_person_0 0 rfl rfl)
theorem dX10_person_1 : decode cX10_person 1 = .ok (.aload_n 1, 1) := dk_43 (dk_at dksX10_person_0 1 rfl rfl)
theorem dX10_person_2 : decode cX10_person 2 = .ok (.aload_n 0, 1) := dk_42 (dk_at dksX10_person_0 2 rfl rfl)
theorem dX10_person_3 : decode cX10_person 3 = .ok (.invokevirtual 142, 3) := dk_182 0 142 (dk_at dksX10_person_0 3 rfl rfl)
theorem dX10_person_6 : decode cX10_person 6 = .ok (.invokevirtual 163, 3) := dk_182 0 163 (dk_at dksX10_person_0 6 rfl rfl)
theorem dX10_person_9 : decode cX10_person 9 = .ok (.invokevirtual 156, 3) := dk_182 0 156 (dk_at dksX10_person_0 9 rfl rfl)
theorem dX10_person_12 : decode cX10_person 12 = .ok (.ireturn, 1) := dk_172 (dk_at dksX10_person_0 12 rfl rfl)
abbrev cX10_plain : ByteArray := prog_11_method_28_code
def yX10_plain : MethodName := ⟨RX10, "plain", "(LSillBridges$Town;)LSillBridges$Step;"⟩
def dkwX10_plain_4 : List UInt8 := [2, 2, 183, 1, 41, 167, 0, 10, 187, 1, 44, 89, 183, 1, 46, 176]
abbrev dktX10_plain_4 : List UInt8 := dkwX10_plain_4 ++ []
def dkwX10_plain_3 : List UInt8 := [42, 43, 182, 1, 39, 183, 1, 41, 176, 21, 5, 153, 0, 21, 187, 1, 37, 89, 6, 42, 43, 182, 1, 35]
abbrev dktX10_plain_3 : List UInt8 := dkwX10_plain_3 ++ dktX10_plain_4
def dkwX10_plain_2 : List UInt8 := [182, 1, 31, 176, 21, 4, 153, 0, 27, 42, 43, 182, 1, 35, 54, 6, 187, 1, 37, 89, 5, 21, 6, 2]
abbrev dktX10_plain_2 : List UInt8 := dkwX10_plain_2 ++ dktX10_plain_3
def dkwX10_plain_1 : List UInt8 := [18, 120, 182, 0, 68, 54, 5, 42, 182, 0, 19, 28, 154, 0, 7, 29, 153, 0, 10, 42, 43, 29]
abbrev dktX10_plain_1 : List UInt8 := dkwX10_plain_1 ++ dktX10_plain_2
def dkwX10_plain_0 : List UInt8 := [42, 18, 112, 182, 0, 68, 61, 42, 18, 114, 182, 0, 68, 62, 42, 18, 118, 182, 0, 68, 54, 4, 42]
abbrev dktX10_plain_0 : List UInt8 := dkwX10_plain_0 ++ dktX10_plain_1
theorem dksX10_plain_0 : cX10_plain.data.toList.drop 0 = dktX10_plain_0 := by decide +kernel
theorem dksX10_plain_1 : cX10_plain.data.toList.drop 23 = dktX10_plain_1 := dk_seg dksX10_plain_0 23 rfl rfl
theorem dksX10_plain_2 : cX10_plain.data.toList.drop 45 = dktX10_plain_2 := dk_seg dksX10_plain_1 22 rfl rfl
theorem dksX10_plain_3 : cX10_plain.data.toList.drop 69 = dktX10_plain_3 := dk_seg dksX10_plain_2 24 rfl rfl
theorem dksX10_plain_4 : cX10_plain.data.toList.drop 93 = dktX10_plain_4 := dk_seg dksX10_plain_3 24 rfl rfl
theorem dX10_plain_0 : decode cX10_plain 0 = .ok (.aload_n 0, 1) := dk_42 (dk_at dksX10_plain_0 0 rfl rfl)
theorem dX10_plain_1 : decode cX10_plain 1 = .ok (.ldc 112, 2) := dk_18 112 (dk_at dksX10_plain_0 1 rfl rfl)
theorem dX10_plain_3 : decode cX10_plain 3 = .ok (.invokevirtual 68, 3) := dk_182 0 68 (dk_at dksX10_plain_0 3 rfl rfl)
theorem dX10_plain_6 : decode cX10_plain 6 = .ok (.istore_n 2, 1) := dk_61 (dk_at dksX10_plain_0 6 rfl rfl)
theorem dX10_plain_7 : decode cX10_plain 7 = .ok (.aload_n 0, 1) := dk_42 (dk_at dksX10_plain_0 7 rfl rfl)
theorem dX10_plain_8 : decode cX10_plain 8 = .ok (.ldc 114, 2) := dk_18 114 (dk_at dksX10_plain_0 8 rfl rfl)
theorem dX10_plain_10 : decode cX10_plain 10 = .ok (.invokevirtual 68, 3) := dk_182 0 68 (dk_at dksX10_plain_0 10 rfl rfl)
theorem dX10_plain_13 : decode cX10_plain 13 = .ok (.istore_n 3, 1) := dk_62 (dk_at dksX10_plain_0 13 rfl rfl)
theorem dX10_plain_14 : decode cX10_plain 14 = .ok (.aload_n 0, 1) := dk_42 (dk_at dksX10_plain_0 14 rfl rfl)
theorem dX10_plain_15 : decode cX10_plain 15 = .ok (.ldc 118, 2) := dk_18 118 (dk_at dksX10_plain_0 15 rfl rfl)
theorem dX10_plain_17 : decode cX10_plain 17 = .ok (.invokevirtual 68, 3) := dk_182 0 68 (dk_at dksX10_plain_0 17 rfl rfl)
theorem dX10_plain_20 : decode cX10_plain 20 = .ok (.istore 4, 2) := dk_54 4 (dk_at dksX10_plain_0 20 rfl rfl)
theorem dX10_plain_22 : decode cX10_plain 22 = .ok (.aload_n 0, 1) := dk_42 (dk_at dksX10_plain_0 22 rfl rfl)
theorem dX10_plain_23 : decode cX10_plain 23 = .ok (.ldc 120, 2) := dk_18 120 (dk_at dksX10_plain_1 0 rfl rfl)
theorem dX10_plain_25 : decode cX10_plain 25 = .ok (.invokevirtual 68, 3) := dk_182 0 68 (dk_at dksX10_plain_1 2 rfl rfl)
theorem dX10_plain_28 : decode cX10_plain 28 = .ok (.istore 5, 2) := dk_54 5 (dk_at dksX10_plain_1 5 rfl rfl)
theorem dX10_plain_30 : decode cX10_plain 30 = .ok (.aload_n 0, 1) := dk_42 (dk_at dksX10_plain_1 7 rfl rfl)
theorem dX10_plain_31 : decode cX10_plain 31 = .ok (.invokevirtual 19, 3) := dk_182 0 19 (dk_at dksX10_plain_1 8 rfl rfl)
theorem dX10_plain_34 : decode cX10_plain 34 = .ok (.iload_n 2, 1) := dk_28 (dk_at dksX10_plain_1 11 rfl rfl)
theorem dX10_plain_35 : decode cX10_plain 35 = .ok (.ifCond .ne 7, 3) := dk_154 0 7 (dk_at dksX10_plain_1 12 rfl rfl)
theorem dX10_plain_38 : decode cX10_plain 38 = .ok (.iload_n 3, 1) := dk_29 (dk_at dksX10_plain_1 15 rfl rfl)
theorem dX10_plain_39 : decode cX10_plain 39 = .ok (.ifCond .eq 10, 3) := dk_153 0 10 (dk_at dksX10_plain_1 16 rfl rfl)
theorem dX10_plain_42 : decode cX10_plain 42 = .ok (.aload_n 0, 1) := dk_42 (dk_at dksX10_plain_1 19 rfl rfl)
theorem dX10_plain_43 : decode cX10_plain 43 = .ok (.aload_n 1, 1) := dk_43 (dk_at dksX10_plain_1 20 rfl rfl)
theorem dX10_plain_44 : decode cX10_plain 44 = .ok (.iload_n 3, 1) := dk_29 (dk_at dksX10_plain_1 21 rfl rfl)
theorem dX10_plain_45 : decode cX10_plain 45 = .ok (.invokevirtual 287, 3) := dk_182 1 31 (dk_at dksX10_plain_2 0 rfl rfl)
theorem dX10_plain_48 : decode cX10_plain 48 = .ok (.areturn, 1) := dk_176 (dk_at dksX10_plain_2 3 rfl rfl)
theorem dX10_plain_49 : decode cX10_plain 49 = .ok (.iload 4, 2) := dk_21 4 (dk_at dksX10_plain_2 4 rfl rfl)
theorem dX10_plain_51 : decode cX10_plain 51 = .ok (.ifCond .eq 27, 3) := dk_153 0 27 (dk_at dksX10_plain_2 6 rfl rfl)
theorem dX10_plain_54 : decode cX10_plain 54 = .ok (.aload_n 0, 1) := dk_42 (dk_at dksX10_plain_2 9 rfl rfl)
theorem dX10_plain_55 : decode cX10_plain 55 = .ok (.aload_n 1, 1) := dk_43 (dk_at dksX10_plain_2 10 rfl rfl)
theorem dX10_plain_56 : decode cX10_plain 56 = .ok (.invokevirtual 291, 3) := dk_182 1 35 (dk_at dksX10_plain_2 11 rfl rfl)
theorem dX10_plain_59 : decode cX10_plain 59 = .ok (.istore 6, 2) := dk_54 6 (dk_at dksX10_plain_2 14 rfl rfl)
theorem dX10_plain_61 : decode cX10_plain 61 = .ok (.new 293, 3) := dk_187 1 37 (dk_at dksX10_plain_2 16 rfl rfl)
theorem dX10_plain_64 : decode cX10_plain 64 = .ok (.dup, 1) := dk_89 (dk_at dksX10_plain_2 19 rfl rfl)
theorem dX10_plain_65 : decode cX10_plain 65 = .ok (.iconst 2, 1) := dk_5 (dk_at dksX10_plain_2 20 rfl rfl)
theorem dX10_plain_66 : decode cX10_plain 66 = .ok (.iload 6, 2) := dk_21 6 (dk_at dksX10_plain_2 21 rfl rfl)
theorem dX10_plain_68 : decode cX10_plain 68 = .ok (.iconst (-1), 1) := dk_2 (dk_at dksX10_plain_2 23 rfl rfl)
theorem dX10_plain_69 : decode cX10_plain 69 = .ok (.aload_n 0, 1) := dk_42 (dk_at dksX10_plain_3 0 rfl rfl)
theorem dX10_plain_70 : decode cX10_plain 70 = .ok (.aload_n 1, 1) := dk_43 (dk_at dksX10_plain_3 1 rfl rfl)
theorem dX10_plain_71 : decode cX10_plain 71 = .ok (.invokevirtual 295, 3) := dk_182 1 39 (dk_at dksX10_plain_3 2 rfl rfl)
theorem dX10_plain_74 : decode cX10_plain 74 = .ok (.invokespecial 297, 3) := dk_183 1 41 (dk_at dksX10_plain_3 5 rfl rfl)
theorem dX10_plain_77 : decode cX10_plain 77 = .ok (.areturn, 1) := dk_176 (dk_at dksX10_plain_3 8 rfl rfl)
theorem dX10_plain_78 : decode cX10_plain 78 = .ok (.iload 5, 2) := dk_21 5 (dk_at dksX10_plain_3 9 rfl rfl)
theorem dX10_plain_80 : decode cX10_plain 80 = .ok (.ifCond .eq 21, 3) := dk_153 0 21 (dk_at dksX10_plain_3 11 rfl rfl)
theorem dX10_plain_83 : decode cX10_plain 83 = .ok (.new 293, 3) := dk_187 1 37 (dk_at dksX10_plain_3 14 rfl rfl)
theorem dX10_plain_86 : decode cX10_plain 86 = .ok (.dup, 1) := dk_89 (dk_at dksX10_plain_3 17 rfl rfl)
theorem dX10_plain_87 : decode cX10_plain 87 = .ok (.iconst 3, 1) := dk_6 (dk_at dksX10_plain_3 18 rfl rfl)
theorem dX10_plain_88 : decode cX10_plain 88 = .ok (.aload_n 0, 1) := dk_42 (dk_at dksX10_plain_3 19 rfl rfl)
theorem dX10_plain_89 : decode cX10_plain 89 = .ok (.aload_n 1, 1) := dk_43 (dk_at dksX10_plain_3 20 rfl rfl)
theorem dX10_plain_90 : decode cX10_plain 90 = .ok (.invokevirtual 291, 3) := dk_182 1 35 (dk_at dksX10_plain_3 21 rfl rfl)
theorem dX10_plain_93 : decode cX10_plain 93 = .ok (.iconst (-1), 1) := dk_2 (dk_at dksX10_plain_4 0 rfl rfl)
theorem dX10_plain_94 : decode cX10_plain 94 = .ok (.iconst (-1), 1) := dk_2 (dk_at dksX10_plain_4 1 rfl rfl)
theorem dX10_plain_95 : decode cX10_plain 95 = .ok (.invokespecial 297, 3) := dk_183 1 41 (dk_at dksX10_plain_4 2 rfl rfl)
theorem dX10_plain_98 : decode cX10_plain 98 = .ok (.goto 10, 3) := dk_167 0 10 (dk_at dksX10_plain_4 5 rfl rfl)
theorem dX10_plain_101 : decode cX10_plain 101 = .ok (.new 300, 3) := dk_187 1 44 (dk_at dksX10_plain_4 8 rfl rfl)
theorem dX10_plain_104 : decode cX10_plain 104 = .ok (.dup, 1) := dk_89 (dk_at dksX10_plain_4 11 rfl rfl)
theorem dX10_plain_105 : decode cX10_plain 105 = .ok (.invokespecial 302, 3) := dk_183 1 46 (dk_at dksX10_plain_4 12 rfl rfl)
theorem dX10_plain_108 : decode cX10_plain 108 = .ok (.areturn, 1) := dk_176 (dk_at dksX10_plain_4 15 rfl rfl)
abbrev cX10_going : ByteArray := prog_11_method_29_code
def yX10_going : MethodName := ⟨RX10, "going", "(LSillBridges$Town;Z)LSillBridges$Step;"⟩
def dkwX10_going_3 : List UInt8 := [182, 1, 47, 183, 1, 41, 176]
abbrev dktX10_going_3 : List UInt8 := dkwX10_going_3 ++ []
def dkwX10_going_2 : List UInt8 := [18, 116, 182, 0, 202, 187, 1, 37, 89, 28, 153, 0, 7, 4, 167, 0, 4, 3, 29, 21, 4, 42, 43]
abbrev dktX10_going_2 : List UInt8 := dkwX10_going_2 ++ dktX10_going_3
def dkwX10_going_1 : List UInt8 := [54, 4, 29, 21, 4, 160, 0, 17, 42, 180, 0, 3, 180, 0, 55, 8, 21, 5, 182, 0, 59, 191, 42]
abbrev dktX10_going_1 : List UInt8 := dkwX10_going_1 ++ dktX10_going_2
def dkwX10_going_0 : List UInt8 := [42, 43, 182, 1, 35, 62, 2, 54, 4, 28, 153, 0, 36, 42, 180, 0, 29, 54, 5, 42, 43, 182, 1, 35]
abbrev dktX10_going_0 : List UInt8 := dkwX10_going_0 ++ dktX10_going_1
theorem dksX10_going_0 : cX10_going.data.toList.drop 0 = dktX10_going_0 := by decide +kernel
theorem dksX10_going_1 : cX10_going.data.toList.drop 24 = dktX10_going_1 := dk_seg dksX10_going_0 24 rfl rfl
theorem dksX10_going_2 : cX10_going.data.toList.drop 47 = dktX10_going_2 := dk_seg dksX10_going_1 23 rfl rfl
theorem dksX10_going_3 : cX10_going.data.toList.drop 70 = dktX10_going_3 := dk_seg dksX10_going_2 23 rfl rfl
theorem dX10_going_0 : decode cX10_going 0 = .ok (.aload_n 0, 1) := dk_42 (dk_at dksX10_going_0 0 rfl rfl)
theorem dX10_going_1 : decode cX10_going 1 = .ok (.aload_n 1, 1) := dk_43 (dk_at dksX10_going_0 1 rfl rfl)
theorem dX10_going_2 : decode cX10_going 2 = .ok (.invokevirtual 291, 3) := dk_182 1 35 (dk_at dksX10_going_0 2 rfl rfl)
theorem dX10_going_5 : decode cX10_going 5 = .ok (.istore_n 3, 1) := dk_62 (dk_at dksX10_going_0 5 rfl rfl)
theorem dX10_going_6 : decode cX10_going 6 = .ok (.iconst (-1), 1) := dk_2 (dk_at dksX10_going_0 6 rfl rfl)
theorem dX10_going_7 : decode cX10_going 7 = .ok (.istore 4, 2) := dk_54 4 (dk_at dksX10_going_0 7 rfl rfl)
theorem dX10_going_9 : decode cX10_going 9 = .ok (.iload_n 2, 1) := dk_28 (dk_at dksX10_going_0 9 rfl rfl)
theorem dX10_going_10 : decode cX10_going 10 = .ok (.ifCond .eq 36, 3) := dk_153 0 36 (dk_at dksX10_going_0 10 rfl rfl)
theorem dX10_going_13 : decode cX10_going 13 = .ok (.aload_n 0, 1) := dk_42 (dk_at dksX10_going_0 13 rfl rfl)
theorem dX10_going_14 : decode cX10_going 14 = .ok (.getfield 29, 3) := dk_180 0 29 (dk_at dksX10_going_0 14 rfl rfl)
theorem dX10_going_17 : decode cX10_going 17 = .ok (.istore 5, 2) := dk_54 5 (dk_at dksX10_going_0 17 rfl rfl)
theorem dX10_going_19 : decode cX10_going 19 = .ok (.aload_n 0, 1) := dk_42 (dk_at dksX10_going_0 19 rfl rfl)
theorem dX10_going_20 : decode cX10_going 20 = .ok (.aload_n 1, 1) := dk_43 (dk_at dksX10_going_0 20 rfl rfl)
theorem dX10_going_21 : decode cX10_going 21 = .ok (.invokevirtual 291, 3) := dk_182 1 35 (dk_at dksX10_going_0 21 rfl rfl)
theorem dX10_going_24 : decode cX10_going 24 = .ok (.istore 4, 2) := dk_54 4 (dk_at dksX10_going_1 0 rfl rfl)
theorem dX10_going_26 : decode cX10_going 26 = .ok (.iload_n 3, 1) := dk_29 (dk_at dksX10_going_1 2 rfl rfl)
theorem dX10_going_27 : decode cX10_going 27 = .ok (.iload 4, 2) := dk_21 4 (dk_at dksX10_going_1 3 rfl rfl)
theorem dX10_going_29 : decode cX10_going 29 = .ok (.if_icmp .ne 17, 3) := dk_160 0 17 (dk_at dksX10_going_1 5 rfl rfl)
theorem dX10_going_32 : decode cX10_going 32 = .ok (.aload_n 0, 1) := dk_42 (dk_at dksX10_going_1 8 rfl rfl)
theorem dX10_going_33 : decode cX10_going 33 = .ok (.getfield 3, 3) := dk_180 0 3 (dk_at dksX10_going_1 9 rfl rfl)
theorem dX10_going_36 : decode cX10_going 36 = .ok (.getfield 55, 3) := dk_180 0 55 (dk_at dksX10_going_1 12 rfl rfl)
theorem dX10_going_39 : decode cX10_going 39 = .ok (.iconst 5, 1) := dk_8 (dk_at dksX10_going_1 15 rfl rfl)
theorem dX10_going_40 : decode cX10_going 40 = .ok (.iload 5, 2) := dk_21 5 (dk_at dksX10_going_1 16 rfl rfl)
theorem dX10_going_42 : decode cX10_going 42 = .ok (.invokevirtual 59, 3) := dk_182 0 59 (dk_at dksX10_going_1 18 rfl rfl)
theorem dX10_going_45 : decode cX10_going 45 = .ok (.athrow, 1) := dk_191 (dk_at dksX10_going_1 21 rfl rfl)
theorem dX10_going_46 : decode cX10_going 46 = .ok (.aload_n 0, 1) := dk_42 (dk_at dksX10_going_1 22 rfl rfl)
theorem dX10_going_47 : decode cX10_going 47 = .ok (.ldc 116, 2) := dk_18 116 (dk_at dksX10_going_2 0 rfl rfl)
theorem dX10_going_49 : decode cX10_going 49 = .ok (.invokevirtual 202, 3) := dk_182 0 202 (dk_at dksX10_going_2 2 rfl rfl)
theorem dX10_going_52 : decode cX10_going 52 = .ok (.new 293, 3) := dk_187 1 37 (dk_at dksX10_going_2 5 rfl rfl)
theorem dX10_going_55 : decode cX10_going 55 = .ok (.dup, 1) := dk_89 (dk_at dksX10_going_2 8 rfl rfl)
theorem dX10_going_56 : decode cX10_going 56 = .ok (.iload_n 2, 1) := dk_28 (dk_at dksX10_going_2 9 rfl rfl)
theorem dX10_going_57 : decode cX10_going 57 = .ok (.ifCond .eq 7, 3) := dk_153 0 7 (dk_at dksX10_going_2 10 rfl rfl)
theorem dX10_going_60 : decode cX10_going 60 = .ok (.iconst 1, 1) := dk_4 (dk_at dksX10_going_2 13 rfl rfl)
theorem dX10_going_61 : decode cX10_going 61 = .ok (.goto 4, 3) := dk_167 0 4 (dk_at dksX10_going_2 14 rfl rfl)
theorem dX10_going_64 : decode cX10_going 64 = .ok (.iconst 0, 1) := dk_3 (dk_at dksX10_going_2 17 rfl rfl)
theorem dX10_going_65 : decode cX10_going 65 = .ok (.iload_n 3, 1) := dk_29 (dk_at dksX10_going_2 18 rfl rfl)
theorem dX10_going_66 : decode cX10_going 66 = .ok (.iload 4, 2) := dk_21 4 (dk_at dksX10_going_2 19 rfl rfl)
theorem dX10_going_68 : decode cX10_going 68 = .ok (.aload_n 0, 1) := dk_42 (dk_at dksX10_going_2 21 rfl rfl)
theorem dX10_going_69 : decode cX10_going 69 = .ok (.aload_n 1, 1) := dk_43 (dk_at dksX10_going_2 22 rfl rfl)
theorem dX10_going_70 : decode cX10_going 70 = .ok (.invokevirtual 303, 3) := dk_182 1 47 (dk_at dksX10_going_3 0 rfl rfl)
theorem dX10_going_73 : decode cX10_going 73 = .ok (.invokespecial 297, 3) := dk_183 1 41 (dk_at dksX10_going_3 3 rfl rfl)
theorem dX10_going_76 : decode cX10_going 76 = .ok (.areturn, 1) := dk_176 (dk_at dksX10_going_3 6 rfl rfl)
abbrev cX10_load : ByteArray := prog_11_method_18_code
def yX10_load : MethodName := ⟨RX10, "load", "(LSillBridges$Town;)I"⟩
def dkwX10_load_0 : List UInt8 := [42, 43, 42, 182, 0, 142, 182, 0, 166, 182, 0, 156, 172]
abbrev dktX10_load_0 : List UInt8 := dkwX10_load_0 ++ []
theorem dksX10_load_0 : cX10_load.data.toList.drop 0 = dktX10_load_0 := by decide +kernel
theorem dX10_load_0 : decode cX10_load 0 = .ok (.aload_n 0, 1) := dk_42 (dk_at dksX10_load_0 0 rfl rfl)
theorem dX10_load_1 : decode cX10_load 1 = .ok (.aload_n 1, 1) := dk_43 (dk_at dksX10_load_0 1 rfl rfl)
theorem dX10_load_2 : decode cX10_load 2 = .ok (.aload_n 0, 1) := dk_42 (dk_at dksX10_load_0 2 rfl rfl)
theorem dX10_load_3 : decode cX10_load 3 = .ok (.invokevirtual 142, 3) := dk_182 0 142 (dk_at dksX10_load_0 3 rfl rfl)
theorem dX10_load_6 : decode cX10_load 6 = .ok (.invokevirtual 166, 3) := dk_182 0 166 (dk_at dksX10_load_0 6 rfl rfl)
theorem dX10_load_9 : decode cX10_load 9 = .ok (.invokevirtual 156, 3) := dk_182 0 156 (dk_at dksX10_load_0 9 rfl rfl)
theorem dX10_load_12 : decode cX10_load 12 = .ok (.ireturn, 1) := dk_172 (dk_at dksX10_load_0 12 rfl rfl)
theorem q162 : (Jvm.Cond.initialized "SillBridges$Reader") ∈ lw_all := lw_g (lw_at lw_m1 19 rfl) rfl
theorem q311 : (Jvm.Cond.fieldLinkNest "SillBridges$Reader" (188 : Nat) "SillBridges$Town" "places" "I" "SillBridges") ∈ lw_tbl := lw_at lw_m1 168 rfl
theorem q315 : (Jvm.Cond.fieldLinkNest "SillBridges$Reader" (199 : Nat) "SillBridges$Town" "bridgeMany" "I" "SillBridges") ∈ lw_tbl := lw_at lw_m1 172 rfl
theorem q320 : (Jvm.Cond.fieldLinkNest "SillBridges$Reader" (232 : Nat) "SillBridges$Town" "people" "I" "SillBridges") ∈ lw_tbl := lw_at lw_m1 177 rfl
theorem q325 : (Jvm.Cond.fieldLinkNest "SillBridges$Reader" (250 : Nat) "SillBridges$Town" "loadMany" "I" "SillBridges") ∈ lw_tbl := lw_at lw_m1 182 rfl
theorem q328 : (Jvm.Cond.fieldLinkNest "SillBridges$Reader" (191 : Nat) "SillBridges$Town" "names" "[J" "SillBridges") ∈ lw_tbl := lw_at lw_m1 185 rfl
theorem q331 : (Jvm.Cond.fieldLinkNest "SillBridges$Reader" (259 : Nat) "SillBridges$Town" "stones" "[I" "SillBridges") ∈ lw_tbl := lw_at lw_m1 188 rfl
theorem q337 : (Jvm.Cond.fieldLinkNest "SillBridges$Reader" (228 : Nat) "SillBridges$Town" "bridges" "[LSillBridges$Bridge;" "SillBridges") ∈ lw_tbl := lw_at lw_m1 194 rfl
theorem q341 : (Jvm.Cond.fieldLinkNest "SillBridges$Reader" (247 : Nat) "SillBridges$Town" "person" "[LSillBridges$Person;" "SillBridges") ∈ lw_tbl := lw_at lw_m1 198 rfl
theorem q345 : (Jvm.Cond.fieldLinkNest "SillBridges$Reader" (253 : Nat) "SillBridges$Town" "load" "[LSillBridges$Load;" "SillBridges") ∈ lw_tbl := lw_at lw_m1 202 rfl
theorem q488 : (Jvm.Cond.fieldLinkNest "SillBridges$Reader" (22 : Nat) "SillBridges" "tape" "[B" "SillBridges") ∈ lw_tbl := lw_at lw_m2 105 rfl
theorem q493 : (Jvm.Cond.fieldLinkNest "SillBridges$Reader" (55 : Nat) "SillBridges" "bad" "LSillBridges$Bad;" "SillBridges") ∈ lw_tbl := lw_at lw_m2 110 rfl
theorem q711 : (Jvm.Cond.instantiable "SillBridges$Reader" (7 : Nat)) ∈ lw_all := lw_g (lw_at lw_m3 88 rfl) rfl
theorem q713 : (Jvm.Cond.instanceMethod ({ cls := "SillBridges$Reader", name := "<init>", desc := "(LSillBridges;I)V" } : Jvm.MethodName)) ∈ lw_all := lw_g (lw_at lw_m3 90 rfl) rfl
theorem q714 : (Jvm.Cond.code ({ cls := "SillBridges$Reader", name := "<init>", desc := "(LSillBridges;I)V" } : Jvm.MethodName) prog_11_method_1_code (3 : Nat) (Option.none : Option Jvm.ClassFile.FieldType)) ∈ lw_all := lw_g (lw_at lw_m3 91 rfl) rfl
theorem q715 : (Jvm.Cond.methodLink "SillBridges$Reader" (9 : Nat) ({ cls := "java/lang/Object", name := "<init>", desc := "()V" } : Jvm.MethodName)) ∈ lw_all := lw_g (lw_at lw_m3 92 rfl) rfl
theorem q716 : (Jvm.Cond.methodLink "SillBridges$Reader" (19 : Nat) ({ cls := "SillBridges$Reader", name := "next", desc := "()V" } : Jvm.MethodName)) ∈ lw_all := lw_g (lw_at lw_m3 93 rfl) rfl
theorem q717 : (Jvm.Cond.privateMethod ({ cls := "SillBridges$Reader", name := "next", desc := "()V" } : Jvm.MethodName)) ∈ lw_tbl := lw_at lw_m3 94 rfl
theorem q718 : (Jvm.Cond.instanceMethod ({ cls := "SillBridges$Reader", name := "next", desc := "()V" } : Jvm.MethodName)) ∈ lw_all := lw_g (lw_at lw_m3 95 rfl) rfl
theorem q719 : (Jvm.Cond.code ({ cls := "SillBridges$Reader", name := "next", desc := "()V" } : Jvm.MethodName) prog_11_method_4_code (1 : Nat) (Option.none : Option Jvm.ClassFile.FieldType)) ∈ lw_all := lw_g (lw_at lw_m3 96 rfl) rfl
theorem q720 : (Jvm.Cond.methodLink "SillBridges$Reader" (35 : Nat) ({ cls := "SillBridges$Reader", name := "isLetter", desc := "(I)Z" } : Jvm.MethodName)) ∈ lw_all := lw_g (lw_at lw_m3 97 rfl) rfl
theorem q721 : (Jvm.Cond.privateMethod ({ cls := "SillBridges$Reader", name := "isLetter", desc := "(I)Z" } : Jvm.MethodName)) ∈ lw_tbl := lw_at lw_m3 98 rfl
theorem q722 : (Jvm.Cond.instanceMethod ({ cls := "SillBridges$Reader", name := "isLetter", desc := "(I)Z" } : Jvm.MethodName)) ∈ lw_all := lw_g (lw_at lw_m3 99 rfl) rfl
theorem q723 : (Jvm.Cond.code ({ cls := "SillBridges$Reader", name := "isLetter", desc := "(I)Z" } : Jvm.MethodName) prog_11_method_2_code (2 : Nat) (Option.some Jvm.ClassFile.FieldType.boolean)) ∈ lw_all := lw_g (lw_at lw_m3 100 rfl) rfl
theorem q724 : (Jvm.Cond.methodLink "SillBridges$Reader" (39 : Nat) ({ cls := "SillBridges$Reader", name := "isDigit", desc := "(I)Z" } : Jvm.MethodName)) ∈ lw_all := lw_g (lw_at lw_m3 101 rfl) rfl
theorem q725 : (Jvm.Cond.privateMethod ({ cls := "SillBridges$Reader", name := "isDigit", desc := "(I)Z" } : Jvm.MethodName)) ∈ lw_tbl := lw_at lw_m3 102 rfl
theorem q726 : (Jvm.Cond.instanceMethod ({ cls := "SillBridges$Reader", name := "isDigit", desc := "(I)Z" } : Jvm.MethodName)) ∈ lw_all := lw_g (lw_at lw_m3 103 rfl) rfl
theorem q727 : (Jvm.Cond.code ({ cls := "SillBridges$Reader", name := "isDigit", desc := "(I)Z" } : Jvm.MethodName) prog_11_method_3_code (2 : Nat) (Option.some Jvm.ClassFile.FieldType.boolean)) ∈ lw_all := lw_g (lw_at lw_m3 104 rfl) rfl
theorem q728 : (Jvm.Cond.fieldLink "SillBridges$Reader" (15 : Nat) "SillBridges$Reader" "size" "I") ∈ lw_all := lw_g (lw_at lw_m3 105 rfl) rfl
theorem q729 : (Jvm.Cond.fieldLink "SillBridges$Reader" (29 : Nat) "SillBridges$Reader" "at" "I") ∈ lw_all := lw_g (lw_at lw_m3 106 rfl) rfl
theorem q730 : (Jvm.Cond.fieldLink "SillBridges$Reader" (26 : Nat) "SillBridges$Reader" "behind" "I") ∈ lw_all := lw_g (lw_at lw_m3 107 rfl) rfl
theorem q731 : (Jvm.Cond.fieldLink "SillBridges$Reader" (32 : Nat) "SillBridges$Reader" "sort" "I") ∈ lw_all := lw_g (lw_at lw_m3 108 rfl) rfl
theorem q732 : (Jvm.Cond.fieldLink "SillBridges$Reader" (42 : Nat) "SillBridges$Reader" "number" "I") ∈ lw_all := lw_g (lw_at lw_m3 109 rfl) rfl
theorem q733 : (Jvm.Cond.fieldLink "SillBridges$Reader" (270 : Nat) "SillBridges$Reader" "steps" "I") ∈ lw_all := lw_g (lw_at lw_m3 110 rfl) rfl
theorem q735 : (Jvm.Cond.fieldLink "SillBridges$Reader" (3 : Nat) "SillBridges$Reader" "this$0" "LSillBridges;") ∈ lw_all := lw_g (lw_at lw_m3 112 rfl) rfl
theorem q736 : (Jvm.Cond.laysFinal "SillBridges$Reader" "SillBridges$Reader" "size" "I") ∈ lw_all := lw_g (lw_at lw_m3 113 rfl) rfl
theorem q737 : (Jvm.Cond.soleField "SillBridges$Reader" "size") ∈ lw_all := lw_g (lw_at lw_m3 114 rfl) rfl
theorem q738 : (Jvm.Cond.lays "SillBridges$Reader" "SillBridges$Reader" "at" "I") ∈ lw_all := lw_g (lw_at lw_m3 115 rfl) rfl
theorem q739 : (Jvm.Cond.soleField "SillBridges$Reader" "at") ∈ lw_all := lw_g (lw_at lw_m3 116 rfl) rfl
theorem q740 : (Jvm.Cond.lays "SillBridges$Reader" "SillBridges$Reader" "behind" "I") ∈ lw_all := lw_g (lw_at lw_m3 117 rfl) rfl
theorem q741 : (Jvm.Cond.soleField "SillBridges$Reader" "behind") ∈ lw_all := lw_g (lw_at lw_m3 118 rfl) rfl
theorem q742 : (Jvm.Cond.lays "SillBridges$Reader" "SillBridges$Reader" "sort" "I") ∈ lw_all := lw_g (lw_at lw_m3 119 rfl) rfl
theorem q743 : (Jvm.Cond.soleField "SillBridges$Reader" "sort") ∈ lw_all := lw_g (lw_at lw_m3 120 rfl) rfl
theorem q744 : (Jvm.Cond.lays "SillBridges$Reader" "SillBridges$Reader" "number" "I") ∈ lw_all := lw_g (lw_at lw_m3 121 rfl) rfl
theorem q745 : (Jvm.Cond.soleField "SillBridges$Reader" "number") ∈ lw_all := lw_g (lw_at lw_m3 122 rfl) rfl
theorem q746 : (Jvm.Cond.lays "SillBridges$Reader" "SillBridges$Reader" "steps" "I") ∈ lw_all := lw_g (lw_at lw_m3 123 rfl) rfl
theorem q747 : (Jvm.Cond.soleField "SillBridges$Reader" "steps") ∈ lw_all := lw_g (lw_at lw_m3 124 rfl) rfl
theorem q748 : (Jvm.Cond.laysFinal "SillBridges$Reader" "SillBridges$Reader" "this$0" "LSillBridges;") ∈ lw_all := lw_g (lw_at lw_m3 125 rfl) rfl
theorem q749 : (Jvm.Cond.soleField "SillBridges$Reader" "this$0") ∈ lw_all := lw_g (lw_at lw_m3 126 rfl) rfl
theorem q750 : (Jvm.Cond.superclass "SillBridges$Reader" "java/lang/Object") ∈ lw_all := lw_g (lw_at lw_m3 127 rfl) rfl
theorem q752 : (Jvm.Cond.instanceMethod ({ cls := "SillBridges$Reader", name := "town", desc := "(LSillBridges$Town;)V" } : Jvm.MethodName)) ∈ lw_all := lw_g (lw_at lw_m3 129 rfl) rfl
theorem q753 : (Jvm.Cond.selects "SillBridges$Reader" ({ cls := "SillBridges$Reader", name := "town", desc := "(LSillBridges$Town;)V" } : Jvm.MethodName) ({ cls := "SillBridges$Reader", name := "town", desc := "(LSillBridges$Town;)V" } : Jvm.MethodName)) ∈ lw_all := lw_g (lw_at lw_m3 130 rfl) rfl
theorem q754 : (Jvm.Cond.code ({ cls := "SillBridges$Reader", name := "town", desc := "(LSillBridges$Town;)V" } : Jvm.MethodName) prog_11_method_19_code (2 : Nat) (Option.none : Option Jvm.ClassFile.FieldType)) ∈ lw_all := lw_g (lw_at lw_m3 131 rfl) rfl
theorem q755 : (Jvm.Cond.stringRef "SillBridges$Reader" (75 : Nat) "place") ∈ lw_tbl := lw_at lw_m3 132 rfl
theorem q756 : (Jvm.Cond.methodLink "SillBridges$Reader" (68 : Nat) ({ cls := "SillBridges$Reader", name := "isWord", desc := "(Ljava/lang/String;)Z" } : Jvm.MethodName)) ∈ lw_all := lw_g (lw_at lw_m3 133 rfl) rfl
theorem q757 : (Jvm.Cond.privateMethod ({ cls := "SillBridges$Reader", name := "isWord", desc := "(Ljava/lang/String;)Z" } : Jvm.MethodName)) ∈ lw_tbl := lw_at lw_m3 134 rfl
theorem q758 : (Jvm.Cond.instanceMethod ({ cls := "SillBridges$Reader", name := "isWord", desc := "(Ljava/lang/String;)Z" } : Jvm.MethodName)) ∈ lw_all := lw_g (lw_at lw_m3 135 rfl) rfl
theorem q759 : (Jvm.Cond.code ({ cls := "SillBridges$Reader", name := "isWord", desc := "(Ljava/lang/String;)Z" } : Jvm.MethodName) prog_11_method_5_code (3 : Nat) (Option.some Jvm.ClassFile.FieldType.boolean)) ∈ lw_all := lw_g (lw_at lw_m3 136 rfl) rfl
theorem q760 : (Jvm.Cond.methodLink "SillBridges$Reader" (45 : Nat) ({ cls := "java/lang/String", name := "length", desc := "()I" } : Jvm.MethodName)) ∈ lw_all := lw_g (lw_at lw_m3 137 rfl) rfl
theorem q770 : (Jvm.Cond.methodLink "SillBridges$Reader" (51 : Nat) ({ cls := "java/lang/String", name := "charAt", desc := "(I)C" } : Jvm.MethodName)) ∈ lw_all := lw_g (lw_at lw_m3 147 rfl) rfl
theorem q808 : (Jvm.Cond.methodLink "SillBridges$Reader" (169 : Nat) ({ cls := "SillBridges$Reader", name := "newPlace", desc := "(LSillBridges$Town;)V" } : Jvm.MethodName)) ∈ lw_all := lw_g (lw_at lw_m3 185 rfl) rfl
theorem q809 : (Jvm.Cond.privateMethod ({ cls := "SillBridges$Reader", name := "newPlace", desc := "(LSillBridges$Town;)V" } : Jvm.MethodName)) ∈ lw_tbl := lw_at lw_m3 186 rfl
theorem q810 : (Jvm.Cond.instanceMethod ({ cls := "SillBridges$Reader", name := "newPlace", desc := "(LSillBridges$Town;)V" } : Jvm.MethodName)) ∈ lw_all := lw_g (lw_at lw_m3 187 rfl) rfl
theorem q811 : (Jvm.Cond.code ({ cls := "SillBridges$Reader", name := "newPlace", desc := "(LSillBridges$Town;)V" } : Jvm.MethodName) prog_11_method_20_code (2 : Nat) (Option.none : Option Jvm.ClassFile.FieldType)) ∈ lw_all := lw_g (lw_at lw_m3 188 rfl) rfl
theorem q812 : (Jvm.Cond.methodLink "SillBridges$Reader" (59 : Nat) ({ cls := "SillBridges$Bad", name := "at", desc := "(II)LSillBridges$Bad;" } : Jvm.MethodName)) ∈ lw_all := lw_g (lw_at lw_m3 189 rfl) rfl
theorem q816 : (Jvm.Cond.methodLink "SillBridges$Reader" (195 : Nat) ({ cls := "SillBridges$Reader", name := "fresh", desc := "(LSillBridges$Town;)J" } : Jvm.MethodName)) ∈ lw_all := lw_g (lw_at lw_m3 193 rfl) rfl
theorem q817 : (Jvm.Cond.privateMethod ({ cls := "SillBridges$Reader", name := "fresh", desc := "(LSillBridges$Town;)J" } : Jvm.MethodName)) ∈ lw_tbl := lw_at lw_m3 194 rfl
theorem q818 : (Jvm.Cond.instanceMethod ({ cls := "SillBridges$Reader", name := "fresh", desc := "(LSillBridges$Town;)J" } : Jvm.MethodName)) ∈ lw_all := lw_g (lw_at lw_m3 195 rfl) rfl
theorem q819 : (Jvm.Cond.code ({ cls := "SillBridges$Reader", name := "fresh", desc := "(LSillBridges$Town;)J" } : Jvm.MethodName) prog_11_method_13_code (4 : Nat) (Option.some Jvm.ClassFile.FieldType.long)) ∈ lw_all := lw_g (lw_at lw_m3 196 rfl) rfl
theorem q820 : (Jvm.Cond.methodLink "SillBridges$Reader" (142 : Nat) ({ cls := "SillBridges$Reader", name := "name", desc := "()J" } : Jvm.MethodName)) ∈ lw_all := lw_g (lw_at lw_m3 197 rfl) rfl
theorem q821 : (Jvm.Cond.privateMethod ({ cls := "SillBridges$Reader", name := "name", desc := "()J" } : Jvm.MethodName)) ∈ lw_tbl := lw_at lw_m3 198 rfl
theorem q822 : (Jvm.Cond.instanceMethod ({ cls := "SillBridges$Reader", name := "name", desc := "()J" } : Jvm.MethodName)) ∈ lw_all := lw_g (lw_at lw_m3 199 rfl) rfl
theorem q823 : (Jvm.Cond.code ({ cls := "SillBridges$Reader", name := "name", desc := "()J" } : Jvm.MethodName) prog_11_method_12_code (4 : Nat) (Option.some Jvm.ClassFile.FieldType.long)) ∈ lw_all := lw_g (lw_at lw_m3 200 rfl) rfl
theorem q824 : (Jvm.Cond.methodLink "SillBridges$Reader" (134 : Nat) ({ cls := "SillBridges$Reader", name := "isKept", desc := "()Z" } : Jvm.MethodName)) ∈ lw_all := lw_g (lw_at lw_m3 201 rfl) rfl
theorem q825 : (Jvm.Cond.privateMethod ({ cls := "SillBridges$Reader", name := "isKept", desc := "()Z" } : Jvm.MethodName)) ∈ lw_tbl := lw_at lw_m3 202 rfl
theorem q826 : (Jvm.Cond.instanceMethod ({ cls := "SillBridges$Reader", name := "isKept", desc := "()Z" } : Jvm.MethodName)) ∈ lw_all := lw_g (lw_at lw_m3 203 rfl) rfl
theorem q827 : (Jvm.Cond.code ({ cls := "SillBridges$Reader", name := "isKept", desc := "()Z" } : Jvm.MethodName) prog_11_method_11_code (4 : Nat) (Option.some Jvm.ClassFile.FieldType.boolean)) ∈ lw_all := lw_g (lw_at lw_m3 204 rfl) rfl
theorem q828 : (Jvm.Cond.stringRef "SillBridges$Reader" (77 : Nat) "bridge") ∈ lw_tbl := lw_at lw_m3 205 rfl
theorem q829 : (Jvm.Cond.stringRef "SillBridges$Reader" (79 : Nat) "from") ∈ lw_tbl := lw_at lw_m3 206 rfl
theorem q830 : (Jvm.Cond.stringRef "SillBridges$Reader" (81 : Nat) "to") ∈ lw_tbl := lw_at lw_m3 207 rfl
theorem q831 : (Jvm.Cond.stringRef "SillBridges$Reader" (83 : Nat) "sill") ∈ lw_tbl := lw_at lw_m3 208 rfl
theorem q832 : (Jvm.Cond.stringRef "SillBridges$Reader" (85 : Nat) "needs") ∈ lw_tbl := lw_at lw_m3 209 rfl
theorem q833 : (Jvm.Cond.stringRef "SillBridges$Reader" (87 : Nat) "by") ∈ lw_tbl := lw_at lw_m3 210 rfl
theorem q834 : (Jvm.Cond.stringRef "SillBridges$Reader" (89 : Nat) "bears") ∈ lw_tbl := lw_at lw_m3 211 rfl
theorem q835 : (Jvm.Cond.stringRef "SillBridges$Reader" (91 : Nat) "toll") ∈ lw_tbl := lw_at lw_m3 212 rfl
theorem q836 : (Jvm.Cond.stringRef "SillBridges$Reader" (93 : Nat) "takes") ∈ lw_tbl := lw_at lw_m3 213 rfl
theorem q837 : (Jvm.Cond.stringRef "SillBridges$Reader" (95 : Nat) "sways") ∈ lw_tbl := lw_at lw_m3 214 rfl
theorem q838 : (Jvm.Cond.stringRef "SillBridges$Reader" (97 : Nat) "person") ∈ lw_tbl := lw_at lw_m3 215 rfl
theorem q839 : (Jvm.Cond.stringRef "SillBridges$Reader" (99 : Nat) "weighs") ∈ lw_tbl := lw_at lw_m3 216 rfl
theorem q840 : (Jvm.Cond.stringRef "SillBridges$Reader" (101 : Nat) "at") ∈ lw_tbl := lw_at lw_m3 217 rfl
theorem q841 : (Jvm.Cond.stringRef "SillBridges$Reader" (102 : Nat) "wants") ∈ lw_tbl := lw_at lw_m3 218 rfl
theorem q842 : (Jvm.Cond.stringRef "SillBridges$Reader" (104 : Nat) "carries") ∈ lw_tbl := lw_at lw_m3 219 rfl
theorem q843 : (Jvm.Cond.stringRef "SillBridges$Reader" (106 : Nat) "led") ∈ lw_tbl := lw_at lw_m3 220 rfl
theorem q844 : (Jvm.Cond.stringRef "SillBridges$Reader" (108 : Nat) "load") ∈ lw_tbl := lw_at lw_m3 221 rfl
theorem q845 : (Jvm.Cond.stringRef "SillBridges$Reader" (110 : Nat) "stone") ∈ lw_tbl := lw_at lw_m3 222 rfl
theorem q846 : (Jvm.Cond.stringRef "SillBridges$Reader" (112 : Nat) "go") ∈ lw_tbl := lw_at lw_m3 223 rfl
theorem q847 : (Jvm.Cond.stringRef "SillBridges$Reader" (114 : Nat) "both") ∈ lw_tbl := lw_at lw_m3 224 rfl
theorem q848 : (Jvm.Cond.stringRef "SillBridges$Reader" (116 : Nat) "over") ∈ lw_tbl := lw_at lw_m3 225 rfl
theorem q849 : (Jvm.Cond.stringRef "SillBridges$Reader" (118 : Nat) "lift") ∈ lw_tbl := lw_at lw_m3 226 rfl
theorem q850 : (Jvm.Cond.stringRef "SillBridges$Reader" (120 : Nat) "drop") ∈ lw_tbl := lw_at lw_m3 227 rfl
theorem q851 : (Jvm.Cond.stringRef "SillBridges$Reader" (122 : Nat) "when") ∈ lw_tbl := lw_at lw_m3 228 rfl
theorem q852 : (Jvm.Cond.stringRef "SillBridges$Reader" (124 : Nat) "there") ∈ lw_tbl := lw_at lw_m3 229 rfl
theorem q853 : (Jvm.Cond.stringRef "SillBridges$Reader" (126 : Nat) "holds") ∈ lw_tbl := lw_at lw_m3 230 rfl
theorem q854 : (Jvm.Cond.stringRef "SillBridges$Reader" (128 : Nat) "loop") ∈ lw_tbl := lw_at lw_m3 231 rfl
theorem q855 : (Jvm.Cond.stringRef "SillBridges$Reader" (130 : Nat) "end") ∈ lw_tbl := lw_at lw_m3 232 rfl
theorem q856 : (Jvm.Cond.stringRef "SillBridges$Reader" (132 : Nat) "stop") ∈ lw_tbl := lw_at lw_m3 233 rfl
theorem q857 : (Jvm.Cond.methodLink "SillBridges$Reader" (64 : Nat) ({ cls := "SillBridges$Reader", name := "wrong", desc := "()LSillBridges$Bad;" } : Jvm.MethodName)) ∈ lw_all := lw_g (lw_at lw_m3 234 rfl) rfl
theorem q858 : (Jvm.Cond.privateMethod ({ cls := "SillBridges$Reader", name := "wrong", desc := "()LSillBridges$Bad;" } : Jvm.MethodName)) ∈ lw_tbl := lw_at lw_m3 235 rfl
theorem q859 : (Jvm.Cond.instanceMethod ({ cls := "SillBridges$Reader", name := "wrong", desc := "()LSillBridges$Bad;" } : Jvm.MethodName)) ∈ lw_all := lw_g (lw_at lw_m3 236 rfl) rfl
theorem q860 : (Jvm.Cond.code ({ cls := "SillBridges$Reader", name := "wrong", desc := "()LSillBridges$Bad;" } : Jvm.MethodName) prog_11_method_6_code (1 : Nat) (Option.some (Jvm.ClassFile.FieldType.object "SillBridges$Bad"))) ∈ lw_all := lw_g (lw_at lw_m3 237 rfl) rfl
theorem q861 : (Jvm.Cond.constantLong "SillBridges$Reader" (138 : Nat) (32 : Int64)) ∈ lw_all := lw_g (lw_at lw_m3 238 rfl) rfl
theorem q862 : (Jvm.Cond.constantLong "SillBridges$Reader" (140 : Nat) (96 : Int64)) ∈ lw_all := lw_g (lw_at lw_m3 239 rfl) rfl
theorem q863 : (Jvm.Cond.methodLink "SillBridges$Reader" (146 : Nat) ({ cls := "SillBridges$Town", name := "isTaken", desc := "(J)Z" } : Jvm.MethodName)) ∈ lw_all := lw_g (lw_at lw_m4 0 rfl) rfl
theorem q883 : (Jvm.Cond.methodLink "SillBridges$Reader" (173 : Nat) ({ cls := "SillBridges$Reader", name := "newBridge", desc := "(LSillBridges$Town;)V" } : Jvm.MethodName)) ∈ lw_all := lw_g (lw_at lw_m4 20 rfl) rfl
theorem q884 : (Jvm.Cond.privateMethod ({ cls := "SillBridges$Reader", name := "newBridge", desc := "(LSillBridges$Town;)V" } : Jvm.MethodName)) ∈ lw_tbl := lw_at lw_m4 21 rfl
theorem q885 : (Jvm.Cond.instanceMethod ({ cls := "SillBridges$Reader", name := "newBridge", desc := "(LSillBridges$Town;)V" } : Jvm.MethodName)) ∈ lw_all := lw_g (lw_at lw_m4 22 rfl) rfl
theorem q886 : (Jvm.Cond.code ({ cls := "SillBridges$Reader", name := "newBridge", desc := "(LSillBridges$Town;)V" } : Jvm.MethodName) prog_11_method_21_code (9 : Nat) (Option.none : Option Jvm.ClassFile.FieldType)) ∈ lw_all := lw_g (lw_at lw_m4 23 rfl) rfl
theorem q887 : (Jvm.Cond.methodLink "SillBridges$Reader" (202 : Nat) ({ cls := "SillBridges$Reader", name := "word", desc := "(Ljava/lang/String;)V" } : Jvm.MethodName)) ∈ lw_all := lw_g (lw_at lw_m4 24 rfl) rfl
theorem q888 : (Jvm.Cond.privateMethod ({ cls := "SillBridges$Reader", name := "word", desc := "(Ljava/lang/String;)V" } : Jvm.MethodName)) ∈ lw_tbl := lw_at lw_m4 25 rfl
theorem q889 : (Jvm.Cond.instanceMethod ({ cls := "SillBridges$Reader", name := "word", desc := "(Ljava/lang/String;)V" } : Jvm.MethodName)) ∈ lw_all := lw_g (lw_at lw_m4 26 rfl) rfl
theorem q890 : (Jvm.Cond.code ({ cls := "SillBridges$Reader", name := "word", desc := "(Ljava/lang/String;)V" } : Jvm.MethodName) prog_11_method_8_code (2 : Nat) (Option.none : Option Jvm.ClassFile.FieldType)) ∈ lw_all := lw_g (lw_at lw_m4 27 rfl) rfl
theorem q891 : (Jvm.Cond.methodLink "SillBridges$Reader" (206 : Nat) ({ cls := "SillBridges$Reader", name := "place", desc := "(LSillBridges$Town;)I" } : Jvm.MethodName)) ∈ lw_all := lw_g (lw_at lw_m4 28 rfl) rfl
theorem q892 : (Jvm.Cond.privateMethod ({ cls := "SillBridges$Reader", name := "place", desc := "(LSillBridges$Town;)I" } : Jvm.MethodName)) ∈ lw_tbl := lw_at lw_m4 29 rfl
theorem q893 : (Jvm.Cond.instanceMethod ({ cls := "SillBridges$Reader", name := "place", desc := "(LSillBridges$Town;)I" } : Jvm.MethodName)) ∈ lw_all := lw_g (lw_at lw_m4 30 rfl) rfl
theorem q894 : (Jvm.Cond.code ({ cls := "SillBridges$Reader", name := "place", desc := "(LSillBridges$Town;)I" } : Jvm.MethodName) prog_11_method_15_code (2 : Nat) (Option.some Jvm.ClassFile.FieldType.int)) ∈ lw_all := lw_g (lw_at lw_m4 31 rfl) rfl
theorem q895 : (Jvm.Cond.methodLink "SillBridges$Reader" (152 : Nat) ({ cls := "SillBridges$Town", name := "placeNamed", desc := "(J)I" } : Jvm.MethodName)) ∈ lw_all := lw_g (lw_at lw_m4 32 rfl) rfl
theorem q896 : (Jvm.Cond.methodLink "SillBridges$Reader" (156 : Nat) ({ cls := "SillBridges$Reader", name := "known", desc := "(I)I" } : Jvm.MethodName)) ∈ lw_all := lw_g (lw_at lw_m4 33 rfl) rfl
theorem q897 : (Jvm.Cond.privateMethod ({ cls := "SillBridges$Reader", name := "known", desc := "(I)I" } : Jvm.MethodName)) ∈ lw_tbl := lw_at lw_m4 34 rfl
theorem q898 : (Jvm.Cond.instanceMethod ({ cls := "SillBridges$Reader", name := "known", desc := "(I)I" } : Jvm.MethodName)) ∈ lw_all := lw_g (lw_at lw_m4 35 rfl) rfl
theorem q899 : (Jvm.Cond.code ({ cls := "SillBridges$Reader", name := "known", desc := "(I)I" } : Jvm.MethodName) prog_11_method_14_code (2 : Nat) (Option.some Jvm.ClassFile.FieldType.int)) ∈ lw_all := lw_g (lw_at lw_m4 36 rfl) rfl
theorem q900 : (Jvm.Cond.classLink "SillBridges$Reader" (209 : Nat) "SillBridges$Bridge") ∈ lw_all := lw_g (lw_at lw_m4 37 rfl) rfl
theorem q902 : (Jvm.Cond.methodLink "SillBridges$Reader" (72 : Nat) ({ cls := "SillBridges$Reader", name := "number", desc := "(II)I" } : Jvm.MethodName)) ∈ lw_all := lw_g (lw_at lw_m4 39 rfl) rfl
theorem q903 : (Jvm.Cond.privateMethod ({ cls := "SillBridges$Reader", name := "number", desc := "(II)I" } : Jvm.MethodName)) ∈ lw_tbl := lw_at lw_m4 40 rfl
theorem q904 : (Jvm.Cond.instanceMethod ({ cls := "SillBridges$Reader", name := "number", desc := "(II)I" } : Jvm.MethodName)) ∈ lw_all := lw_g (lw_at lw_m4 41 rfl) rfl
theorem q905 : (Jvm.Cond.code ({ cls := "SillBridges$Reader", name := "number", desc := "(II)I" } : Jvm.MethodName) prog_11_method_9_code (4 : Nat) (Option.some Jvm.ClassFile.FieldType.int)) ∈ lw_all := lw_g (lw_at lw_m4 42 rfl) rfl
theorem q906 : (Jvm.Cond.methodLink "SillBridges$Reader" (211 : Nat) ({ cls := "SillBridges$Bridge", name := "<init>", desc := "(JIIII)V" } : Jvm.MethodName)) ∈ lw_all := lw_g (lw_at lw_m4 43 rfl) rfl
theorem q922 : (Jvm.Cond.fieldLinkNest "SillBridges$Reader" (218 : Nat) "SillBridges$Bridge" "by" "I" "SillBridges") ∈ lw_tbl := lw_at lw_m4 59 rfl
theorem q926 : (Jvm.Cond.fieldLinkNest "SillBridges$Reader" (220 : Nat) "SillBridges$Bridge" "bears" "I" "SillBridges") ∈ lw_tbl := lw_at lw_m4 63 rfl
theorem q930 : (Jvm.Cond.fieldLinkNest "SillBridges$Reader" (222 : Nat) "SillBridges$Bridge" "toll" "I" "SillBridges") ∈ lw_tbl := lw_at lw_m4 67 rfl
theorem q935 : (Jvm.Cond.fieldLinkNest "SillBridges$Reader" (224 : Nat) "SillBridges$Bridge" "takes" "I" "SillBridges") ∈ lw_tbl := lw_at lw_m4 72 rfl
theorem q938 : (Jvm.Cond.fieldLinkNest "SillBridges$Reader" (226 : Nat) "SillBridges$Bridge" "sways" "I" "SillBridges") ∈ lw_tbl := lw_at lw_m4 75 rfl
theorem q961 : (Jvm.Cond.methodLink "SillBridges$Reader" (214 : Nat) ({ cls := "SillBridges$Reader", name := "told", desc := "(Ljava/lang/String;III)I" } : Jvm.MethodName)) ∈ lw_all := lw_g (lw_at lw_m4 98 rfl) rfl
theorem q962 : (Jvm.Cond.privateMethod ({ cls := "SillBridges$Reader", name := "told", desc := "(Ljava/lang/String;III)I" } : Jvm.MethodName)) ∈ lw_tbl := lw_at lw_m4 99 rfl
theorem q963 : (Jvm.Cond.instanceMethod ({ cls := "SillBridges$Reader", name := "told", desc := "(Ljava/lang/String;III)I" } : Jvm.MethodName)) ∈ lw_all := lw_g (lw_at lw_m4 100 rfl) rfl
theorem q964 : (Jvm.Cond.code ({ cls := "SillBridges$Reader", name := "told", desc := "(Ljava/lang/String;III)I" } : Jvm.MethodName) prog_11_method_10_code (5 : Nat) (Option.some Jvm.ClassFile.FieldType.int)) ∈ lw_all := lw_g (lw_at lw_m4 101 rfl) rfl
theorem q965 : (Jvm.Cond.methodLink "SillBridges$Reader" (176 : Nat) ({ cls := "SillBridges$Reader", name := "newPerson", desc := "(LSillBridges$Town;)V" } : Jvm.MethodName)) ∈ lw_all := lw_g (lw_at lw_m4 102 rfl) rfl
theorem q966 : (Jvm.Cond.privateMethod ({ cls := "SillBridges$Reader", name := "newPerson", desc := "(LSillBridges$Town;)V" } : Jvm.MethodName)) ∈ lw_tbl := lw_at lw_m4 103 rfl
theorem q967 : (Jvm.Cond.instanceMethod ({ cls := "SillBridges$Reader", name := "newPerson", desc := "(LSillBridges$Town;)V" } : Jvm.MethodName)) ∈ lw_all := lw_g (lw_at lw_m4 104 rfl) rfl
theorem q968 : (Jvm.Cond.code ({ cls := "SillBridges$Reader", name := "newPerson", desc := "(LSillBridges$Town;)V" } : Jvm.MethodName) prog_11_method_22_code (6 : Nat) (Option.none : Option Jvm.ClassFile.FieldType)) ∈ lw_all := lw_g (lw_at lw_m4 105 rfl) rfl
theorem q969 : (Jvm.Cond.classLink "SillBridges$Reader" (235 : Nat) "SillBridges$Person") ∈ lw_all := lw_g (lw_at lw_m4 106 rfl) rfl
theorem q971 : (Jvm.Cond.methodLink "SillBridges$Reader" (237 : Nat) ({ cls := "SillBridges$Person", name := "<init>", desc := "(JII)V" } : Jvm.MethodName)) ∈ lw_all := lw_g (lw_at lw_m4 108 rfl) rfl
theorem q984 : (Jvm.Cond.fieldLinkNest "SillBridges$Reader" (240 : Nat) "SillBridges$Person" "wants" "I" "SillBridges") ∈ lw_tbl := lw_at lw_m4 121 rfl
theorem q987 : (Jvm.Cond.fieldLinkNest "SillBridges$Reader" (242 : Nat) "SillBridges$Person" "carries" "I" "SillBridges") ∈ lw_tbl := lw_at lw_m4 124 rfl
theorem q990 : (Jvm.Cond.fieldLinkNest "SillBridges$Reader" (244 : Nat) "SillBridges$Person" "led" "Z" "SillBridges") ∈ lw_tbl := lw_at lw_m4 127 rfl
theorem q1005 : (Jvm.Cond.methodLink "SillBridges$Reader" (179 : Nat) ({ cls := "SillBridges$Reader", name := "newLoad", desc := "(LSillBridges$Town;)V" } : Jvm.MethodName)) ∈ lw_all := lw_g (lw_at lw_m4 142 rfl) rfl
theorem q1006 : (Jvm.Cond.privateMethod ({ cls := "SillBridges$Reader", name := "newLoad", desc := "(LSillBridges$Town;)V" } : Jvm.MethodName)) ∈ lw_tbl := lw_at lw_m4 143 rfl
theorem q1007 : (Jvm.Cond.instanceMethod ({ cls := "SillBridges$Reader", name := "newLoad", desc := "(LSillBridges$Town;)V" } : Jvm.MethodName)) ∈ lw_all := lw_g (lw_at lw_m4 144 rfl) rfl
theorem q1008 : (Jvm.Cond.code ({ cls := "SillBridges$Reader", name := "newLoad", desc := "(LSillBridges$Town;)V" } : Jvm.MethodName) prog_11_method_23_code (5 : Nat) (Option.none : Option Jvm.ClassFile.FieldType)) ∈ lw_all := lw_g (lw_at lw_m4 145 rfl) rfl
theorem q1009 : (Jvm.Cond.classLink "SillBridges$Reader" (256 : Nat) "SillBridges$Load") ∈ lw_all := lw_g (lw_at lw_m4 146 rfl) rfl
theorem q1011 : (Jvm.Cond.methodLink "SillBridges$Reader" (258 : Nat) ({ cls := "SillBridges$Load", name := "<init>", desc := "(JII)V" } : Jvm.MethodName)) ∈ lw_all := lw_g (lw_at lw_m4 148 rfl) rfl
theorem q1029 : (Jvm.Cond.methodLink "SillBridges$Reader" (182 : Nat) ({ cls := "SillBridges$Reader", name := "newStone", desc := "(LSillBridges$Town;)V" } : Jvm.MethodName)) ∈ lw_all := lw_g (lw_at lw_m4 166 rfl) rfl
theorem q1030 : (Jvm.Cond.privateMethod ({ cls := "SillBridges$Reader", name := "newStone", desc := "(LSillBridges$Town;)V" } : Jvm.MethodName)) ∈ lw_tbl := lw_at lw_m4 167 rfl
theorem q1031 : (Jvm.Cond.instanceMethod ({ cls := "SillBridges$Reader", name := "newStone", desc := "(LSillBridges$Town;)V" } : Jvm.MethodName)) ∈ lw_all := lw_g (lw_at lw_m4 168 rfl) rfl
theorem q1032 : (Jvm.Cond.code ({ cls := "SillBridges$Reader", name := "newStone", desc := "(LSillBridges$Town;)V" } : Jvm.MethodName) prog_11_method_24_code (3 : Nat) (Option.none : Option Jvm.ClassFile.FieldType)) ∈ lw_all := lw_g (lw_at lw_m4 169 rfl) rfl
theorem q1033 : (Jvm.Cond.methodLink "SillBridges$Reader" (185 : Nat) ({ cls := "SillBridges$Reader", name := "close", desc := "()V" } : Jvm.MethodName)) ∈ lw_all := lw_g (lw_at lw_m4 170 rfl) rfl
theorem q1034 : (Jvm.Cond.privateMethod ({ cls := "SillBridges$Reader", name := "close", desc := "()V" } : Jvm.MethodName)) ∈ lw_tbl := lw_at lw_m4 171 rfl
theorem q1035 : (Jvm.Cond.instanceMethod ({ cls := "SillBridges$Reader", name := "close", desc := "()V" } : Jvm.MethodName)) ∈ lw_all := lw_g (lw_at lw_m4 172 rfl) rfl
theorem q1036 : (Jvm.Cond.code ({ cls := "SillBridges$Reader", name := "close", desc := "()V" } : Jvm.MethodName) prog_11_method_7_code (1 : Nat) (Option.none : Option Jvm.ClassFile.FieldType)) ∈ lw_all := lw_g (lw_at lw_m4 173 rfl) rfl
theorem q1078 : (Jvm.Cond.instanceMethod ({ cls := "SillBridges$Reader", name := "orders", desc := "(LSillBridges$Town;LSillBridges$Block;)V" } : Jvm.MethodName)) ∈ lw_all := lw_g (lw_at lw_m4 215 rfl) rfl
theorem q1079 : (Jvm.Cond.selects "SillBridges$Reader" ({ cls := "SillBridges$Reader", name := "orders", desc := "(LSillBridges$Town;LSillBridges$Block;)V" } : Jvm.MethodName) ({ cls := "SillBridges$Reader", name := "orders", desc := "(LSillBridges$Town;LSillBridges$Block;)V" } : Jvm.MethodName)) ∈ lw_all := lw_g (lw_at lw_m4 216 rfl) rfl
theorem q1080 : (Jvm.Cond.code ({ cls := "SillBridges$Reader", name := "orders", desc := "(LSillBridges$Town;LSillBridges$Block;)V" } : Jvm.MethodName) prog_11_method_25_code (3 : Nat) (Option.none : Option Jvm.ClassFile.FieldType)) ∈ lw_all := lw_g (lw_at lw_m4 217 rfl) rfl
theorem q1081 : (Jvm.Cond.methodLink "SillBridges$Reader" (263 : Nat) ({ cls := "SillBridges$Reader", name := "step", desc := "(LSillBridges$Town;LSillBridges$Block;I)V" } : Jvm.MethodName)) ∈ lw_all := lw_g (lw_at lw_m4 218 rfl) rfl
theorem q1082 : (Jvm.Cond.privateMethod ({ cls := "SillBridges$Reader", name := "step", desc := "(LSillBridges$Town;LSillBridges$Block;I)V" } : Jvm.MethodName)) ∈ lw_tbl := lw_at lw_m4 219 rfl
theorem q1083 : (Jvm.Cond.instanceMethod ({ cls := "SillBridges$Reader", name := "step", desc := "(LSillBridges$Town;LSillBridges$Block;I)V" } : Jvm.MethodName)) ∈ lw_all := lw_g (lw_at lw_m4 220 rfl) rfl
theorem q1084 : (Jvm.Cond.code ({ cls := "SillBridges$Reader", name := "step", desc := "(LSillBridges$Town;LSillBridges$Block;I)V" } : Jvm.MethodName) prog_11_method_27_code (7 : Nat) (Option.none : Option Jvm.ClassFile.FieldType)) ∈ lw_all := lw_g (lw_at lw_m4 221 rfl) rfl
theorem q1085 : (Jvm.Cond.methodLink "SillBridges$Reader" (267 : Nat) ({ cls := "SillBridges$Reader", name := "isPlain", desc := "()Z" } : Jvm.MethodName)) ∈ lw_all := lw_g (lw_at lw_m4 222 rfl) rfl
theorem q1086 : (Jvm.Cond.privateMethod ({ cls := "SillBridges$Reader", name := "isPlain", desc := "()Z" } : Jvm.MethodName)) ∈ lw_tbl := lw_at lw_m4 223 rfl
theorem q1087 : (Jvm.Cond.instanceMethod ({ cls := "SillBridges$Reader", name := "isPlain", desc := "()Z" } : Jvm.MethodName)) ∈ lw_all := lw_g (lw_at lw_m4 224 rfl) rfl
theorem q1088 : (Jvm.Cond.code ({ cls := "SillBridges$Reader", name := "isPlain", desc := "()Z" } : Jvm.MethodName) prog_11_method_26_code (1 : Nat) (Option.some Jvm.ClassFile.FieldType.boolean)) ∈ lw_all := lw_g (lw_at lw_m4 225 rfl) rfl
theorem q1089 : (Jvm.Cond.methodLink "SillBridges$Reader" (273 : Nat) ({ cls := "SillBridges$Reader", name := "block", desc := "(LSillBridges$Town;ZI)LSillBridges$Block;" } : Jvm.MethodName)) ∈ lw_all := lw_g (lw_at lw_m4 226 rfl) rfl
theorem q1090 : (Jvm.Cond.privateMethod ({ cls := "SillBridges$Reader", name := "block", desc := "(LSillBridges$Town;ZI)LSillBridges$Block;" } : Jvm.MethodName)) ∈ lw_tbl := lw_at lw_m4 227 rfl
theorem q1091 : (Jvm.Cond.instanceMethod ({ cls := "SillBridges$Reader", name := "block", desc := "(LSillBridges$Town;ZI)LSillBridges$Block;" } : Jvm.MethodName)) ∈ lw_all := lw_g (lw_at lw_m4 228 rfl) rfl
theorem q1092 : (Jvm.Cond.code ({ cls := "SillBridges$Reader", name := "block", desc := "(LSillBridges$Town;ZI)LSillBridges$Block;" } : Jvm.MethodName) prog_11_method_30_code (5 : Nat) (Option.some (Jvm.ClassFile.FieldType.object "SillBridges$Block"))) ∈ lw_all := lw_g (lw_at lw_m4 229 rfl) rfl
theorem q1093 : (Jvm.Cond.methodLink "SillBridges$Reader" (305 : Nat) ({ cls := "SillBridges$Reader", name := "when", desc := "(LSillBridges$Town;)LSillBridges$When;" } : Jvm.MethodName)) ∈ lw_all := lw_g (lw_at lw_m4 230 rfl) rfl
theorem q1094 : (Jvm.Cond.privateMethod ({ cls := "SillBridges$Reader", name := "when", desc := "(LSillBridges$Town;)LSillBridges$When;" } : Jvm.MethodName)) ∈ lw_tbl := lw_at lw_m4 231 rfl
theorem q1095 : (Jvm.Cond.instanceMethod ({ cls := "SillBridges$Reader", name := "when", desc := "(LSillBridges$Town;)LSillBridges$When;" } : Jvm.MethodName)) ∈ lw_all := lw_g (lw_at lw_m4 232 rfl) rfl
theorem q1096 : (Jvm.Cond.code ({ cls := "SillBridges$Reader", name := "when", desc := "(LSillBridges$Town;)LSillBridges$When;" } : Jvm.MethodName) prog_11_method_31_code (6 : Nat) (Option.some (Jvm.ClassFile.FieldType.object "SillBridges$When"))) ∈ lw_all := lw_g (lw_at lw_m4 233 rfl) rfl
theorem q1097 : (Jvm.Cond.classLink "SillBridges$Reader" (313 : Nat) "SillBridges$When") ∈ lw_all := lw_g (lw_at lw_m4 234 rfl) rfl
theorem q1099 : (Jvm.Cond.methodLink "SillBridges$Reader" (303 : Nat) ({ cls := "SillBridges$Reader", name := "bridge", desc := "(LSillBridges$Town;)I" } : Jvm.MethodName)) ∈ lw_all := lw_g (lw_at lw_m4 236 rfl) rfl
theorem q1100 : (Jvm.Cond.privateMethod ({ cls := "SillBridges$Reader", name := "bridge", desc := "(LSillBridges$Town;)I" } : Jvm.MethodName)) ∈ lw_tbl := lw_at lw_m4 237 rfl
theorem q1101 : (Jvm.Cond.instanceMethod ({ cls := "SillBridges$Reader", name := "bridge", desc := "(LSillBridges$Town;)I" } : Jvm.MethodName)) ∈ lw_all := lw_g (lw_at lw_m4 238 rfl) rfl
theorem q1102 : (Jvm.Cond.code ({ cls := "SillBridges$Reader", name := "bridge", desc := "(LSillBridges$Town;)I" } : Jvm.MethodName) prog_11_method_16_code (2 : Nat) (Option.some Jvm.ClassFile.FieldType.int)) ∈ lw_all := lw_g (lw_at lw_m4 239 rfl) rfl
theorem q1103 : (Jvm.Cond.methodLink "SillBridges$Reader" (160 : Nat) ({ cls := "SillBridges$Town", name := "bridgeNamed", desc := "(J)I" } : Jvm.MethodName)) ∈ lw_all := lw_g (lw_at lw_m5 0 rfl) rfl
theorem q1104 : (Jvm.Cond.methodLink "SillBridges$Reader" (315 : Nat) ({ cls := "SillBridges$When", name := "<init>", desc := "(III)V" } : Jvm.MethodName)) ∈ lw_all := lw_g (lw_at lw_m5 1 rfl) rfl
theorem q1120 : (Jvm.Cond.methodLink "SillBridges$Reader" (291 : Nat) ({ cls := "SillBridges$Reader", name := "person", desc := "(LSillBridges$Town;)I" } : Jvm.MethodName)) ∈ lw_all := lw_g (lw_at lw_m5 17 rfl) rfl
theorem q1121 : (Jvm.Cond.privateMethod ({ cls := "SillBridges$Reader", name := "person", desc := "(LSillBridges$Town;)I" } : Jvm.MethodName)) ∈ lw_tbl := lw_at lw_m5 18 rfl
theorem q1122 : (Jvm.Cond.instanceMethod ({ cls := "SillBridges$Reader", name := "person", desc := "(LSillBridges$Town;)I" } : Jvm.MethodName)) ∈ lw_all := lw_g (lw_at lw_m5 19 rfl) rfl
theorem q1123 : (Jvm.Cond.code ({ cls := "SillBridges$Reader", name := "person", desc := "(LSillBridges$Town;)I" } : Jvm.MethodName) prog_11_method_17_code (2 : Nat) (Option.some Jvm.ClassFile.FieldType.int)) ∈ lw_all := lw_g (lw_at lw_m5 20 rfl) rfl
theorem q1124 : (Jvm.Cond.methodLink "SillBridges$Reader" (163 : Nat) ({ cls := "SillBridges$Town", name := "personNamed", desc := "(J)I" } : Jvm.MethodName)) ∈ lw_all := lw_g (lw_at lw_m5 21 rfl) rfl
theorem q1125 : (Jvm.Cond.classLink "SillBridges$Reader" (308 : Nat) "SillBridges$Loop") ∈ lw_all := lw_g (lw_at lw_m5 22 rfl) rfl
theorem q1126 : (Jvm.Cond.methodLink "SillBridges$Reader" (310 : Nat) ({ cls := "SillBridges$Loop", name := "<init>", desc := "(I)V" } : Jvm.MethodName)) ∈ lw_all := lw_g (lw_at lw_m5 23 rfl) rfl
theorem q1127 : (Jvm.Cond.methodLink "SillBridges$Reader" (277 : Nat) ({ cls := "SillBridges$Reader", name := "plain", desc := "(LSillBridges$Town;)LSillBridges$Step;" } : Jvm.MethodName)) ∈ lw_all := lw_g (lw_at lw_m5 24 rfl) rfl
theorem q1128 : (Jvm.Cond.privateMethod ({ cls := "SillBridges$Reader", name := "plain", desc := "(LSillBridges$Town;)LSillBridges$Step;" } : Jvm.MethodName)) ∈ lw_tbl := lw_at lw_m5 25 rfl
theorem q1129 : (Jvm.Cond.instanceMethod ({ cls := "SillBridges$Reader", name := "plain", desc := "(LSillBridges$Town;)LSillBridges$Step;" } : Jvm.MethodName)) ∈ lw_all := lw_g (lw_at lw_m5 26 rfl) rfl
theorem q1130 : (Jvm.Cond.code ({ cls := "SillBridges$Reader", name := "plain", desc := "(LSillBridges$Town;)LSillBridges$Step;" } : Jvm.MethodName) prog_11_method_28_code (7 : Nat) (Option.some (Jvm.ClassFile.FieldType.object "SillBridges$Step"))) ∈ lw_all := lw_g (lw_at lw_m5 27 rfl) rfl
theorem q1131 : (Jvm.Cond.methodLink "SillBridges$Reader" (287 : Nat) ({ cls := "SillBridges$Reader", name := "going", desc := "(LSillBridges$Town;Z)LSillBridges$Step;" } : Jvm.MethodName)) ∈ lw_all := lw_g (lw_at lw_m5 28 rfl) rfl
theorem q1132 : (Jvm.Cond.privateMethod ({ cls := "SillBridges$Reader", name := "going", desc := "(LSillBridges$Town;Z)LSillBridges$Step;" } : Jvm.MethodName)) ∈ lw_tbl := lw_at lw_m5 29 rfl
theorem q1133 : (Jvm.Cond.instanceMethod ({ cls := "SillBridges$Reader", name := "going", desc := "(LSillBridges$Town;Z)LSillBridges$Step;" } : Jvm.MethodName)) ∈ lw_all := lw_g (lw_at lw_m5 30 rfl) rfl
theorem q1134 : (Jvm.Cond.code ({ cls := "SillBridges$Reader", name := "going", desc := "(LSillBridges$Town;Z)LSillBridges$Step;" } : Jvm.MethodName) prog_11_method_29_code (6 : Nat) (Option.some (Jvm.ClassFile.FieldType.object "SillBridges$Step"))) ∈ lw_all := lw_g (lw_at lw_m5 31 rfl) rfl
theorem q1135 : (Jvm.Cond.classLink "SillBridges$Reader" (293 : Nat) "SillBridges$Act") ∈ lw_all := lw_g (lw_at lw_m5 32 rfl) rfl
theorem q1137 : (Jvm.Cond.methodLink "SillBridges$Reader" (297 : Nat) ({ cls := "SillBridges$Act", name := "<init>", desc := "(IIII)V" } : Jvm.MethodName)) ∈ lw_all := lw_g (lw_at lw_m5 34 rfl) rfl
theorem q1160 : (Jvm.Cond.methodLink "SillBridges$Reader" (295 : Nat) ({ cls := "SillBridges$Reader", name := "load", desc := "(LSillBridges$Town;)I" } : Jvm.MethodName)) ∈ lw_all := lw_g (lw_at lw_m5 57 rfl) rfl
theorem q1161 : (Jvm.Cond.privateMethod ({ cls := "SillBridges$Reader", name := "load", desc := "(LSillBridges$Town;)I" } : Jvm.MethodName)) ∈ lw_tbl := lw_at lw_m5 58 rfl
theorem q1162 : (Jvm.Cond.instanceMethod ({ cls := "SillBridges$Reader", name := "load", desc := "(LSillBridges$Town;)I" } : Jvm.MethodName)) ∈ lw_all := lw_g (lw_at lw_m5 59 rfl) rfl
theorem q1163 : (Jvm.Cond.code ({ cls := "SillBridges$Reader", name := "load", desc := "(LSillBridges$Town;)I" } : Jvm.MethodName) prog_11_method_18_code (2 : Nat) (Option.some Jvm.ClassFile.FieldType.int)) ∈ lw_all := lw_g (lw_at lw_m5 60 rfl) rfl
theorem q1164 : (Jvm.Cond.methodLink "SillBridges$Reader" (166 : Nat) ({ cls := "SillBridges$Town", name := "loadNamed", desc := "(J)I" } : Jvm.MethodName)) ∈ lw_all := lw_g (lw_at lw_m5 61 rfl) rfl
theorem q1165 : (Jvm.Cond.classLink "SillBridges$Reader" (300 : Nat) "SillBridges$Stop") ∈ lw_all := lw_g (lw_at lw_m5 62 rfl) rfl
theorem q1167 : (Jvm.Cond.methodLinkNest "SillBridges$Reader" (302 : Nat) ({ cls := "SillBridges$Stop", name := "<init>", desc := "()V" } : Jvm.MethodName) "SillBridges") ∈ lw_tbl := lw_at lw_m5 64 rfl
theorem q1172 : (Jvm.Cond.methodLink "SillBridges$Reader" (281 : Nat) ({ cls := "SillBridges$Block", name := "add", desc := "(LSillBridges$Step;)V" } : Jvm.MethodName)) ∈ lw_all := lw_g (lw_at lw_m5 69 rfl) rfl
theorem in_X10 : ∀ w ∈ wsX100, w ∈ lw_all := lw_in wsX100 [736, 738, 740, 742, 744, 746, 748] (by decide +kernel) (by decide +kernel)

/-! the law's own entry -/
set_option maxRecDepth 100000
abbrev cL_law : ByteArray := code
def dkwL_law_57 : List UInt8 := [167, 250, 41, 4, 172]
abbrev dktL_law_57 : List UInt8 := dkwL_law_57 ++ []
def dkwL_law_56 : List UInt8 := [182, 0, 211, 159, 0, 18, 3, 172, 43, 182, 0, 212, 44, 182, 0, 215, 159, 0, 5, 3, 172, 132, 3, 6]
abbrev dktL_law_56 : List UInt8 := dkwL_law_56 ++ dktL_law_57
def dkwL_law_55 : List UInt8 := [29, 4, 96, 46, 42, 29, 5, 96, 46, 182, 0, 207, 159, 0, 31, 3, 172, 43, 182, 0, 208, 44]
abbrev dktL_law_55 : List UInt8 := dkwL_law_55 ++ dktL_law_56
def dkwL_law_54 : List UInt8 := [182, 0, 203, 159, 0, 64, 3, 172, 43, 42, 29, 4, 96, 46, 42, 29, 5, 96, 46, 182, 0, 204, 44, 42]
abbrev dktL_law_54 : List UInt8 := dkwL_law_54 ++ dktL_law_55
def dkwL_law_53 : List UInt8 := [182, 0, 199, 159, 0, 87, 3, 172, 43, 42, 29, 4, 96, 46, 182, 0, 200, 44, 42, 29, 4, 96, 46]
abbrev dktL_law_53 : List UInt8 := dkwL_law_53 ++ dktL_law_54
def dkwL_law_52 : List UInt8 := [182, 0, 195, 159, 0, 110, 3, 172, 43, 42, 29, 4, 96, 46, 182, 0, 196, 44, 42, 29, 4, 96, 46]
abbrev dktL_law_52 : List UInt8 := dkwL_law_52 ++ dktL_law_53
def dkwL_law_51 : List UInt8 := [182, 0, 191, 159, 0, 133, 3, 172, 43, 42, 29, 4, 96, 46, 182, 0, 192, 44, 42, 29, 4, 96, 46]
abbrev dktL_law_51 : List UInt8 := dkwL_law_51 ++ dktL_law_52
def dkwL_law_50 : List UInt8 := [29, 6, 96, 46, 182, 0, 188, 44, 42, 29, 4, 96, 46, 42, 29, 5, 96, 46, 42, 29, 6, 96, 46]
abbrev dktL_law_50 : List UInt8 := dkwL_law_50 ++ dktL_law_51
def dkwL_law_49 : List UInt8 := [29, 4, 96, 46, 182, 0, 187, 159, 0, 176, 3, 172, 43, 42, 29, 4, 96, 46, 42, 29, 5, 96, 46, 42]
abbrev dktL_law_49 : List UInt8 := dkwL_law_49 ++ dktL_law_50
def dkwL_law_48 : List UInt8 := [42, 29, 4, 96, 46, 182, 0, 183, 159, 0, 199, 3, 172, 43, 42, 29, 4, 96, 46, 182, 0, 184, 44, 42]
abbrev dktL_law_48 : List UInt8 := dkwL_law_48 ++ dktL_law_49
def dkwL_law_47 : List UInt8 := [172, 43, 182, 0, 176, 44, 182, 0, 179, 159, 0, 222, 3, 172, 43, 42, 29, 4, 96, 46, 182, 0, 180, 44]
abbrev dktL_law_47 : List UInt8 := dkwL_law_47 ++ dktL_law_48
def dkwL_law_46 : List UInt8 := [182, 0, 168, 44, 182, 0, 171, 159, 0, 248, 3, 172, 43, 182, 0, 172, 44, 182, 0, 175, 159, 0, 235, 3]
abbrev dktL_law_46 : List UInt8 := dkwL_law_46 ++ dktL_law_47
def dkwL_law_45 : List UInt8 := [182, 0, 163, 159, 1, 18, 3, 172, 43, 182, 0, 164, 44, 182, 0, 167, 159, 1, 5, 3, 172, 43]
abbrev dktL_law_45 : List UInt8 := dkwL_law_45 ++ dktL_law_46
def dkwL_law_44 : List UInt8 := [182, 0, 159, 159, 1, 41, 3, 172, 43, 42, 29, 4, 96, 46, 182, 0, 160, 44, 42, 29, 4, 96, 46]
abbrev dktL_law_44 : List UInt8 := dkwL_law_44 ++ dktL_law_45
def dkwL_law_43 : List UInt8 := [42, 29, 4, 96, 46, 42, 29, 5, 96, 46, 182, 0, 155, 159, 1, 54, 3, 172, 43, 182, 0, 156, 44]
abbrev dktL_law_43 : List UInt8 := dkwL_law_43 ++ dktL_law_44
def dkwL_law_42 : List UInt8 := [46, 182, 0, 151, 159, 1, 87, 3, 172, 43, 42, 29, 4, 96, 46, 42, 29, 5, 96, 46, 182, 0, 152, 44]
abbrev dktL_law_42 : List UInt8 := dkwL_law_42 ++ dktL_law_43
def dkwL_law_41 : List UInt8 := [96, 46, 182, 0, 147, 159, 1, 110, 3, 172, 43, 42, 29, 4, 96, 46, 182, 0, 148, 44, 42, 29, 4, 96]
abbrev dktL_law_41 : List UInt8 := dkwL_law_41 ++ dktL_law_42
def dkwL_law_40 : List UInt8 := [172, 43, 42, 29, 4, 96, 46, 42, 29, 5, 96, 46, 182, 0, 144, 44, 42, 29, 4, 96, 46, 42, 29, 5]
abbrev dktL_law_40 : List UInt8 := dkwL_law_40 ++ dktL_law_41
def dkwL_law_39 : List UInt8 := [29, 4, 96, 46, 182, 0, 139, 159, 1, 156, 3, 172, 43, 182, 0, 140, 44, 182, 0, 143, 159, 1, 143, 3]
abbrev dktL_law_39 : List UInt8 := dkwL_law_39 ++ dktL_law_40
def dkwL_law_38 : List UInt8 := [43, 182, 0, 131, 44, 182, 0, 135, 159, 1, 179, 3, 172, 43, 42, 29, 4, 96, 46, 182, 0, 136, 44, 42]
abbrev dktL_law_38 : List UInt8 := dkwL_law_38 ++ dktL_law_39
def dkwL_law_37 : List UInt8 := [172, 43, 42, 29, 4, 96, 46, 182, 0, 126, 44, 42, 29, 4, 96, 46, 182, 0, 130, 159, 1, 192, 3, 172]
abbrev dktL_law_37 : List UInt8 := dkwL_law_37 ++ dktL_law_38
def dkwL_law_36 : List UInt8 := [5, 96, 46, 182, 0, 122, 44, 42, 29, 4, 96, 46, 42, 29, 5, 96, 46, 182, 0, 125, 159, 1, 215, 3]
abbrev dktL_law_36 : List UInt8 := dkwL_law_36 ++ dktL_law_37
def dkwL_law_35 : List UInt8 := [5, 96, 46, 42, 29, 6, 96, 46, 182, 0, 121, 159, 1, 248, 3, 172, 43, 42, 29, 4, 96, 46, 42, 29]
abbrev dktL_law_35 : List UInt8 := dkwL_law_35 ++ dktL_law_36
def dkwL_law_34 : List UInt8 := [4, 96, 46, 42, 29, 5, 96, 46, 42, 29, 6, 96, 46, 182, 0, 117, 44, 42, 29, 4, 96, 46, 42, 29]
abbrev dktL_law_34 : List UInt8 := dkwL_law_34 ++ dktL_law_35
def dkwL_law_33 : List UInt8 := [4, 96, 46, 42, 29, 5, 96, 46, 42, 29, 6, 96, 46, 182, 0, 116, 159, 2, 35, 3, 172, 43, 42, 29]
abbrev dktL_law_33 : List UInt8 := dkwL_law_33 ++ dktL_law_34
def dkwL_law_32 : List UInt8 := [3, 172, 43, 42, 29, 4, 96, 46, 42, 29, 5, 96, 46, 42, 29, 6, 96, 46, 182, 0, 113, 44, 42, 29]
abbrev dktL_law_32 : List UInt8 := dkwL_law_32 ++ dktL_law_33
def dkwL_law_31 : List UInt8 := [29, 5, 96, 46, 182, 0, 109, 44, 42, 29, 4, 96, 46, 42, 29, 5, 96, 46, 182, 0, 112, 159, 2, 78]
abbrev dktL_law_31 : List UInt8 := dkwL_law_31 ++ dktL_law_32
def dkwL_law_30 : List UInt8 := [29, 4, 96, 46, 42, 29, 5, 96, 46, 182, 0, 108, 159, 2, 111, 3, 172, 43, 42, 29, 4, 96, 46, 42]
abbrev dktL_law_30 : List UInt8 := dkwL_law_30 ++ dktL_law_31
def dkwL_law_29 : List UInt8 := [182, 0, 103, 159, 2, 144, 3, 172, 43, 42, 29, 4, 96, 46, 42, 29, 5, 96, 46, 182, 0, 104, 44, 42]
abbrev dktL_law_29 : List UInt8 := dkwL_law_29 ++ dktL_law_30
def dkwL_law_28 : List UInt8 := [182, 0, 99, 159, 2, 167, 3, 172, 43, 42, 29, 4, 96, 46, 182, 0, 100, 44, 42, 29, 4, 96, 46]
abbrev dktL_law_28 : List UInt8 := dkwL_law_28 ++ dktL_law_29
def dkwL_law_27 : List UInt8 := [182, 0, 95, 159, 2, 190, 3, 172, 43, 42, 29, 4, 96, 46, 182, 0, 96, 44, 42, 29, 4, 96, 46]
abbrev dktL_law_27 : List UInt8 := dkwL_law_27 ++ dktL_law_28
def dkwL_law_26 : List UInt8 := [42, 29, 4, 96, 46, 42, 29, 5, 96, 46, 182, 0, 92, 44, 42, 29, 4, 96, 46, 42, 29, 5, 96, 46]
abbrev dktL_law_26 : List UInt8 := dkwL_law_26 ++ dktL_law_27
def dkwL_law_25 : List UInt8 := [43, 42, 29, 4, 96, 46, 182, 0, 88, 44, 42, 29, 4, 96, 46, 182, 0, 91, 159, 2, 223, 3, 172, 43]
abbrev dktL_law_25 : List UInt8 := dkwL_law_25 ++ dktL_law_26
def dkwL_law_24 : List UInt8 := [172, 43, 42, 29, 4, 96, 46, 182, 0, 84, 44, 42, 29, 4, 96, 46, 182, 0, 87, 159, 2, 246, 3, 172]
abbrev dktL_law_24 : List UInt8 := dkwL_law_24 ++ dktL_law_25
def dkwL_law_23 : List UInt8 := [3, 172, 43, 42, 29, 4, 96, 46, 182, 0, 80, 44, 42, 29, 4, 96, 46, 182, 0, 83, 159, 3, 13, 3]
abbrev dktL_law_23 : List UInt8 := dkwL_law_23 ++ dktL_law_24
def dkwL_law_22 : List UInt8 := [29, 5, 96, 46, 182, 0, 76, 44, 42, 29, 4, 96, 46, 42, 29, 5, 96, 46, 182, 0, 79, 159, 3, 36]
abbrev dktL_law_22 : List UInt8 := dkwL_law_22 ++ dktL_law_23
def dkwL_law_21 : List UInt8 := [29, 4, 96, 46, 42, 29, 5, 96, 46, 182, 0, 75, 159, 3, 69, 3, 172, 43, 42, 29, 4, 96, 46, 42]
abbrev dktL_law_21 : List UInt8 := dkwL_law_21 ++ dktL_law_22
def dkwL_law_20 : List UInt8 := [182, 0, 70, 159, 3, 102, 3, 172, 43, 42, 29, 4, 96, 46, 42, 29, 5, 96, 46, 182, 0, 71, 44, 42]
abbrev dktL_law_20 : List UInt8 := dkwL_law_20 ++ dktL_law_21
def dkwL_law_19 : List UInt8 := [182, 0, 66, 159, 3, 125, 3, 172, 43, 42, 29, 4, 96, 46, 182, 0, 67, 44, 42, 29, 4, 96, 46]
abbrev dktL_law_19 : List UInt8 := dkwL_law_19 ++ dktL_law_20
def dkwL_law_18 : List UInt8 := [182, 0, 62, 159, 3, 148, 3, 172, 43, 42, 29, 4, 96, 46, 182, 0, 63, 44, 42, 29, 4, 96, 46]
abbrev dktL_law_18 : List UInt8 := dkwL_law_18 ++ dktL_law_19
def dkwL_law_17 : List UInt8 := [182, 0, 58, 159, 3, 171, 3, 172, 43, 42, 29, 4, 96, 46, 182, 0, 59, 44, 42, 29, 4, 96, 46]
abbrev dktL_law_17 : List UInt8 := dkwL_law_17 ++ dktL_law_18
def dkwL_law_16 : List UInt8 := [182, 0, 53, 159, 3, 194, 3, 172, 43, 42, 29, 4, 96, 46, 182, 0, 54, 44, 42, 29, 4, 96, 46]
abbrev dktL_law_16 : List UInt8 := dkwL_law_16 ++ dktL_law_17
def dkwL_law_15 : List UInt8 := [4, 96, 46, 42, 29, 5, 96, 46, 42, 29, 6, 96, 46, 42, 29, 7, 96, 46, 42, 29, 8, 96, 46]
abbrev dktL_law_15 : List UInt8 := dkwL_law_15 ++ dktL_law_16
def dkwL_law_14 : List UInt8 := [5, 96, 46, 42, 29, 6, 96, 46, 42, 29, 7, 96, 46, 42, 29, 8, 96, 46, 182, 0, 49, 44, 42, 29]
abbrev dktL_law_14 : List UInt8 := dkwL_law_14 ++ dktL_law_15
def dkwL_law_13 : List UInt8 := [7, 96, 46, 42, 29, 8, 96, 46, 182, 0, 48, 159, 4, 1, 3, 172, 43, 42, 29, 4, 96, 46, 42, 29]
abbrev dktL_law_13 : List UInt8 := dkwL_law_13 ++ dktL_law_14
def dkwL_law_12 : List UInt8 := [8, 96, 46, 182, 0, 44, 44, 42, 29, 4, 96, 46, 42, 29, 5, 96, 46, 42, 29, 6, 96, 46, 42, 29]
abbrev dktL_law_12 : List UInt8 := dkwL_law_12 ++ dktL_law_13
def dkwL_law_11 : List UInt8 := [172, 43, 42, 29, 4, 96, 46, 42, 29, 5, 96, 46, 42, 29, 6, 96, 46, 42, 29, 7, 96, 46, 42, 29]
abbrev dktL_law_11 : List UInt8 := dkwL_law_11 ++ dktL_law_12
def dkwL_law_10 : List UInt8 := [96, 46, 182, 0, 39, 44, 42, 29, 4, 96, 46, 42, 29, 5, 96, 46, 182, 0, 43, 148, 153, 4, 64, 3]
abbrev dktL_law_10 : List UInt8 := dkwL_law_10 ++ dktL_law_11
def dkwL_law_9 : List UInt8 := [46, 133, 20, 0, 32, 127, 129, 182, 0, 38, 159, 4, 98, 3, 172, 43, 42, 29, 4, 96, 46, 42, 29, 5]
abbrev dktL_law_9 : List UInt8 := dkwL_law_9 ++ dktL_law_10
def dkwL_law_8 : List UInt8 := [44, 42, 29, 4, 96, 46, 42, 29, 5, 96, 46, 42, 29, 6, 96, 46, 133, 16, 32, 121, 42, 29, 7, 96]
abbrev dktL_law_8 : List UInt8 := dkwL_law_8 ++ dktL_law_9
def dkwL_law_7 : List UInt8 := [46, 42, 29, 6, 96, 46, 133, 16, 32, 121, 42, 29, 7, 96, 46, 133, 20, 0, 32, 127, 129, 182, 0, 34]
abbrev dktL_law_7 : List UInt8 := dkwL_law_7 ++ dktL_law_8
def dkwL_law_6 : List UInt8 := [46, 42, 29, 6, 96, 46, 182, 0, 31, 159, 4, 171, 3, 172, 43, 42, 29, 4, 96, 46, 42, 29, 5, 96]
abbrev dktL_law_6 : List UInt8 := dkwL_law_6 ++ dktL_law_7
def dkwL_law_5 : List UInt8 := [46, 42, 29, 5, 96, 46, 42, 29, 6, 96, 46, 182, 0, 27, 44, 42, 29, 4, 96, 46, 42, 29, 5, 96]
abbrev dktL_law_5 : List UInt8 := dkwL_law_5 ++ dktL_law_6
def dkwL_law_4 : List UInt8 := [153, 4, 228, 3, 172, 43, 182, 0, 23, 44, 182, 0, 26, 148, 153, 4, 214, 3, 172, 43, 42, 29, 4, 96]
abbrev dktL_law_4 : List UInt8 := dkwL_law_4 ++ dktL_law_5
def dkwL_law_3 : List UInt8 := [43, 182, 0, 13, 44, 182, 0, 17, 159, 4, 242, 3, 172, 43, 182, 0, 18, 44, 182, 0, 22, 148]
abbrev dktL_law_3 : List UInt8 := dkwL_law_3 ++ dktL_law_4
def dkwL_law_2 : List UInt8 := [170, 0, 0, 0, 0, 5, 197, 0, 0, 0, 0, 0, 0, 0, 46, 0, 0, 0, 203, 0, 0, 0, 216, 0, 0, 0, 230, 0, 0, 0, 244, 0, 0, 1, 31, 0, 0, 1, 104, 0, 0, 1, 138, 0, 0, 1, 201, 0, 0, 2, 8, 0, 0, 2, 31, 0, 0, 2, 54, 0, 0, 2, 77, 0, 0, 2, 100, 0, 0, 2, 133, 0, 0, 2, 166, 0, 0, 2, 189, 0, 0, 2, 212, 0, 0, 2, 235, 0, 0, 3, 12, 0, 0, 3, 35, 0, 0, 3, 58, 0, 0, 3, 91, 0, 0, 3, 124, 0, 0, 3, 167, 0, 0, 3, 210, 0, 0, 3, 243, 0, 0, 4, 10, 0, 0, 4, 23, 0, 0, 4, 46, 0, 0, 4, 59, 0, 0, 4, 92, 0, 0, 4, 115, 0, 0, 4, 148, 0, 0, 4, 161, 0, 0, 4, 184, 0, 0, 4, 197, 0, 0, 4, 210, 0, 0, 4, 223, 0, 0, 4, 236, 0, 0, 5, 3, 0, 0, 5, 26, 0, 0, 5, 69, 0, 0, 5, 92, 0, 0, 5, 115, 0, 0, 5, 138, 0, 0, 5, 171, 0, 0, 5, 184]
abbrev dktL_law_2 : List UInt8 := dkwL_law_2 ++ dktL_law_3
def dkwL_law_1 : List UInt8 := [163, 5, 212, 42, 29, 46, 16, 63, 126]
abbrev dktL_law_1 : List UInt8 := dkwL_law_1 ++ dktL_law_2
def dkwL_law_0 : List UInt8 := [187, 0, 7, 89, 183, 0, 9, 76, 187, 0, 10, 89, 183, 0, 12, 77, 3, 62, 29, 42, 190, 16, 6, 100]
abbrev dktL_law_0 : List UInt8 := dkwL_law_0 ++ dktL_law_1
theorem dksL_law_0 : cL_law.data.toList.drop 0 = dktL_law_0 := by decide +kernel
theorem dksL_law_1 : cL_law.data.toList.drop 24 = dktL_law_1 := dk_seg dksL_law_0 24 rfl rfl
theorem dksL_law_2 : cL_law.data.toList.drop 33 = dktL_law_2 := dk_seg dksL_law_1 9 rfl rfl
theorem dksL_law_3 : cL_law.data.toList.drop 236 = dktL_law_3 := dk_seg dksL_law_2 203 rfl rfl
theorem dksL_law_4 : cL_law.data.toList.drop 258 = dktL_law_4 := dk_seg dksL_law_3 22 rfl rfl
theorem dksL_law_5 : cL_law.data.toList.drop 282 = dktL_law_5 := dk_seg dksL_law_4 24 rfl rfl
theorem dksL_law_6 : cL_law.data.toList.drop 306 = dktL_law_6 := dk_seg dksL_law_5 24 rfl rfl
theorem dksL_law_7 : cL_law.data.toList.drop 330 = dktL_law_7 := dk_seg dksL_law_6 24 rfl rfl
theorem dksL_law_8 : cL_law.data.toList.drop 354 = dktL_law_8 := dk_seg dksL_law_7 24 rfl rfl
theorem dksL_law_9 : cL_law.data.toList.drop 378 = dktL_law_9 := dk_seg dksL_law_8 24 rfl rfl
theorem dksL_law_10 : cL_law.data.toList.drop 402 = dktL_law_10 := dk_seg dksL_law_9 24 rfl rfl
theorem dksL_law_11 : cL_law.data.toList.drop 426 = dktL_law_11 := dk_seg dksL_law_10 24 rfl rfl
theorem dksL_law_12 : cL_law.data.toList.drop 450 = dktL_law_12 := dk_seg dksL_law_11 24 rfl rfl
theorem dksL_law_13 : cL_law.data.toList.drop 474 = dktL_law_13 := dk_seg dksL_law_12 24 rfl rfl
theorem dksL_law_14 : cL_law.data.toList.drop 498 = dktL_law_14 := dk_seg dksL_law_13 24 rfl rfl
theorem dksL_law_15 : cL_law.data.toList.drop 522 = dktL_law_15 := dk_seg dksL_law_14 24 rfl rfl
theorem dksL_law_16 : cL_law.data.toList.drop 545 = dktL_law_16 := dk_seg dksL_law_15 23 rfl rfl
theorem dksL_law_17 : cL_law.data.toList.drop 568 = dktL_law_17 := dk_seg dksL_law_16 23 rfl rfl
theorem dksL_law_18 : cL_law.data.toList.drop 591 = dktL_law_18 := dk_seg dksL_law_17 23 rfl rfl
theorem dksL_law_19 : cL_law.data.toList.drop 614 = dktL_law_19 := dk_seg dksL_law_18 23 rfl rfl
theorem dksL_law_20 : cL_law.data.toList.drop 637 = dktL_law_20 := dk_seg dksL_law_19 23 rfl rfl
theorem dksL_law_21 : cL_law.data.toList.drop 661 = dktL_law_21 := dk_seg dksL_law_20 24 rfl rfl
theorem dksL_law_22 : cL_law.data.toList.drop 685 = dktL_law_22 := dk_seg dksL_law_21 24 rfl rfl
theorem dksL_law_23 : cL_law.data.toList.drop 709 = dktL_law_23 := dk_seg dksL_law_22 24 rfl rfl
theorem dksL_law_24 : cL_law.data.toList.drop 733 = dktL_law_24 := dk_seg dksL_law_23 24 rfl rfl
theorem dksL_law_25 : cL_law.data.toList.drop 757 = dktL_law_25 := dk_seg dksL_law_24 24 rfl rfl
theorem dksL_law_26 : cL_law.data.toList.drop 781 = dktL_law_26 := dk_seg dksL_law_25 24 rfl rfl
theorem dksL_law_27 : cL_law.data.toList.drop 805 = dktL_law_27 := dk_seg dksL_law_26 24 rfl rfl
theorem dksL_law_28 : cL_law.data.toList.drop 828 = dktL_law_28 := dk_seg dksL_law_27 23 rfl rfl
theorem dksL_law_29 : cL_law.data.toList.drop 851 = dktL_law_29 := dk_seg dksL_law_28 23 rfl rfl
theorem dksL_law_30 : cL_law.data.toList.drop 875 = dktL_law_30 := dk_seg dksL_law_29 24 rfl rfl
theorem dksL_law_31 : cL_law.data.toList.drop 899 = dktL_law_31 := dk_seg dksL_law_30 24 rfl rfl
theorem dksL_law_32 : cL_law.data.toList.drop 923 = dktL_law_32 := dk_seg dksL_law_31 24 rfl rfl
theorem dksL_law_33 : cL_law.data.toList.drop 947 = dktL_law_33 := dk_seg dksL_law_32 24 rfl rfl
theorem dksL_law_34 : cL_law.data.toList.drop 971 = dktL_law_34 := dk_seg dksL_law_33 24 rfl rfl
theorem dksL_law_35 : cL_law.data.toList.drop 995 = dktL_law_35 := dk_seg dksL_law_34 24 rfl rfl
theorem dksL_law_36 : cL_law.data.toList.drop 1019 = dktL_law_36 := dk_seg dksL_law_35 24 rfl rfl
theorem dksL_law_37 : cL_law.data.toList.drop 1043 = dktL_law_37 := dk_seg dksL_law_36 24 rfl rfl
theorem dksL_law_38 : cL_law.data.toList.drop 1067 = dktL_law_38 := dk_seg dksL_law_37 24 rfl rfl
theorem dksL_law_39 : cL_law.data.toList.drop 1091 = dktL_law_39 := dk_seg dksL_law_38 24 rfl rfl
theorem dksL_law_40 : cL_law.data.toList.drop 1115 = dktL_law_40 := dk_seg dksL_law_39 24 rfl rfl
theorem dksL_law_41 : cL_law.data.toList.drop 1139 = dktL_law_41 := dk_seg dksL_law_40 24 rfl rfl
theorem dksL_law_42 : cL_law.data.toList.drop 1163 = dktL_law_42 := dk_seg dksL_law_41 24 rfl rfl
theorem dksL_law_43 : cL_law.data.toList.drop 1187 = dktL_law_43 := dk_seg dksL_law_42 24 rfl rfl
theorem dksL_law_44 : cL_law.data.toList.drop 1210 = dktL_law_44 := dk_seg dksL_law_43 23 rfl rfl
theorem dksL_law_45 : cL_law.data.toList.drop 1233 = dktL_law_45 := dk_seg dksL_law_44 23 rfl rfl
theorem dksL_law_46 : cL_law.data.toList.drop 1255 = dktL_law_46 := dk_seg dksL_law_45 22 rfl rfl
theorem dksL_law_47 : cL_law.data.toList.drop 1279 = dktL_law_47 := dk_seg dksL_law_46 24 rfl rfl
theorem dksL_law_48 : cL_law.data.toList.drop 1303 = dktL_law_48 := dk_seg dksL_law_47 24 rfl rfl
theorem dksL_law_49 : cL_law.data.toList.drop 1327 = dktL_law_49 := dk_seg dksL_law_48 24 rfl rfl
theorem dksL_law_50 : cL_law.data.toList.drop 1351 = dktL_law_50 := dk_seg dksL_law_49 24 rfl rfl
theorem dksL_law_51 : cL_law.data.toList.drop 1374 = dktL_law_51 := dk_seg dksL_law_50 23 rfl rfl
theorem dksL_law_52 : cL_law.data.toList.drop 1397 = dktL_law_52 := dk_seg dksL_law_51 23 rfl rfl
theorem dksL_law_53 : cL_law.data.toList.drop 1420 = dktL_law_53 := dk_seg dksL_law_52 23 rfl rfl
theorem dksL_law_54 : cL_law.data.toList.drop 1443 = dktL_law_54 := dk_seg dksL_law_53 23 rfl rfl
theorem dksL_law_55 : cL_law.data.toList.drop 1467 = dktL_law_55 := dk_seg dksL_law_54 24 rfl rfl
theorem dksL_law_56 : cL_law.data.toList.drop 1489 = dktL_law_56 := dk_seg dksL_law_55 22 rfl rfl
theorem dksL_law_57 : cL_law.data.toList.drop 1513 = dktL_law_57 := dk_seg dksL_law_56 24 rfl rfl
theorem dL_law_0 : decode cL_law 0 = .ok (.new 7, 3) := dk_187 0 7 (dk_at dksL_law_0 0 rfl rfl)
theorem dL_law_3 : decode cL_law 3 = .ok (.dup, 1) := dk_89 (dk_at dksL_law_0 3 rfl rfl)
theorem dL_law_4 : decode cL_law 4 = .ok (.invokespecial 9, 3) := dk_183 0 9 (dk_at dksL_law_0 4 rfl rfl)
theorem dL_law_7 : decode cL_law 7 = .ok (.astore_n 1, 1) := dk_76 (dk_at dksL_law_0 7 rfl rfl)
theorem dL_law_8 : decode cL_law 8 = .ok (.new 10, 3) := dk_187 0 10 (dk_at dksL_law_0 8 rfl rfl)
theorem dL_law_11 : decode cL_law 11 = .ok (.dup, 1) := dk_89 (dk_at dksL_law_0 11 rfl rfl)
theorem dL_law_12 : decode cL_law 12 = .ok (.invokespecial 12, 3) := dk_183 0 12 (dk_at dksL_law_0 12 rfl rfl)
theorem dL_law_15 : decode cL_law 15 = .ok (.astore_n 2, 1) := dk_77 (dk_at dksL_law_0 15 rfl rfl)
theorem dL_law_16 : decode cL_law 16 = .ok (.iconst 0, 1) := dk_3 (dk_at dksL_law_0 16 rfl rfl)
theorem dL_law_17 : decode cL_law 17 = .ok (.istore_n 3, 1) := dk_62 (dk_at dksL_law_0 17 rfl rfl)
theorem dL_law_18 : decode cL_law 18 = .ok (.iload_n 3, 1) := dk_29 (dk_at dksL_law_0 18 rfl rfl)
theorem dL_law_19 : decode cL_law 19 = .ok (.aload_n 0, 1) := dk_42 (dk_at dksL_law_0 19 rfl rfl)
theorem dL_law_20 : decode cL_law 20 = .ok (.arraylength, 1) := dk_190 (dk_at dksL_law_0 20 rfl rfl)
theorem dL_law_21 : decode cL_law 21 = .ok (.bipush 6, 2) := dk_16 6 (dk_at dksL_law_0 21 rfl rfl)
theorem dL_law_23 : decode cL_law 23 = .ok (.isub, 1) := dk_100 (dk_at dksL_law_0 23 rfl rfl)
theorem dL_law_24 : decode cL_law 24 = .ok (.if_icmp .gt 1492, 3) := dk_163 5 212 (dk_at dksL_law_1 0 rfl rfl)
theorem dL_law_27 : decode cL_law 27 = .ok (.aload_n 0, 1) := dk_42 (dk_at dksL_law_1 3 rfl rfl)
theorem dL_law_28 : decode cL_law 28 = .ok (.iload_n 3, 1) := dk_29 (dk_at dksL_law_1 4 rfl rfl)
theorem dL_law_29 : decode cL_law 29 = .ok (.iaload, 1) := dk_46 (dk_at dksL_law_1 5 rfl rfl)
theorem dL_law_30 : decode cL_law 30 = .ok (.bipush 63, 2) := dk_16 63 (dk_at dksL_law_1 6 rfl rfl)
theorem dL_law_32 : decode cL_law 32 = .ok (.iand, 1) := dk_126 (dk_at dksL_law_1 8 rfl rfl)
theorem dL_law_33 : decode cL_law 33 = .ok (.tableswitch 1477 0 46 #[203, 216, 230, 244, 287, 360, 394, 457, 520, 543, 566, 589, 612, 645, 678, 701, 724, 747, 780, 803, 826, 859, 892, 935, 978, 1011, 1034, 1047, 1070, 1083, 1116, 1139, 1172, 1185, 1208, 1221, 1234, 1247, 1260, 1283, 1306, 1349, 1372, 1395, 1418, 1451, 1464], 203) := by decide +kernel
theorem dL_law_236 : decode cL_law 236 = .ok (.aload_n 1, 1) := dk_43 (dk_at dksL_law_3 0 rfl rfl)
theorem dL_law_237 : decode cL_law 237 = .ok (.invokevirtual 13, 3) := dk_182 0 13 (dk_at dksL_law_3 1 rfl rfl)
theorem dL_law_240 : decode cL_law 240 = .ok (.aload_n 2, 1) := dk_44 (dk_at dksL_law_3 4 rfl rfl)
theorem dL_law_241 : decode cL_law 241 = .ok (.invokevirtual 17, 3) := dk_182 0 17 (dk_at dksL_law_3 5 rfl rfl)
theorem dL_law_244 : decode cL_law 244 = .ok (.if_icmp .eq 1266, 3) := dk_159 4 242 (dk_at dksL_law_3 8 rfl rfl)
theorem dL_law_247 : decode cL_law 247 = .ok (.iconst 0, 1) := dk_3 (dk_at dksL_law_3 11 rfl rfl)
theorem dL_law_248 : decode cL_law 248 = .ok (.ireturn, 1) := dk_172 (dk_at dksL_law_3 12 rfl rfl)
theorem dL_law_249 : decode cL_law 249 = .ok (.aload_n 1, 1) := dk_43 (dk_at dksL_law_3 13 rfl rfl)
theorem dL_law_250 : decode cL_law 250 = .ok (.invokevirtual 18, 3) := dk_182 0 18 (dk_at dksL_law_3 14 rfl rfl)
theorem dL_law_253 : decode cL_law 253 = .ok (.aload_n 2, 1) := dk_44 (dk_at dksL_law_3 17 rfl rfl)
theorem dL_law_254 : decode cL_law 254 = .ok (.invokevirtual 22, 3) := dk_182 0 22 (dk_at dksL_law_3 18 rfl rfl)
theorem dL_law_257 : decode cL_law 257 = .ok (.lcmp, 1) := dk_148 (dk_at dksL_law_3 21 rfl rfl)
theorem dL_law_258 : decode cL_law 258 = .ok (.ifCond .eq 1252, 3) := dk_153 4 228 (dk_at dksL_law_4 0 rfl rfl)
theorem dL_law_261 : decode cL_law 261 = .ok (.iconst 0, 1) := dk_3 (dk_at dksL_law_4 3 rfl rfl)
theorem dL_law_262 : decode cL_law 262 = .ok (.ireturn, 1) := dk_172 (dk_at dksL_law_4 4 rfl rfl)
theorem dL_law_263 : decode cL_law 263 = .ok (.aload_n 1, 1) := dk_43 (dk_at dksL_law_4 5 rfl rfl)
theorem dL_law_264 : decode cL_law 264 = .ok (.invokevirtual 23, 3) := dk_182 0 23 (dk_at dksL_law_4 6 rfl rfl)
theorem dL_law_267 : decode cL_law 267 = .ok (.aload_n 2, 1) := dk_44 (dk_at dksL_law_4 9 rfl rfl)
theorem dL_law_268 : decode cL_law 268 = .ok (.invokevirtual 26, 3) := dk_182 0 26 (dk_at dksL_law_4 10 rfl rfl)
theorem dL_law_271 : decode cL_law 271 = .ok (.lcmp, 1) := dk_148 (dk_at dksL_law_4 13 rfl rfl)
theorem dL_law_272 : decode cL_law 272 = .ok (.ifCond .eq 1238, 3) := dk_153 4 214 (dk_at dksL_law_4 14 rfl rfl)
theorem dL_law_275 : decode cL_law 275 = .ok (.iconst 0, 1) := dk_3 (dk_at dksL_law_4 17 rfl rfl)
theorem dL_law_276 : decode cL_law 276 = .ok (.ireturn, 1) := dk_172 (dk_at dksL_law_4 18 rfl rfl)
theorem dL_law_277 : decode cL_law 277 = .ok (.aload_n 1, 1) := dk_43 (dk_at dksL_law_4 19 rfl rfl)
theorem dL_law_278 : decode cL_law 278 = .ok (.aload_n 0, 1) := dk_42 (dk_at dksL_law_4 20 rfl rfl)
theorem dL_law_279 : decode cL_law 279 = .ok (.iload_n 3, 1) := dk_29 (dk_at dksL_law_4 21 rfl rfl)
theorem dL_law_280 : decode cL_law 280 = .ok (.iconst 1, 1) := dk_4 (dk_at dksL_law_4 22 rfl rfl)
theorem dL_law_281 : decode cL_law 281 = .ok (.iadd, 1) := dk_96 (dk_at dksL_law_4 23 rfl rfl)
theorem dL_law_282 : decode cL_law 282 = .ok (.iaload, 1) := dk_46 (dk_at dksL_law_5 0 rfl rfl)
theorem dL_law_283 : decode cL_law 283 = .ok (.aload_n 0, 1) := dk_42 (dk_at dksL_law_5 1 rfl rfl)
theorem dL_law_284 : decode cL_law 284 = .ok (.iload_n 3, 1) := dk_29 (dk_at dksL_law_5 2 rfl rfl)
theorem dL_law_285 : decode cL_law 285 = .ok (.iconst 2, 1) := dk_5 (dk_at dksL_law_5 3 rfl rfl)
theorem dL_law_286 : decode cL_law 286 = .ok (.iadd, 1) := dk_96 (dk_at dksL_law_5 4 rfl rfl)
theorem dL_law_287 : decode cL_law 287 = .ok (.iaload, 1) := dk_46 (dk_at dksL_law_5 5 rfl rfl)
theorem dL_law_288 : decode cL_law 288 = .ok (.aload_n 0, 1) := dk_42 (dk_at dksL_law_5 6 rfl rfl)
theorem dL_law_289 : decode cL_law 289 = .ok (.iload_n 3, 1) := dk_29 (dk_at dksL_law_5 7 rfl rfl)
theorem dL_law_290 : decode cL_law 290 = .ok (.iconst 3, 1) := dk_6 (dk_at dksL_law_5 8 rfl rfl)
theorem dL_law_291 : decode cL_law 291 = .ok (.iadd, 1) := dk_96 (dk_at dksL_law_5 9 rfl rfl)
theorem dL_law_292 : decode cL_law 292 = .ok (.iaload, 1) := dk_46 (dk_at dksL_law_5 10 rfl rfl)
theorem dL_law_293 : decode cL_law 293 = .ok (.invokevirtual 27, 3) := dk_182 0 27 (dk_at dksL_law_5 11 rfl rfl)
theorem dL_law_296 : decode cL_law 296 = .ok (.aload_n 2, 1) := dk_44 (dk_at dksL_law_5 14 rfl rfl)
theorem dL_law_297 : decode cL_law 297 = .ok (.aload_n 0, 1) := dk_42 (dk_at dksL_law_5 15 rfl rfl)
theorem dL_law_298 : decode cL_law 298 = .ok (.iload_n 3, 1) := dk_29 (dk_at dksL_law_5 16 rfl rfl)
theorem dL_law_299 : decode cL_law 299 = .ok (.iconst 1, 1) := dk_4 (dk_at dksL_law_5 17 rfl rfl)
theorem dL_law_300 : decode cL_law 300 = .ok (.iadd, 1) := dk_96 (dk_at dksL_law_5 18 rfl rfl)
theorem dL_law_301 : decode cL_law 301 = .ok (.iaload, 1) := dk_46 (dk_at dksL_law_5 19 rfl rfl)
theorem dL_law_302 : decode cL_law 302 = .ok (.aload_n 0, 1) := dk_42 (dk_at dksL_law_5 20 rfl rfl)
theorem dL_law_303 : decode cL_law 303 = .ok (.iload_n 3, 1) := dk_29 (dk_at dksL_law_5 21 rfl rfl)
theorem dL_law_304 : decode cL_law 304 = .ok (.iconst 2, 1) := dk_5 (dk_at dksL_law_5 22 rfl rfl)
theorem dL_law_305 : decode cL_law 305 = .ok (.iadd, 1) := dk_96 (dk_at dksL_law_5 23 rfl rfl)
theorem dL_law_306 : decode cL_law 306 = .ok (.iaload, 1) := dk_46 (dk_at dksL_law_6 0 rfl rfl)
theorem dL_law_307 : decode cL_law 307 = .ok (.aload_n 0, 1) := dk_42 (dk_at dksL_law_6 1 rfl rfl)
theorem dL_law_308 : decode cL_law 308 = .ok (.iload_n 3, 1) := dk_29 (dk_at dksL_law_6 2 rfl rfl)
theorem dL_law_309 : decode cL_law 309 = .ok (.iconst 3, 1) := dk_6 (dk_at dksL_law_6 3 rfl rfl)
theorem dL_law_310 : decode cL_law 310 = .ok (.iadd, 1) := dk_96 (dk_at dksL_law_6 4 rfl rfl)
theorem dL_law_311 : decode cL_law 311 = .ok (.iaload, 1) := dk_46 (dk_at dksL_law_6 5 rfl rfl)
theorem dL_law_312 : decode cL_law 312 = .ok (.invokevirtual 31, 3) := dk_182 0 31 (dk_at dksL_law_6 6 rfl rfl)
theorem dL_law_315 : decode cL_law 315 = .ok (.if_icmp .eq 1195, 3) := dk_159 4 171 (dk_at dksL_law_6 9 rfl rfl)
theorem dL_law_318 : decode cL_law 318 = .ok (.iconst 0, 1) := dk_3 (dk_at dksL_law_6 12 rfl rfl)
theorem dL_law_319 : decode cL_law 319 = .ok (.ireturn, 1) := dk_172 (dk_at dksL_law_6 13 rfl rfl)
theorem dL_law_320 : decode cL_law 320 = .ok (.aload_n 1, 1) := dk_43 (dk_at dksL_law_6 14 rfl rfl)
theorem dL_law_321 : decode cL_law 321 = .ok (.aload_n 0, 1) := dk_42 (dk_at dksL_law_6 15 rfl rfl)
theorem dL_law_322 : decode cL_law 322 = .ok (.iload_n 3, 1) := dk_29 (dk_at dksL_law_6 16 rfl rfl)
theorem dL_law_323 : decode cL_law 323 = .ok (.iconst 1, 1) := dk_4 (dk_at dksL_law_6 17 rfl rfl)
theorem dL_law_324 : decode cL_law 324 = .ok (.iadd, 1) := dk_96 (dk_at dksL_law_6 18 rfl rfl)
theorem dL_law_325 : decode cL_law 325 = .ok (.iaload, 1) := dk_46 (dk_at dksL_law_6 19 rfl rfl)
theorem dL_law_326 : decode cL_law 326 = .ok (.aload_n 0, 1) := dk_42 (dk_at dksL_law_6 20 rfl rfl)
theorem dL_law_327 : decode cL_law 327 = .ok (.iload_n 3, 1) := dk_29 (dk_at dksL_law_6 21 rfl rfl)
theorem dL_law_328 : decode cL_law 328 = .ok (.iconst 2, 1) := dk_5 (dk_at dksL_law_6 22 rfl rfl)
theorem dL_law_329 : decode cL_law 329 = .ok (.iadd, 1) := dk_96 (dk_at dksL_law_6 23 rfl rfl)
theorem dL_law_330 : decode cL_law 330 = .ok (.iaload, 1) := dk_46 (dk_at dksL_law_7 0 rfl rfl)
theorem dL_law_331 : decode cL_law 331 = .ok (.aload_n 0, 1) := dk_42 (dk_at dksL_law_7 1 rfl rfl)
theorem dL_law_332 : decode cL_law 332 = .ok (.iload_n 3, 1) := dk_29 (dk_at dksL_law_7 2 rfl rfl)
theorem dL_law_333 : decode cL_law 333 = .ok (.iconst 3, 1) := dk_6 (dk_at dksL_law_7 3 rfl rfl)
theorem dL_law_334 : decode cL_law 334 = .ok (.iadd, 1) := dk_96 (dk_at dksL_law_7 4 rfl rfl)
theorem dL_law_335 : decode cL_law 335 = .ok (.iaload, 1) := dk_46 (dk_at dksL_law_7 5 rfl rfl)
theorem dL_law_336 : decode cL_law 336 = .ok (.i2l, 1) := dk_133 (dk_at dksL_law_7 6 rfl rfl)
theorem dL_law_337 : decode cL_law 337 = .ok (.bipush 32, 2) := dk_16 32 (dk_at dksL_law_7 7 rfl rfl)
theorem dL_law_339 : decode cL_law 339 = .ok (.lshl, 1) := dk_121 (dk_at dksL_law_7 9 rfl rfl)
theorem dL_law_340 : decode cL_law 340 = .ok (.aload_n 0, 1) := dk_42 (dk_at dksL_law_7 10 rfl rfl)
theorem dL_law_341 : decode cL_law 341 = .ok (.iload_n 3, 1) := dk_29 (dk_at dksL_law_7 11 rfl rfl)
theorem dL_law_342 : decode cL_law 342 = .ok (.iconst 4, 1) := dk_7 (dk_at dksL_law_7 12 rfl rfl)
theorem dL_law_343 : decode cL_law 343 = .ok (.iadd, 1) := dk_96 (dk_at dksL_law_7 13 rfl rfl)
theorem dL_law_344 : decode cL_law 344 = .ok (.iaload, 1) := dk_46 (dk_at dksL_law_7 14 rfl rfl)
theorem dL_law_345 : decode cL_law 345 = .ok (.i2l, 1) := dk_133 (dk_at dksL_law_7 15 rfl rfl)
theorem dL_law_346 : decode cL_law 346 = .ok (.ldc2_w 32, 3) := dk_20 0 32 (dk_at dksL_law_7 16 rfl rfl)
theorem dL_law_349 : decode cL_law 349 = .ok (.land, 1) := dk_127 (dk_at dksL_law_7 19 rfl rfl)
theorem dL_law_350 : decode cL_law 350 = .ok (.lor, 1) := dk_129 (dk_at dksL_law_7 20 rfl rfl)
theorem dL_law_351 : decode cL_law 351 = .ok (.invokevirtual 34, 3) := dk_182 0 34 (dk_at dksL_law_7 21 rfl rfl)
theorem dL_law_354 : decode cL_law 354 = .ok (.aload_n 2, 1) := dk_44 (dk_at dksL_law_8 0 rfl rfl)
theorem dL_law_355 : decode cL_law 355 = .ok (.aload_n 0, 1) := dk_42 (dk_at dksL_law_8 1 rfl rfl)
theorem dL_law_356 : decode cL_law 356 = .ok (.iload_n 3, 1) := dk_29 (dk_at dksL_law_8 2 rfl rfl)
theorem dL_law_357 : decode cL_law 357 = .ok (.iconst 1, 1) := dk_4 (dk_at dksL_law_8 3 rfl rfl)
theorem dL_law_358 : decode cL_law 358 = .ok (.iadd, 1) := dk_96 (dk_at dksL_law_8 4 rfl rfl)
theorem dL_law_359 : decode cL_law 359 = .ok (.iaload, 1) := dk_46 (dk_at dksL_law_8 5 rfl rfl)
theorem dL_law_360 : decode cL_law 360 = .ok (.aload_n 0, 1) := dk_42 (dk_at dksL_law_8 6 rfl rfl)
theorem dL_law_361 : decode cL_law 361 = .ok (.iload_n 3, 1) := dk_29 (dk_at dksL_law_8 7 rfl rfl)
theorem dL_law_362 : decode cL_law 362 = .ok (.iconst 2, 1) := dk_5 (dk_at dksL_law_8 8 rfl rfl)
theorem dL_law_363 : decode cL_law 363 = .ok (.iadd, 1) := dk_96 (dk_at dksL_law_8 9 rfl rfl)
theorem dL_law_364 : decode cL_law 364 = .ok (.iaload, 1) := dk_46 (dk_at dksL_law_8 10 rfl rfl)
theorem dL_law_365 : decode cL_law 365 = .ok (.aload_n 0, 1) := dk_42 (dk_at dksL_law_8 11 rfl rfl)
theorem dL_law_366 : decode cL_law 366 = .ok (.iload_n 3, 1) := dk_29 (dk_at dksL_law_8 12 rfl rfl)
theorem dL_law_367 : decode cL_law 367 = .ok (.iconst 3, 1) := dk_6 (dk_at dksL_law_8 13 rfl rfl)
theorem dL_law_368 : decode cL_law 368 = .ok (.iadd, 1) := dk_96 (dk_at dksL_law_8 14 rfl rfl)
theorem dL_law_369 : decode cL_law 369 = .ok (.iaload, 1) := dk_46 (dk_at dksL_law_8 15 rfl rfl)
theorem dL_law_370 : decode cL_law 370 = .ok (.i2l, 1) := dk_133 (dk_at dksL_law_8 16 rfl rfl)
theorem dL_law_371 : decode cL_law 371 = .ok (.bipush 32, 2) := dk_16 32 (dk_at dksL_law_8 17 rfl rfl)
theorem dL_law_373 : decode cL_law 373 = .ok (.lshl, 1) := dk_121 (dk_at dksL_law_8 19 rfl rfl)
theorem dL_law_374 : decode cL_law 374 = .ok (.aload_n 0, 1) := dk_42 (dk_at dksL_law_8 20 rfl rfl)
theorem dL_law_375 : decode cL_law 375 = .ok (.iload_n 3, 1) := dk_29 (dk_at dksL_law_8 21 rfl rfl)
theorem dL_law_376 : decode cL_law 376 = .ok (.iconst 4, 1) := dk_7 (dk_at dksL_law_8 22 rfl rfl)
theorem dL_law_377 : decode cL_law 377 = .ok (.iadd, 1) := dk_96 (dk_at dksL_law_8 23 rfl rfl)
theorem dL_law_378 : decode cL_law 378 = .ok (.iaload, 1) := dk_46 (dk_at dksL_law_9 0 rfl rfl)
theorem dL_law_379 : decode cL_law 379 = .ok (.i2l, 1) := dk_133 (dk_at dksL_law_9 1 rfl rfl)
theorem dL_law_380 : decode cL_law 380 = .ok (.ldc2_w 32, 3) := dk_20 0 32 (dk_at dksL_law_9 2 rfl rfl)
theorem dL_law_383 : decode cL_law 383 = .ok (.land, 1) := dk_127 (dk_at dksL_law_9 5 rfl rfl)
theorem dL_law_384 : decode cL_law 384 = .ok (.lor, 1) := dk_129 (dk_at dksL_law_9 6 rfl rfl)
theorem dL_law_385 : decode cL_law 385 = .ok (.invokevirtual 38, 3) := dk_182 0 38 (dk_at dksL_law_9 7 rfl rfl)
theorem dL_law_388 : decode cL_law 388 = .ok (.if_icmp .eq 1122, 3) := dk_159 4 98 (dk_at dksL_law_9 10 rfl rfl)
theorem dL_law_391 : decode cL_law 391 = .ok (.iconst 0, 1) := dk_3 (dk_at dksL_law_9 13 rfl rfl)
theorem dL_law_392 : decode cL_law 392 = .ok (.ireturn, 1) := dk_172 (dk_at dksL_law_9 14 rfl rfl)
theorem dL_law_393 : decode cL_law 393 = .ok (.aload_n 1, 1) := dk_43 (dk_at dksL_law_9 15 rfl rfl)
theorem dL_law_394 : decode cL_law 394 = .ok (.aload_n 0, 1) := dk_42 (dk_at dksL_law_9 16 rfl rfl)
theorem dL_law_395 : decode cL_law 395 = .ok (.iload_n 3, 1) := dk_29 (dk_at dksL_law_9 17 rfl rfl)
theorem dL_law_396 : decode cL_law 396 = .ok (.iconst 1, 1) := dk_4 (dk_at dksL_law_9 18 rfl rfl)
theorem dL_law_397 : decode cL_law 397 = .ok (.iadd, 1) := dk_96 (dk_at dksL_law_9 19 rfl rfl)
theorem dL_law_398 : decode cL_law 398 = .ok (.iaload, 1) := dk_46 (dk_at dksL_law_9 20 rfl rfl)
theorem dL_law_399 : decode cL_law 399 = .ok (.aload_n 0, 1) := dk_42 (dk_at dksL_law_9 21 rfl rfl)
theorem dL_law_400 : decode cL_law 400 = .ok (.iload_n 3, 1) := dk_29 (dk_at dksL_law_9 22 rfl rfl)
theorem dL_law_401 : decode cL_law 401 = .ok (.iconst 2, 1) := dk_5 (dk_at dksL_law_9 23 rfl rfl)
theorem dL_law_402 : decode cL_law 402 = .ok (.iadd, 1) := dk_96 (dk_at dksL_law_10 0 rfl rfl)
theorem dL_law_403 : decode cL_law 403 = .ok (.iaload, 1) := dk_46 (dk_at dksL_law_10 1 rfl rfl)
theorem dL_law_404 : decode cL_law 404 = .ok (.invokevirtual 39, 3) := dk_182 0 39 (dk_at dksL_law_10 2 rfl rfl)
theorem dL_law_407 : decode cL_law 407 = .ok (.aload_n 2, 1) := dk_44 (dk_at dksL_law_10 5 rfl rfl)
theorem dL_law_408 : decode cL_law 408 = .ok (.aload_n 0, 1) := dk_42 (dk_at dksL_law_10 6 rfl rfl)
theorem dL_law_409 : decode cL_law 409 = .ok (.iload_n 3, 1) := dk_29 (dk_at dksL_law_10 7 rfl rfl)
theorem dL_law_410 : decode cL_law 410 = .ok (.iconst 1, 1) := dk_4 (dk_at dksL_law_10 8 rfl rfl)
theorem dL_law_411 : decode cL_law 411 = .ok (.iadd, 1) := dk_96 (dk_at dksL_law_10 9 rfl rfl)
theorem dL_law_412 : decode cL_law 412 = .ok (.iaload, 1) := dk_46 (dk_at dksL_law_10 10 rfl rfl)
theorem dL_law_413 : decode cL_law 413 = .ok (.aload_n 0, 1) := dk_42 (dk_at dksL_law_10 11 rfl rfl)
theorem dL_law_414 : decode cL_law 414 = .ok (.iload_n 3, 1) := dk_29 (dk_at dksL_law_10 12 rfl rfl)
theorem dL_law_415 : decode cL_law 415 = .ok (.iconst 2, 1) := dk_5 (dk_at dksL_law_10 13 rfl rfl)
theorem dL_law_416 : decode cL_law 416 = .ok (.iadd, 1) := dk_96 (dk_at dksL_law_10 14 rfl rfl)
theorem dL_law_417 : decode cL_law 417 = .ok (.iaload, 1) := dk_46 (dk_at dksL_law_10 15 rfl rfl)
theorem dL_law_418 : decode cL_law 418 = .ok (.invokevirtual 43, 3) := dk_182 0 43 (dk_at dksL_law_10 16 rfl rfl)
theorem dL_law_421 : decode cL_law 421 = .ok (.lcmp, 1) := dk_148 (dk_at dksL_law_10 19 rfl rfl)
theorem dL_law_422 : decode cL_law 422 = .ok (.ifCond .eq 1088, 3) := dk_153 4 64 (dk_at dksL_law_10 20 rfl rfl)
theorem dL_law_425 : decode cL_law 425 = .ok (.iconst 0, 1) := dk_3 (dk_at dksL_law_10 23 rfl rfl)
theorem dL_law_426 : decode cL_law 426 = .ok (.ireturn, 1) := dk_172 (dk_at dksL_law_11 0 rfl rfl)
theorem dL_law_427 : decode cL_law 427 = .ok (.aload_n 1, 1) := dk_43 (dk_at dksL_law_11 1 rfl rfl)
theorem dL_law_428 : decode cL_law 428 = .ok (.aload_n 0, 1) := dk_42 (dk_at dksL_law_11 2 rfl rfl)
theorem dL_law_429 : decode cL_law 429 = .ok (.iload_n 3, 1) := dk_29 (dk_at dksL_law_11 3 rfl rfl)
theorem dL_law_430 : decode cL_law 430 = .ok (.iconst 1, 1) := dk_4 (dk_at dksL_law_11 4 rfl rfl)
theorem dL_law_431 : decode cL_law 431 = .ok (.iadd, 1) := dk_96 (dk_at dksL_law_11 5 rfl rfl)
theorem dL_law_432 : decode cL_law 432 = .ok (.iaload, 1) := dk_46 (dk_at dksL_law_11 6 rfl rfl)
theorem dL_law_433 : decode cL_law 433 = .ok (.aload_n 0, 1) := dk_42 (dk_at dksL_law_11 7 rfl rfl)
theorem dL_law_434 : decode cL_law 434 = .ok (.iload_n 3, 1) := dk_29 (dk_at dksL_law_11 8 rfl rfl)
theorem dL_law_435 : decode cL_law 435 = .ok (.iconst 2, 1) := dk_5 (dk_at dksL_law_11 9 rfl rfl)
theorem dL_law_436 : decode cL_law 436 = .ok (.iadd, 1) := dk_96 (dk_at dksL_law_11 10 rfl rfl)
theorem dL_law_437 : decode cL_law 437 = .ok (.iaload, 1) := dk_46 (dk_at dksL_law_11 11 rfl rfl)
theorem dL_law_438 : decode cL_law 438 = .ok (.aload_n 0, 1) := dk_42 (dk_at dksL_law_11 12 rfl rfl)
theorem dL_law_439 : decode cL_law 439 = .ok (.iload_n 3, 1) := dk_29 (dk_at dksL_law_11 13 rfl rfl)
theorem dL_law_440 : decode cL_law 440 = .ok (.iconst 3, 1) := dk_6 (dk_at dksL_law_11 14 rfl rfl)
theorem dL_law_441 : decode cL_law 441 = .ok (.iadd, 1) := dk_96 (dk_at dksL_law_11 15 rfl rfl)
theorem dL_law_442 : decode cL_law 442 = .ok (.iaload, 1) := dk_46 (dk_at dksL_law_11 16 rfl rfl)
theorem dL_law_443 : decode cL_law 443 = .ok (.aload_n 0, 1) := dk_42 (dk_at dksL_law_11 17 rfl rfl)
theorem dL_law_444 : decode cL_law 444 = .ok (.iload_n 3, 1) := dk_29 (dk_at dksL_law_11 18 rfl rfl)
theorem dL_law_445 : decode cL_law 445 = .ok (.iconst 4, 1) := dk_7 (dk_at dksL_law_11 19 rfl rfl)
theorem dL_law_446 : decode cL_law 446 = .ok (.iadd, 1) := dk_96 (dk_at dksL_law_11 20 rfl rfl)
theorem dL_law_447 : decode cL_law 447 = .ok (.iaload, 1) := dk_46 (dk_at dksL_law_11 21 rfl rfl)
theorem dL_law_448 : decode cL_law 448 = .ok (.aload_n 0, 1) := dk_42 (dk_at dksL_law_11 22 rfl rfl)
theorem dL_law_449 : decode cL_law 449 = .ok (.iload_n 3, 1) := dk_29 (dk_at dksL_law_11 23 rfl rfl)
theorem dL_law_450 : decode cL_law 450 = .ok (.iconst 5, 1) := dk_8 (dk_at dksL_law_12 0 rfl rfl)
theorem dL_law_451 : decode cL_law 451 = .ok (.iadd, 1) := dk_96 (dk_at dksL_law_12 1 rfl rfl)
theorem dL_law_452 : decode cL_law 452 = .ok (.iaload, 1) := dk_46 (dk_at dksL_law_12 2 rfl rfl)
theorem dL_law_453 : decode cL_law 453 = .ok (.invokevirtual 44, 3) := dk_182 0 44 (dk_at dksL_law_12 3 rfl rfl)
theorem dL_law_456 : decode cL_law 456 = .ok (.aload_n 2, 1) := dk_44 (dk_at dksL_law_12 6 rfl rfl)
theorem dL_law_457 : decode cL_law 457 = .ok (.aload_n 0, 1) := dk_42 (dk_at dksL_law_12 7 rfl rfl)
theorem dL_law_458 : decode cL_law 458 = .ok (.iload_n 3, 1) := dk_29 (dk_at dksL_law_12 8 rfl rfl)
theorem dL_law_459 : decode cL_law 459 = .ok (.iconst 1, 1) := dk_4 (dk_at dksL_law_12 9 rfl rfl)
theorem dL_law_460 : decode cL_law 460 = .ok (.iadd, 1) := dk_96 (dk_at dksL_law_12 10 rfl rfl)
theorem dL_law_461 : decode cL_law 461 = .ok (.iaload, 1) := dk_46 (dk_at dksL_law_12 11 rfl rfl)
theorem dL_law_462 : decode cL_law 462 = .ok (.aload_n 0, 1) := dk_42 (dk_at dksL_law_12 12 rfl rfl)
theorem dL_law_463 : decode cL_law 463 = .ok (.iload_n 3, 1) := dk_29 (dk_at dksL_law_12 13 rfl rfl)
theorem dL_law_464 : decode cL_law 464 = .ok (.iconst 2, 1) := dk_5 (dk_at dksL_law_12 14 rfl rfl)
theorem dL_law_465 : decode cL_law 465 = .ok (.iadd, 1) := dk_96 (dk_at dksL_law_12 15 rfl rfl)
theorem dL_law_466 : decode cL_law 466 = .ok (.iaload, 1) := dk_46 (dk_at dksL_law_12 16 rfl rfl)
theorem dL_law_467 : decode cL_law 467 = .ok (.aload_n 0, 1) := dk_42 (dk_at dksL_law_12 17 rfl rfl)
theorem dL_law_468 : decode cL_law 468 = .ok (.iload_n 3, 1) := dk_29 (dk_at dksL_law_12 18 rfl rfl)
theorem dL_law_469 : decode cL_law 469 = .ok (.iconst 3, 1) := dk_6 (dk_at dksL_law_12 19 rfl rfl)
theorem dL_law_470 : decode cL_law 470 = .ok (.iadd, 1) := dk_96 (dk_at dksL_law_12 20 rfl rfl)
theorem dL_law_471 : decode cL_law 471 = .ok (.iaload, 1) := dk_46 (dk_at dksL_law_12 21 rfl rfl)
theorem dL_law_472 : decode cL_law 472 = .ok (.aload_n 0, 1) := dk_42 (dk_at dksL_law_12 22 rfl rfl)
theorem dL_law_473 : decode cL_law 473 = .ok (.iload_n 3, 1) := dk_29 (dk_at dksL_law_12 23 rfl rfl)
theorem dL_law_474 : decode cL_law 474 = .ok (.iconst 4, 1) := dk_7 (dk_at dksL_law_13 0 rfl rfl)
theorem dL_law_475 : decode cL_law 475 = .ok (.iadd, 1) := dk_96 (dk_at dksL_law_13 1 rfl rfl)
theorem dL_law_476 : decode cL_law 476 = .ok (.iaload, 1) := dk_46 (dk_at dksL_law_13 2 rfl rfl)
theorem dL_law_477 : decode cL_law 477 = .ok (.aload_n 0, 1) := dk_42 (dk_at dksL_law_13 3 rfl rfl)
theorem dL_law_478 : decode cL_law 478 = .ok (.iload_n 3, 1) := dk_29 (dk_at dksL_law_13 4 rfl rfl)
theorem dL_law_479 : decode cL_law 479 = .ok (.iconst 5, 1) := dk_8 (dk_at dksL_law_13 5 rfl rfl)
theorem dL_law_480 : decode cL_law 480 = .ok (.iadd, 1) := dk_96 (dk_at dksL_law_13 6 rfl rfl)
theorem dL_law_481 : decode cL_law 481 = .ok (.iaload, 1) := dk_46 (dk_at dksL_law_13 7 rfl rfl)
theorem dL_law_482 : decode cL_law 482 = .ok (.invokevirtual 48, 3) := dk_182 0 48 (dk_at dksL_law_13 8 rfl rfl)
theorem dL_law_485 : decode cL_law 485 = .ok (.if_icmp .eq 1025, 3) := dk_159 4 1 (dk_at dksL_law_13 11 rfl rfl)
theorem dL_law_488 : decode cL_law 488 = .ok (.iconst 0, 1) := dk_3 (dk_at dksL_law_13 14 rfl rfl)
theorem dL_law_489 : decode cL_law 489 = .ok (.ireturn, 1) := dk_172 (dk_at dksL_law_13 15 rfl rfl)
theorem dL_law_490 : decode cL_law 490 = .ok (.aload_n 1, 1) := dk_43 (dk_at dksL_law_13 16 rfl rfl)
theorem dL_law_491 : decode cL_law 491 = .ok (.aload_n 0, 1) := dk_42 (dk_at dksL_law_13 17 rfl rfl)
theorem dL_law_492 : decode cL_law 492 = .ok (.iload_n 3, 1) := dk_29 (dk_at dksL_law_13 18 rfl rfl)
theorem dL_law_493 : decode cL_law 493 = .ok (.iconst 1, 1) := dk_4 (dk_at dksL_law_13 19 rfl rfl)
theorem dL_law_494 : decode cL_law 494 = .ok (.iadd, 1) := dk_96 (dk_at dksL_law_13 20 rfl rfl)
theorem dL_law_495 : decode cL_law 495 = .ok (.iaload, 1) := dk_46 (dk_at dksL_law_13 21 rfl rfl)
theorem dL_law_496 : decode cL_law 496 = .ok (.aload_n 0, 1) := dk_42 (dk_at dksL_law_13 22 rfl rfl)
theorem dL_law_497 : decode cL_law 497 = .ok (.iload_n 3, 1) := dk_29 (dk_at dksL_law_13 23 rfl rfl)
theorem dL_law_498 : decode cL_law 498 = .ok (.iconst 2, 1) := dk_5 (dk_at dksL_law_14 0 rfl rfl)
theorem dL_law_499 : decode cL_law 499 = .ok (.iadd, 1) := dk_96 (dk_at dksL_law_14 1 rfl rfl)
theorem dL_law_500 : decode cL_law 500 = .ok (.iaload, 1) := dk_46 (dk_at dksL_law_14 2 rfl rfl)
theorem dL_law_501 : decode cL_law 501 = .ok (.aload_n 0, 1) := dk_42 (dk_at dksL_law_14 3 rfl rfl)
theorem dL_law_502 : decode cL_law 502 = .ok (.iload_n 3, 1) := dk_29 (dk_at dksL_law_14 4 rfl rfl)
theorem dL_law_503 : decode cL_law 503 = .ok (.iconst 3, 1) := dk_6 (dk_at dksL_law_14 5 rfl rfl)
theorem dL_law_504 : decode cL_law 504 = .ok (.iadd, 1) := dk_96 (dk_at dksL_law_14 6 rfl rfl)
theorem dL_law_505 : decode cL_law 505 = .ok (.iaload, 1) := dk_46 (dk_at dksL_law_14 7 rfl rfl)
theorem dL_law_506 : decode cL_law 506 = .ok (.aload_n 0, 1) := dk_42 (dk_at dksL_law_14 8 rfl rfl)
theorem dL_law_507 : decode cL_law 507 = .ok (.iload_n 3, 1) := dk_29 (dk_at dksL_law_14 9 rfl rfl)
theorem dL_law_508 : decode cL_law 508 = .ok (.iconst 4, 1) := dk_7 (dk_at dksL_law_14 10 rfl rfl)
theorem dL_law_509 : decode cL_law 509 = .ok (.iadd, 1) := dk_96 (dk_at dksL_law_14 11 rfl rfl)
theorem dL_law_510 : decode cL_law 510 = .ok (.iaload, 1) := dk_46 (dk_at dksL_law_14 12 rfl rfl)
theorem dL_law_511 : decode cL_law 511 = .ok (.aload_n 0, 1) := dk_42 (dk_at dksL_law_14 13 rfl rfl)
theorem dL_law_512 : decode cL_law 512 = .ok (.iload_n 3, 1) := dk_29 (dk_at dksL_law_14 14 rfl rfl)
theorem dL_law_513 : decode cL_law 513 = .ok (.iconst 5, 1) := dk_8 (dk_at dksL_law_14 15 rfl rfl)
theorem dL_law_514 : decode cL_law 514 = .ok (.iadd, 1) := dk_96 (dk_at dksL_law_14 16 rfl rfl)
theorem dL_law_515 : decode cL_law 515 = .ok (.iaload, 1) := dk_46 (dk_at dksL_law_14 17 rfl rfl)
theorem dL_law_516 : decode cL_law 516 = .ok (.invokevirtual 49, 3) := dk_182 0 49 (dk_at dksL_law_14 18 rfl rfl)
theorem dL_law_519 : decode cL_law 519 = .ok (.aload_n 2, 1) := dk_44 (dk_at dksL_law_14 21 rfl rfl)
theorem dL_law_520 : decode cL_law 520 = .ok (.aload_n 0, 1) := dk_42 (dk_at dksL_law_14 22 rfl rfl)
theorem dL_law_521 : decode cL_law 521 = .ok (.iload_n 3, 1) := dk_29 (dk_at dksL_law_14 23 rfl rfl)
theorem dL_law_522 : decode cL_law 522 = .ok (.iconst 1, 1) := dk_4 (dk_at dksL_law_15 0 rfl rfl)
theorem dL_law_523 : decode cL_law 523 = .ok (.iadd, 1) := dk_96 (dk_at dksL_law_15 1 rfl rfl)
theorem dL_law_524 : decode cL_law 524 = .ok (.iaload, 1) := dk_46 (dk_at dksL_law_15 2 rfl rfl)
theorem dL_law_525 : decode cL_law 525 = .ok (.aload_n 0, 1) := dk_42 (dk_at dksL_law_15 3 rfl rfl)
theorem dL_law_526 : decode cL_law 526 = .ok (.iload_n 3, 1) := dk_29 (dk_at dksL_law_15 4 rfl rfl)
theorem dL_law_527 : decode cL_law 527 = .ok (.iconst 2, 1) := dk_5 (dk_at dksL_law_15 5 rfl rfl)
theorem dL_law_528 : decode cL_law 528 = .ok (.iadd, 1) := dk_96 (dk_at dksL_law_15 6 rfl rfl)
theorem dL_law_529 : decode cL_law 529 = .ok (.iaload, 1) := dk_46 (dk_at dksL_law_15 7 rfl rfl)
theorem dL_law_530 : decode cL_law 530 = .ok (.aload_n 0, 1) := dk_42 (dk_at dksL_law_15 8 rfl rfl)
theorem dL_law_531 : decode cL_law 531 = .ok (.iload_n 3, 1) := dk_29 (dk_at dksL_law_15 9 rfl rfl)
theorem dL_law_532 : decode cL_law 532 = .ok (.iconst 3, 1) := dk_6 (dk_at dksL_law_15 10 rfl rfl)
theorem dL_law_533 : decode cL_law 533 = .ok (.iadd, 1) := dk_96 (dk_at dksL_law_15 11 rfl rfl)
theorem dL_law_534 : decode cL_law 534 = .ok (.iaload, 1) := dk_46 (dk_at dksL_law_15 12 rfl rfl)
theorem dL_law_535 : decode cL_law 535 = .ok (.aload_n 0, 1) := dk_42 (dk_at dksL_law_15 13 rfl rfl)
theorem dL_law_536 : decode cL_law 536 = .ok (.iload_n 3, 1) := dk_29 (dk_at dksL_law_15 14 rfl rfl)
theorem dL_law_537 : decode cL_law 537 = .ok (.iconst 4, 1) := dk_7 (dk_at dksL_law_15 15 rfl rfl)
theorem dL_law_538 : decode cL_law 538 = .ok (.iadd, 1) := dk_96 (dk_at dksL_law_15 16 rfl rfl)
theorem dL_law_539 : decode cL_law 539 = .ok (.iaload, 1) := dk_46 (dk_at dksL_law_15 17 rfl rfl)
theorem dL_law_540 : decode cL_law 540 = .ok (.aload_n 0, 1) := dk_42 (dk_at dksL_law_15 18 rfl rfl)
theorem dL_law_541 : decode cL_law 541 = .ok (.iload_n 3, 1) := dk_29 (dk_at dksL_law_15 19 rfl rfl)
theorem dL_law_542 : decode cL_law 542 = .ok (.iconst 5, 1) := dk_8 (dk_at dksL_law_15 20 rfl rfl)
theorem dL_law_543 : decode cL_law 543 = .ok (.iadd, 1) := dk_96 (dk_at dksL_law_15 21 rfl rfl)
theorem dL_law_544 : decode cL_law 544 = .ok (.iaload, 1) := dk_46 (dk_at dksL_law_15 22 rfl rfl)
theorem dL_law_545 : decode cL_law 545 = .ok (.invokevirtual 53, 3) := dk_182 0 53 (dk_at dksL_law_16 0 rfl rfl)
theorem dL_law_548 : decode cL_law 548 = .ok (.if_icmp .eq 962, 3) := dk_159 3 194 (dk_at dksL_law_16 3 rfl rfl)
theorem dL_law_551 : decode cL_law 551 = .ok (.iconst 0, 1) := dk_3 (dk_at dksL_law_16 6 rfl rfl)
theorem dL_law_552 : decode cL_law 552 = .ok (.ireturn, 1) := dk_172 (dk_at dksL_law_16 7 rfl rfl)
theorem dL_law_553 : decode cL_law 553 = .ok (.aload_n 1, 1) := dk_43 (dk_at dksL_law_16 8 rfl rfl)
theorem dL_law_554 : decode cL_law 554 = .ok (.aload_n 0, 1) := dk_42 (dk_at dksL_law_16 9 rfl rfl)
theorem dL_law_555 : decode cL_law 555 = .ok (.iload_n 3, 1) := dk_29 (dk_at dksL_law_16 10 rfl rfl)
theorem dL_law_556 : decode cL_law 556 = .ok (.iconst 1, 1) := dk_4 (dk_at dksL_law_16 11 rfl rfl)
theorem dL_law_557 : decode cL_law 557 = .ok (.iadd, 1) := dk_96 (dk_at dksL_law_16 12 rfl rfl)
theorem dL_law_558 : decode cL_law 558 = .ok (.iaload, 1) := dk_46 (dk_at dksL_law_16 13 rfl rfl)
theorem dL_law_559 : decode cL_law 559 = .ok (.invokevirtual 54, 3) := dk_182 0 54 (dk_at dksL_law_16 14 rfl rfl)
theorem dL_law_562 : decode cL_law 562 = .ok (.aload_n 2, 1) := dk_44 (dk_at dksL_law_16 17 rfl rfl)
theorem dL_law_563 : decode cL_law 563 = .ok (.aload_n 0, 1) := dk_42 (dk_at dksL_law_16 18 rfl rfl)
theorem dL_law_564 : decode cL_law 564 = .ok (.iload_n 3, 1) := dk_29 (dk_at dksL_law_16 19 rfl rfl)
theorem dL_law_565 : decode cL_law 565 = .ok (.iconst 1, 1) := dk_4 (dk_at dksL_law_16 20 rfl rfl)
theorem dL_law_566 : decode cL_law 566 = .ok (.iadd, 1) := dk_96 (dk_at dksL_law_16 21 rfl rfl)
theorem dL_law_567 : decode cL_law 567 = .ok (.iaload, 1) := dk_46 (dk_at dksL_law_16 22 rfl rfl)
theorem dL_law_568 : decode cL_law 568 = .ok (.invokevirtual 58, 3) := dk_182 0 58 (dk_at dksL_law_17 0 rfl rfl)
theorem dL_law_571 : decode cL_law 571 = .ok (.if_icmp .eq 939, 3) := dk_159 3 171 (dk_at dksL_law_17 3 rfl rfl)
theorem dL_law_574 : decode cL_law 574 = .ok (.iconst 0, 1) := dk_3 (dk_at dksL_law_17 6 rfl rfl)
theorem dL_law_575 : decode cL_law 575 = .ok (.ireturn, 1) := dk_172 (dk_at dksL_law_17 7 rfl rfl)
theorem dL_law_576 : decode cL_law 576 = .ok (.aload_n 1, 1) := dk_43 (dk_at dksL_law_17 8 rfl rfl)
theorem dL_law_577 : decode cL_law 577 = .ok (.aload_n 0, 1) := dk_42 (dk_at dksL_law_17 9 rfl rfl)
theorem dL_law_578 : decode cL_law 578 = .ok (.iload_n 3, 1) := dk_29 (dk_at dksL_law_17 10 rfl rfl)
theorem dL_law_579 : decode cL_law 579 = .ok (.iconst 1, 1) := dk_4 (dk_at dksL_law_17 11 rfl rfl)
theorem dL_law_580 : decode cL_law 580 = .ok (.iadd, 1) := dk_96 (dk_at dksL_law_17 12 rfl rfl)
theorem dL_law_581 : decode cL_law 581 = .ok (.iaload, 1) := dk_46 (dk_at dksL_law_17 13 rfl rfl)
theorem dL_law_582 : decode cL_law 582 = .ok (.invokevirtual 59, 3) := dk_182 0 59 (dk_at dksL_law_17 14 rfl rfl)
theorem dL_law_585 : decode cL_law 585 = .ok (.aload_n 2, 1) := dk_44 (dk_at dksL_law_17 17 rfl rfl)
theorem dL_law_586 : decode cL_law 586 = .ok (.aload_n 0, 1) := dk_42 (dk_at dksL_law_17 18 rfl rfl)
theorem dL_law_587 : decode cL_law 587 = .ok (.iload_n 3, 1) := dk_29 (dk_at dksL_law_17 19 rfl rfl)
theorem dL_law_588 : decode cL_law 588 = .ok (.iconst 1, 1) := dk_4 (dk_at dksL_law_17 20 rfl rfl)
theorem dL_law_589 : decode cL_law 589 = .ok (.iadd, 1) := dk_96 (dk_at dksL_law_17 21 rfl rfl)
theorem dL_law_590 : decode cL_law 590 = .ok (.iaload, 1) := dk_46 (dk_at dksL_law_17 22 rfl rfl)
theorem dL_law_591 : decode cL_law 591 = .ok (.invokevirtual 62, 3) := dk_182 0 62 (dk_at dksL_law_18 0 rfl rfl)
theorem dL_law_594 : decode cL_law 594 = .ok (.if_icmp .eq 916, 3) := dk_159 3 148 (dk_at dksL_law_18 3 rfl rfl)
theorem dL_law_597 : decode cL_law 597 = .ok (.iconst 0, 1) := dk_3 (dk_at dksL_law_18 6 rfl rfl)
theorem dL_law_598 : decode cL_law 598 = .ok (.ireturn, 1) := dk_172 (dk_at dksL_law_18 7 rfl rfl)
theorem dL_law_599 : decode cL_law 599 = .ok (.aload_n 1, 1) := dk_43 (dk_at dksL_law_18 8 rfl rfl)
theorem dL_law_600 : decode cL_law 600 = .ok (.aload_n 0, 1) := dk_42 (dk_at dksL_law_18 9 rfl rfl)
theorem dL_law_601 : decode cL_law 601 = .ok (.iload_n 3, 1) := dk_29 (dk_at dksL_law_18 10 rfl rfl)
theorem dL_law_602 : decode cL_law 602 = .ok (.iconst 1, 1) := dk_4 (dk_at dksL_law_18 11 rfl rfl)
theorem dL_law_603 : decode cL_law 603 = .ok (.iadd, 1) := dk_96 (dk_at dksL_law_18 12 rfl rfl)
theorem dL_law_604 : decode cL_law 604 = .ok (.iaload, 1) := dk_46 (dk_at dksL_law_18 13 rfl rfl)
theorem dL_law_605 : decode cL_law 605 = .ok (.invokevirtual 63, 3) := dk_182 0 63 (dk_at dksL_law_18 14 rfl rfl)
theorem dL_law_608 : decode cL_law 608 = .ok (.aload_n 2, 1) := dk_44 (dk_at dksL_law_18 17 rfl rfl)
theorem dL_law_609 : decode cL_law 609 = .ok (.aload_n 0, 1) := dk_42 (dk_at dksL_law_18 18 rfl rfl)
theorem dL_law_610 : decode cL_law 610 = .ok (.iload_n 3, 1) := dk_29 (dk_at dksL_law_18 19 rfl rfl)
theorem dL_law_611 : decode cL_law 611 = .ok (.iconst 1, 1) := dk_4 (dk_at dksL_law_18 20 rfl rfl)
theorem dL_law_612 : decode cL_law 612 = .ok (.iadd, 1) := dk_96 (dk_at dksL_law_18 21 rfl rfl)
theorem dL_law_613 : decode cL_law 613 = .ok (.iaload, 1) := dk_46 (dk_at dksL_law_18 22 rfl rfl)
theorem dL_law_614 : decode cL_law 614 = .ok (.invokevirtual 66, 3) := dk_182 0 66 (dk_at dksL_law_19 0 rfl rfl)
theorem dL_law_617 : decode cL_law 617 = .ok (.if_icmp .eq 893, 3) := dk_159 3 125 (dk_at dksL_law_19 3 rfl rfl)
theorem dL_law_620 : decode cL_law 620 = .ok (.iconst 0, 1) := dk_3 (dk_at dksL_law_19 6 rfl rfl)
theorem dL_law_621 : decode cL_law 621 = .ok (.ireturn, 1) := dk_172 (dk_at dksL_law_19 7 rfl rfl)
theorem dL_law_622 : decode cL_law 622 = .ok (.aload_n 1, 1) := dk_43 (dk_at dksL_law_19 8 rfl rfl)
theorem dL_law_623 : decode cL_law 623 = .ok (.aload_n 0, 1) := dk_42 (dk_at dksL_law_19 9 rfl rfl)
theorem dL_law_624 : decode cL_law 624 = .ok (.iload_n 3, 1) := dk_29 (dk_at dksL_law_19 10 rfl rfl)
theorem dL_law_625 : decode cL_law 625 = .ok (.iconst 1, 1) := dk_4 (dk_at dksL_law_19 11 rfl rfl)
theorem dL_law_626 : decode cL_law 626 = .ok (.iadd, 1) := dk_96 (dk_at dksL_law_19 12 rfl rfl)
theorem dL_law_627 : decode cL_law 627 = .ok (.iaload, 1) := dk_46 (dk_at dksL_law_19 13 rfl rfl)
theorem dL_law_628 : decode cL_law 628 = .ok (.invokevirtual 67, 3) := dk_182 0 67 (dk_at dksL_law_19 14 rfl rfl)
theorem dL_law_631 : decode cL_law 631 = .ok (.aload_n 2, 1) := dk_44 (dk_at dksL_law_19 17 rfl rfl)
theorem dL_law_632 : decode cL_law 632 = .ok (.aload_n 0, 1) := dk_42 (dk_at dksL_law_19 18 rfl rfl)
theorem dL_law_633 : decode cL_law 633 = .ok (.iload_n 3, 1) := dk_29 (dk_at dksL_law_19 19 rfl rfl)
theorem dL_law_634 : decode cL_law 634 = .ok (.iconst 1, 1) := dk_4 (dk_at dksL_law_19 20 rfl rfl)
theorem dL_law_635 : decode cL_law 635 = .ok (.iadd, 1) := dk_96 (dk_at dksL_law_19 21 rfl rfl)
theorem dL_law_636 : decode cL_law 636 = .ok (.iaload, 1) := dk_46 (dk_at dksL_law_19 22 rfl rfl)
theorem dL_law_637 : decode cL_law 637 = .ok (.invokevirtual 70, 3) := dk_182 0 70 (dk_at dksL_law_20 0 rfl rfl)
theorem dL_law_640 : decode cL_law 640 = .ok (.if_icmp .eq 870, 3) := dk_159 3 102 (dk_at dksL_law_20 3 rfl rfl)
theorem dL_law_643 : decode cL_law 643 = .ok (.iconst 0, 1) := dk_3 (dk_at dksL_law_20 6 rfl rfl)
theorem dL_law_644 : decode cL_law 644 = .ok (.ireturn, 1) := dk_172 (dk_at dksL_law_20 7 rfl rfl)
theorem dL_law_645 : decode cL_law 645 = .ok (.aload_n 1, 1) := dk_43 (dk_at dksL_law_20 8 rfl rfl)
theorem dL_law_646 : decode cL_law 646 = .ok (.aload_n 0, 1) := dk_42 (dk_at dksL_law_20 9 rfl rfl)
theorem dL_law_647 : decode cL_law 647 = .ok (.iload_n 3, 1) := dk_29 (dk_at dksL_law_20 10 rfl rfl)
theorem dL_law_648 : decode cL_law 648 = .ok (.iconst 1, 1) := dk_4 (dk_at dksL_law_20 11 rfl rfl)
theorem dL_law_649 : decode cL_law 649 = .ok (.iadd, 1) := dk_96 (dk_at dksL_law_20 12 rfl rfl)
theorem dL_law_650 : decode cL_law 650 = .ok (.iaload, 1) := dk_46 (dk_at dksL_law_20 13 rfl rfl)
theorem dL_law_651 : decode cL_law 651 = .ok (.aload_n 0, 1) := dk_42 (dk_at dksL_law_20 14 rfl rfl)
theorem dL_law_652 : decode cL_law 652 = .ok (.iload_n 3, 1) := dk_29 (dk_at dksL_law_20 15 rfl rfl)
theorem dL_law_653 : decode cL_law 653 = .ok (.iconst 2, 1) := dk_5 (dk_at dksL_law_20 16 rfl rfl)
theorem dL_law_654 : decode cL_law 654 = .ok (.iadd, 1) := dk_96 (dk_at dksL_law_20 17 rfl rfl)
theorem dL_law_655 : decode cL_law 655 = .ok (.iaload, 1) := dk_46 (dk_at dksL_law_20 18 rfl rfl)
theorem dL_law_656 : decode cL_law 656 = .ok (.invokevirtual 71, 3) := dk_182 0 71 (dk_at dksL_law_20 19 rfl rfl)
theorem dL_law_659 : decode cL_law 659 = .ok (.aload_n 2, 1) := dk_44 (dk_at dksL_law_20 22 rfl rfl)
theorem dL_law_660 : decode cL_law 660 = .ok (.aload_n 0, 1) := dk_42 (dk_at dksL_law_20 23 rfl rfl)
theorem dL_law_661 : decode cL_law 661 = .ok (.iload_n 3, 1) := dk_29 (dk_at dksL_law_21 0 rfl rfl)
theorem dL_law_662 : decode cL_law 662 = .ok (.iconst 1, 1) := dk_4 (dk_at dksL_law_21 1 rfl rfl)
theorem dL_law_663 : decode cL_law 663 = .ok (.iadd, 1) := dk_96 (dk_at dksL_law_21 2 rfl rfl)
theorem dL_law_664 : decode cL_law 664 = .ok (.iaload, 1) := dk_46 (dk_at dksL_law_21 3 rfl rfl)
theorem dL_law_665 : decode cL_law 665 = .ok (.aload_n 0, 1) := dk_42 (dk_at dksL_law_21 4 rfl rfl)
theorem dL_law_666 : decode cL_law 666 = .ok (.iload_n 3, 1) := dk_29 (dk_at dksL_law_21 5 rfl rfl)
theorem dL_law_667 : decode cL_law 667 = .ok (.iconst 2, 1) := dk_5 (dk_at dksL_law_21 6 rfl rfl)
theorem dL_law_668 : decode cL_law 668 = .ok (.iadd, 1) := dk_96 (dk_at dksL_law_21 7 rfl rfl)
theorem dL_law_669 : decode cL_law 669 = .ok (.iaload, 1) := dk_46 (dk_at dksL_law_21 8 rfl rfl)
theorem dL_law_670 : decode cL_law 670 = .ok (.invokevirtual 75, 3) := dk_182 0 75 (dk_at dksL_law_21 9 rfl rfl)
theorem dL_law_673 : decode cL_law 673 = .ok (.if_icmp .eq 837, 3) := dk_159 3 69 (dk_at dksL_law_21 12 rfl rfl)
theorem dL_law_676 : decode cL_law 676 = .ok (.iconst 0, 1) := dk_3 (dk_at dksL_law_21 15 rfl rfl)
theorem dL_law_677 : decode cL_law 677 = .ok (.ireturn, 1) := dk_172 (dk_at dksL_law_21 16 rfl rfl)
theorem dL_law_678 : decode cL_law 678 = .ok (.aload_n 1, 1) := dk_43 (dk_at dksL_law_21 17 rfl rfl)
theorem dL_law_679 : decode cL_law 679 = .ok (.aload_n 0, 1) := dk_42 (dk_at dksL_law_21 18 rfl rfl)
theorem dL_law_680 : decode cL_law 680 = .ok (.iload_n 3, 1) := dk_29 (dk_at dksL_law_21 19 rfl rfl)
theorem dL_law_681 : decode cL_law 681 = .ok (.iconst 1, 1) := dk_4 (dk_at dksL_law_21 20 rfl rfl)
theorem dL_law_682 : decode cL_law 682 = .ok (.iadd, 1) := dk_96 (dk_at dksL_law_21 21 rfl rfl)
theorem dL_law_683 : decode cL_law 683 = .ok (.iaload, 1) := dk_46 (dk_at dksL_law_21 22 rfl rfl)
theorem dL_law_684 : decode cL_law 684 = .ok (.aload_n 0, 1) := dk_42 (dk_at dksL_law_21 23 rfl rfl)
theorem dL_law_685 : decode cL_law 685 = .ok (.iload_n 3, 1) := dk_29 (dk_at dksL_law_22 0 rfl rfl)
theorem dL_law_686 : decode cL_law 686 = .ok (.iconst 2, 1) := dk_5 (dk_at dksL_law_22 1 rfl rfl)
theorem dL_law_687 : decode cL_law 687 = .ok (.iadd, 1) := dk_96 (dk_at dksL_law_22 2 rfl rfl)
theorem dL_law_688 : decode cL_law 688 = .ok (.iaload, 1) := dk_46 (dk_at dksL_law_22 3 rfl rfl)
theorem dL_law_689 : decode cL_law 689 = .ok (.invokevirtual 76, 3) := dk_182 0 76 (dk_at dksL_law_22 4 rfl rfl)
theorem dL_law_692 : decode cL_law 692 = .ok (.aload_n 2, 1) := dk_44 (dk_at dksL_law_22 7 rfl rfl)
theorem dL_law_693 : decode cL_law 693 = .ok (.aload_n 0, 1) := dk_42 (dk_at dksL_law_22 8 rfl rfl)
theorem dL_law_694 : decode cL_law 694 = .ok (.iload_n 3, 1) := dk_29 (dk_at dksL_law_22 9 rfl rfl)
theorem dL_law_695 : decode cL_law 695 = .ok (.iconst 1, 1) := dk_4 (dk_at dksL_law_22 10 rfl rfl)
theorem dL_law_696 : decode cL_law 696 = .ok (.iadd, 1) := dk_96 (dk_at dksL_law_22 11 rfl rfl)
theorem dL_law_697 : decode cL_law 697 = .ok (.iaload, 1) := dk_46 (dk_at dksL_law_22 12 rfl rfl)
theorem dL_law_698 : decode cL_law 698 = .ok (.aload_n 0, 1) := dk_42 (dk_at dksL_law_22 13 rfl rfl)
theorem dL_law_699 : decode cL_law 699 = .ok (.iload_n 3, 1) := dk_29 (dk_at dksL_law_22 14 rfl rfl)
theorem dL_law_700 : decode cL_law 700 = .ok (.iconst 2, 1) := dk_5 (dk_at dksL_law_22 15 rfl rfl)
theorem dL_law_701 : decode cL_law 701 = .ok (.iadd, 1) := dk_96 (dk_at dksL_law_22 16 rfl rfl)
theorem dL_law_702 : decode cL_law 702 = .ok (.iaload, 1) := dk_46 (dk_at dksL_law_22 17 rfl rfl)
theorem dL_law_703 : decode cL_law 703 = .ok (.invokevirtual 79, 3) := dk_182 0 79 (dk_at dksL_law_22 18 rfl rfl)
theorem dL_law_706 : decode cL_law 706 = .ok (.if_icmp .eq 804, 3) := dk_159 3 36 (dk_at dksL_law_22 21 rfl rfl)
theorem dL_law_709 : decode cL_law 709 = .ok (.iconst 0, 1) := dk_3 (dk_at dksL_law_23 0 rfl rfl)
theorem dL_law_710 : decode cL_law 710 = .ok (.ireturn, 1) := dk_172 (dk_at dksL_law_23 1 rfl rfl)
theorem dL_law_711 : decode cL_law 711 = .ok (.aload_n 1, 1) := dk_43 (dk_at dksL_law_23 2 rfl rfl)
theorem dL_law_712 : decode cL_law 712 = .ok (.aload_n 0, 1) := dk_42 (dk_at dksL_law_23 3 rfl rfl)
theorem dL_law_713 : decode cL_law 713 = .ok (.iload_n 3, 1) := dk_29 (dk_at dksL_law_23 4 rfl rfl)
theorem dL_law_714 : decode cL_law 714 = .ok (.iconst 1, 1) := dk_4 (dk_at dksL_law_23 5 rfl rfl)
theorem dL_law_715 : decode cL_law 715 = .ok (.iadd, 1) := dk_96 (dk_at dksL_law_23 6 rfl rfl)
theorem dL_law_716 : decode cL_law 716 = .ok (.iaload, 1) := dk_46 (dk_at dksL_law_23 7 rfl rfl)
theorem dL_law_717 : decode cL_law 717 = .ok (.invokevirtual 80, 3) := dk_182 0 80 (dk_at dksL_law_23 8 rfl rfl)
theorem dL_law_720 : decode cL_law 720 = .ok (.aload_n 2, 1) := dk_44 (dk_at dksL_law_23 11 rfl rfl)
theorem dL_law_721 : decode cL_law 721 = .ok (.aload_n 0, 1) := dk_42 (dk_at dksL_law_23 12 rfl rfl)
theorem dL_law_722 : decode cL_law 722 = .ok (.iload_n 3, 1) := dk_29 (dk_at dksL_law_23 13 rfl rfl)
theorem dL_law_723 : decode cL_law 723 = .ok (.iconst 1, 1) := dk_4 (dk_at dksL_law_23 14 rfl rfl)
theorem dL_law_724 : decode cL_law 724 = .ok (.iadd, 1) := dk_96 (dk_at dksL_law_23 15 rfl rfl)
theorem dL_law_725 : decode cL_law 725 = .ok (.iaload, 1) := dk_46 (dk_at dksL_law_23 16 rfl rfl)
theorem dL_law_726 : decode cL_law 726 = .ok (.invokevirtual 83, 3) := dk_182 0 83 (dk_at dksL_law_23 17 rfl rfl)
theorem dL_law_729 : decode cL_law 729 = .ok (.if_icmp .eq 781, 3) := dk_159 3 13 (dk_at dksL_law_23 20 rfl rfl)
theorem dL_law_732 : decode cL_law 732 = .ok (.iconst 0, 1) := dk_3 (dk_at dksL_law_23 23 rfl rfl)
theorem dL_law_733 : decode cL_law 733 = .ok (.ireturn, 1) := dk_172 (dk_at dksL_law_24 0 rfl rfl)
theorem dL_law_734 : decode cL_law 734 = .ok (.aload_n 1, 1) := dk_43 (dk_at dksL_law_24 1 rfl rfl)
theorem dL_law_735 : decode cL_law 735 = .ok (.aload_n 0, 1) := dk_42 (dk_at dksL_law_24 2 rfl rfl)
theorem dL_law_736 : decode cL_law 736 = .ok (.iload_n 3, 1) := dk_29 (dk_at dksL_law_24 3 rfl rfl)
theorem dL_law_737 : decode cL_law 737 = .ok (.iconst 1, 1) := dk_4 (dk_at dksL_law_24 4 rfl rfl)
theorem dL_law_738 : decode cL_law 738 = .ok (.iadd, 1) := dk_96 (dk_at dksL_law_24 5 rfl rfl)
theorem dL_law_739 : decode cL_law 739 = .ok (.iaload, 1) := dk_46 (dk_at dksL_law_24 6 rfl rfl)
theorem dL_law_740 : decode cL_law 740 = .ok (.invokevirtual 84, 3) := dk_182 0 84 (dk_at dksL_law_24 7 rfl rfl)
theorem dL_law_743 : decode cL_law 743 = .ok (.aload_n 2, 1) := dk_44 (dk_at dksL_law_24 10 rfl rfl)
theorem dL_law_744 : decode cL_law 744 = .ok (.aload_n 0, 1) := dk_42 (dk_at dksL_law_24 11 rfl rfl)
theorem dL_law_745 : decode cL_law 745 = .ok (.iload_n 3, 1) := dk_29 (dk_at dksL_law_24 12 rfl rfl)
theorem dL_law_746 : decode cL_law 746 = .ok (.iconst 1, 1) := dk_4 (dk_at dksL_law_24 13 rfl rfl)
theorem dL_law_747 : decode cL_law 747 = .ok (.iadd, 1) := dk_96 (dk_at dksL_law_24 14 rfl rfl)
theorem dL_law_748 : decode cL_law 748 = .ok (.iaload, 1) := dk_46 (dk_at dksL_law_24 15 rfl rfl)
theorem dL_law_749 : decode cL_law 749 = .ok (.invokevirtual 87, 3) := dk_182 0 87 (dk_at dksL_law_24 16 rfl rfl)
theorem dL_law_752 : decode cL_law 752 = .ok (.if_icmp .eq 758, 3) := dk_159 2 246 (dk_at dksL_law_24 19 rfl rfl)
theorem dL_law_755 : decode cL_law 755 = .ok (.iconst 0, 1) := dk_3 (dk_at dksL_law_24 22 rfl rfl)
theorem dL_law_756 : decode cL_law 756 = .ok (.ireturn, 1) := dk_172 (dk_at dksL_law_24 23 rfl rfl)
theorem dL_law_757 : decode cL_law 757 = .ok (.aload_n 1, 1) := dk_43 (dk_at dksL_law_25 0 rfl rfl)
theorem dL_law_758 : decode cL_law 758 = .ok (.aload_n 0, 1) := dk_42 (dk_at dksL_law_25 1 rfl rfl)
theorem dL_law_759 : decode cL_law 759 = .ok (.iload_n 3, 1) := dk_29 (dk_at dksL_law_25 2 rfl rfl)
theorem dL_law_760 : decode cL_law 760 = .ok (.iconst 1, 1) := dk_4 (dk_at dksL_law_25 3 rfl rfl)
theorem dL_law_761 : decode cL_law 761 = .ok (.iadd, 1) := dk_96 (dk_at dksL_law_25 4 rfl rfl)
theorem dL_law_762 : decode cL_law 762 = .ok (.iaload, 1) := dk_46 (dk_at dksL_law_25 5 rfl rfl)
theorem dL_law_763 : decode cL_law 763 = .ok (.invokevirtual 88, 3) := dk_182 0 88 (dk_at dksL_law_25 6 rfl rfl)
theorem dL_law_766 : decode cL_law 766 = .ok (.aload_n 2, 1) := dk_44 (dk_at dksL_law_25 9 rfl rfl)
theorem dL_law_767 : decode cL_law 767 = .ok (.aload_n 0, 1) := dk_42 (dk_at dksL_law_25 10 rfl rfl)
theorem dL_law_768 : decode cL_law 768 = .ok (.iload_n 3, 1) := dk_29 (dk_at dksL_law_25 11 rfl rfl)
theorem dL_law_769 : decode cL_law 769 = .ok (.iconst 1, 1) := dk_4 (dk_at dksL_law_25 12 rfl rfl)
theorem dL_law_770 : decode cL_law 770 = .ok (.iadd, 1) := dk_96 (dk_at dksL_law_25 13 rfl rfl)
theorem dL_law_771 : decode cL_law 771 = .ok (.iaload, 1) := dk_46 (dk_at dksL_law_25 14 rfl rfl)
theorem dL_law_772 : decode cL_law 772 = .ok (.invokevirtual 91, 3) := dk_182 0 91 (dk_at dksL_law_25 15 rfl rfl)
theorem dL_law_775 : decode cL_law 775 = .ok (.if_icmp .eq 735, 3) := dk_159 2 223 (dk_at dksL_law_25 18 rfl rfl)
theorem dL_law_778 : decode cL_law 778 = .ok (.iconst 0, 1) := dk_3 (dk_at dksL_law_25 21 rfl rfl)
theorem dL_law_779 : decode cL_law 779 = .ok (.ireturn, 1) := dk_172 (dk_at dksL_law_25 22 rfl rfl)
theorem dL_law_780 : decode cL_law 780 = .ok (.aload_n 1, 1) := dk_43 (dk_at dksL_law_25 23 rfl rfl)
theorem dL_law_781 : decode cL_law 781 = .ok (.aload_n 0, 1) := dk_42 (dk_at dksL_law_26 0 rfl rfl)
theorem dL_law_782 : decode cL_law 782 = .ok (.iload_n 3, 1) := dk_29 (dk_at dksL_law_26 1 rfl rfl)
theorem dL_law_783 : decode cL_law 783 = .ok (.iconst 1, 1) := dk_4 (dk_at dksL_law_26 2 rfl rfl)
theorem dL_law_784 : decode cL_law 784 = .ok (.iadd, 1) := dk_96 (dk_at dksL_law_26 3 rfl rfl)
theorem dL_law_785 : decode cL_law 785 = .ok (.iaload, 1) := dk_46 (dk_at dksL_law_26 4 rfl rfl)
theorem dL_law_786 : decode cL_law 786 = .ok (.aload_n 0, 1) := dk_42 (dk_at dksL_law_26 5 rfl rfl)
theorem dL_law_787 : decode cL_law 787 = .ok (.iload_n 3, 1) := dk_29 (dk_at dksL_law_26 6 rfl rfl)
theorem dL_law_788 : decode cL_law 788 = .ok (.iconst 2, 1) := dk_5 (dk_at dksL_law_26 7 rfl rfl)
theorem dL_law_789 : decode cL_law 789 = .ok (.iadd, 1) := dk_96 (dk_at dksL_law_26 8 rfl rfl)
theorem dL_law_790 : decode cL_law 790 = .ok (.iaload, 1) := dk_46 (dk_at dksL_law_26 9 rfl rfl)
theorem dL_law_791 : decode cL_law 791 = .ok (.invokevirtual 92, 3) := dk_182 0 92 (dk_at dksL_law_26 10 rfl rfl)
theorem dL_law_794 : decode cL_law 794 = .ok (.aload_n 2, 1) := dk_44 (dk_at dksL_law_26 13 rfl rfl)
theorem dL_law_795 : decode cL_law 795 = .ok (.aload_n 0, 1) := dk_42 (dk_at dksL_law_26 14 rfl rfl)
theorem dL_law_796 : decode cL_law 796 = .ok (.iload_n 3, 1) := dk_29 (dk_at dksL_law_26 15 rfl rfl)
theorem dL_law_797 : decode cL_law 797 = .ok (.iconst 1, 1) := dk_4 (dk_at dksL_law_26 16 rfl rfl)
theorem dL_law_798 : decode cL_law 798 = .ok (.iadd, 1) := dk_96 (dk_at dksL_law_26 17 rfl rfl)
theorem dL_law_799 : decode cL_law 799 = .ok (.iaload, 1) := dk_46 (dk_at dksL_law_26 18 rfl rfl)
theorem dL_law_800 : decode cL_law 800 = .ok (.aload_n 0, 1) := dk_42 (dk_at dksL_law_26 19 rfl rfl)
theorem dL_law_801 : decode cL_law 801 = .ok (.iload_n 3, 1) := dk_29 (dk_at dksL_law_26 20 rfl rfl)
theorem dL_law_802 : decode cL_law 802 = .ok (.iconst 2, 1) := dk_5 (dk_at dksL_law_26 21 rfl rfl)
theorem dL_law_803 : decode cL_law 803 = .ok (.iadd, 1) := dk_96 (dk_at dksL_law_26 22 rfl rfl)
theorem dL_law_804 : decode cL_law 804 = .ok (.iaload, 1) := dk_46 (dk_at dksL_law_26 23 rfl rfl)
theorem dL_law_805 : decode cL_law 805 = .ok (.invokevirtual 95, 3) := dk_182 0 95 (dk_at dksL_law_27 0 rfl rfl)
theorem dL_law_808 : decode cL_law 808 = .ok (.if_icmp .eq 702, 3) := dk_159 2 190 (dk_at dksL_law_27 3 rfl rfl)
theorem dL_law_811 : decode cL_law 811 = .ok (.iconst 0, 1) := dk_3 (dk_at dksL_law_27 6 rfl rfl)
theorem dL_law_812 : decode cL_law 812 = .ok (.ireturn, 1) := dk_172 (dk_at dksL_law_27 7 rfl rfl)
theorem dL_law_813 : decode cL_law 813 = .ok (.aload_n 1, 1) := dk_43 (dk_at dksL_law_27 8 rfl rfl)
theorem dL_law_814 : decode cL_law 814 = .ok (.aload_n 0, 1) := dk_42 (dk_at dksL_law_27 9 rfl rfl)
theorem dL_law_815 : decode cL_law 815 = .ok (.iload_n 3, 1) := dk_29 (dk_at dksL_law_27 10 rfl rfl)
theorem dL_law_816 : decode cL_law 816 = .ok (.iconst 1, 1) := dk_4 (dk_at dksL_law_27 11 rfl rfl)
theorem dL_law_817 : decode cL_law 817 = .ok (.iadd, 1) := dk_96 (dk_at dksL_law_27 12 rfl rfl)
theorem dL_law_818 : decode cL_law 818 = .ok (.iaload, 1) := dk_46 (dk_at dksL_law_27 13 rfl rfl)
theorem dL_law_819 : decode cL_law 819 = .ok (.invokevirtual 96, 3) := dk_182 0 96 (dk_at dksL_law_27 14 rfl rfl)
theorem dL_law_822 : decode cL_law 822 = .ok (.aload_n 2, 1) := dk_44 (dk_at dksL_law_27 17 rfl rfl)
theorem dL_law_823 : decode cL_law 823 = .ok (.aload_n 0, 1) := dk_42 (dk_at dksL_law_27 18 rfl rfl)
theorem dL_law_824 : decode cL_law 824 = .ok (.iload_n 3, 1) := dk_29 (dk_at dksL_law_27 19 rfl rfl)
theorem dL_law_825 : decode cL_law 825 = .ok (.iconst 1, 1) := dk_4 (dk_at dksL_law_27 20 rfl rfl)
theorem dL_law_826 : decode cL_law 826 = .ok (.iadd, 1) := dk_96 (dk_at dksL_law_27 21 rfl rfl)
theorem dL_law_827 : decode cL_law 827 = .ok (.iaload, 1) := dk_46 (dk_at dksL_law_27 22 rfl rfl)
theorem dL_law_828 : decode cL_law 828 = .ok (.invokevirtual 99, 3) := dk_182 0 99 (dk_at dksL_law_28 0 rfl rfl)
theorem dL_law_831 : decode cL_law 831 = .ok (.if_icmp .eq 679, 3) := dk_159 2 167 (dk_at dksL_law_28 3 rfl rfl)
theorem dL_law_834 : decode cL_law 834 = .ok (.iconst 0, 1) := dk_3 (dk_at dksL_law_28 6 rfl rfl)
theorem dL_law_835 : decode cL_law 835 = .ok (.ireturn, 1) := dk_172 (dk_at dksL_law_28 7 rfl rfl)
theorem dL_law_836 : decode cL_law 836 = .ok (.aload_n 1, 1) := dk_43 (dk_at dksL_law_28 8 rfl rfl)
theorem dL_law_837 : decode cL_law 837 = .ok (.aload_n 0, 1) := dk_42 (dk_at dksL_law_28 9 rfl rfl)
theorem dL_law_838 : decode cL_law 838 = .ok (.iload_n 3, 1) := dk_29 (dk_at dksL_law_28 10 rfl rfl)
theorem dL_law_839 : decode cL_law 839 = .ok (.iconst 1, 1) := dk_4 (dk_at dksL_law_28 11 rfl rfl)
theorem dL_law_840 : decode cL_law 840 = .ok (.iadd, 1) := dk_96 (dk_at dksL_law_28 12 rfl rfl)
theorem dL_law_841 : decode cL_law 841 = .ok (.iaload, 1) := dk_46 (dk_at dksL_law_28 13 rfl rfl)
theorem dL_law_842 : decode cL_law 842 = .ok (.invokevirtual 100, 3) := dk_182 0 100 (dk_at dksL_law_28 14 rfl rfl)
theorem dL_law_845 : decode cL_law 845 = .ok (.aload_n 2, 1) := dk_44 (dk_at dksL_law_28 17 rfl rfl)
theorem dL_law_846 : decode cL_law 846 = .ok (.aload_n 0, 1) := dk_42 (dk_at dksL_law_28 18 rfl rfl)
theorem dL_law_847 : decode cL_law 847 = .ok (.iload_n 3, 1) := dk_29 (dk_at dksL_law_28 19 rfl rfl)
theorem dL_law_848 : decode cL_law 848 = .ok (.iconst 1, 1) := dk_4 (dk_at dksL_law_28 20 rfl rfl)
theorem dL_law_849 : decode cL_law 849 = .ok (.iadd, 1) := dk_96 (dk_at dksL_law_28 21 rfl rfl)
theorem dL_law_850 : decode cL_law 850 = .ok (.iaload, 1) := dk_46 (dk_at dksL_law_28 22 rfl rfl)
theorem dL_law_851 : decode cL_law 851 = .ok (.invokevirtual 103, 3) := dk_182 0 103 (dk_at dksL_law_29 0 rfl rfl)
theorem dL_law_854 : decode cL_law 854 = .ok (.if_icmp .eq 656, 3) := dk_159 2 144 (dk_at dksL_law_29 3 rfl rfl)
theorem dL_law_857 : decode cL_law 857 = .ok (.iconst 0, 1) := dk_3 (dk_at dksL_law_29 6 rfl rfl)
theorem dL_law_858 : decode cL_law 858 = .ok (.ireturn, 1) := dk_172 (dk_at dksL_law_29 7 rfl rfl)
theorem dL_law_859 : decode cL_law 859 = .ok (.aload_n 1, 1) := dk_43 (dk_at dksL_law_29 8 rfl rfl)
theorem dL_law_860 : decode cL_law 860 = .ok (.aload_n 0, 1) := dk_42 (dk_at dksL_law_29 9 rfl rfl)
theorem dL_law_861 : decode cL_law 861 = .ok (.iload_n 3, 1) := dk_29 (dk_at dksL_law_29 10 rfl rfl)
theorem dL_law_862 : decode cL_law 862 = .ok (.iconst 1, 1) := dk_4 (dk_at dksL_law_29 11 rfl rfl)
theorem dL_law_863 : decode cL_law 863 = .ok (.iadd, 1) := dk_96 (dk_at dksL_law_29 12 rfl rfl)
theorem dL_law_864 : decode cL_law 864 = .ok (.iaload, 1) := dk_46 (dk_at dksL_law_29 13 rfl rfl)
theorem dL_law_865 : decode cL_law 865 = .ok (.aload_n 0, 1) := dk_42 (dk_at dksL_law_29 14 rfl rfl)
theorem dL_law_866 : decode cL_law 866 = .ok (.iload_n 3, 1) := dk_29 (dk_at dksL_law_29 15 rfl rfl)
theorem dL_law_867 : decode cL_law 867 = .ok (.iconst 2, 1) := dk_5 (dk_at dksL_law_29 16 rfl rfl)
theorem dL_law_868 : decode cL_law 868 = .ok (.iadd, 1) := dk_96 (dk_at dksL_law_29 17 rfl rfl)
theorem dL_law_869 : decode cL_law 869 = .ok (.iaload, 1) := dk_46 (dk_at dksL_law_29 18 rfl rfl)
theorem dL_law_870 : decode cL_law 870 = .ok (.invokevirtual 104, 3) := dk_182 0 104 (dk_at dksL_law_29 19 rfl rfl)
theorem dL_law_873 : decode cL_law 873 = .ok (.aload_n 2, 1) := dk_44 (dk_at dksL_law_29 22 rfl rfl)
theorem dL_law_874 : decode cL_law 874 = .ok (.aload_n 0, 1) := dk_42 (dk_at dksL_law_29 23 rfl rfl)
theorem dL_law_875 : decode cL_law 875 = .ok (.iload_n 3, 1) := dk_29 (dk_at dksL_law_30 0 rfl rfl)
theorem dL_law_876 : decode cL_law 876 = .ok (.iconst 1, 1) := dk_4 (dk_at dksL_law_30 1 rfl rfl)
theorem dL_law_877 : decode cL_law 877 = .ok (.iadd, 1) := dk_96 (dk_at dksL_law_30 2 rfl rfl)
theorem dL_law_878 : decode cL_law 878 = .ok (.iaload, 1) := dk_46 (dk_at dksL_law_30 3 rfl rfl)
theorem dL_law_879 : decode cL_law 879 = .ok (.aload_n 0, 1) := dk_42 (dk_at dksL_law_30 4 rfl rfl)
theorem dL_law_880 : decode cL_law 880 = .ok (.iload_n 3, 1) := dk_29 (dk_at dksL_law_30 5 rfl rfl)
theorem dL_law_881 : decode cL_law 881 = .ok (.iconst 2, 1) := dk_5 (dk_at dksL_law_30 6 rfl rfl)
theorem dL_law_882 : decode cL_law 882 = .ok (.iadd, 1) := dk_96 (dk_at dksL_law_30 7 rfl rfl)
theorem dL_law_883 : decode cL_law 883 = .ok (.iaload, 1) := dk_46 (dk_at dksL_law_30 8 rfl rfl)
theorem dL_law_884 : decode cL_law 884 = .ok (.invokevirtual 108, 3) := dk_182 0 108 (dk_at dksL_law_30 9 rfl rfl)
theorem dL_law_887 : decode cL_law 887 = .ok (.if_icmp .eq 623, 3) := dk_159 2 111 (dk_at dksL_law_30 12 rfl rfl)
theorem dL_law_890 : decode cL_law 890 = .ok (.iconst 0, 1) := dk_3 (dk_at dksL_law_30 15 rfl rfl)
theorem dL_law_891 : decode cL_law 891 = .ok (.ireturn, 1) := dk_172 (dk_at dksL_law_30 16 rfl rfl)
theorem dL_law_892 : decode cL_law 892 = .ok (.aload_n 1, 1) := dk_43 (dk_at dksL_law_30 17 rfl rfl)
theorem dL_law_893 : decode cL_law 893 = .ok (.aload_n 0, 1) := dk_42 (dk_at dksL_law_30 18 rfl rfl)
theorem dL_law_894 : decode cL_law 894 = .ok (.iload_n 3, 1) := dk_29 (dk_at dksL_law_30 19 rfl rfl)
theorem dL_law_895 : decode cL_law 895 = .ok (.iconst 1, 1) := dk_4 (dk_at dksL_law_30 20 rfl rfl)
theorem dL_law_896 : decode cL_law 896 = .ok (.iadd, 1) := dk_96 (dk_at dksL_law_30 21 rfl rfl)
theorem dL_law_897 : decode cL_law 897 = .ok (.iaload, 1) := dk_46 (dk_at dksL_law_30 22 rfl rfl)
theorem dL_law_898 : decode cL_law 898 = .ok (.aload_n 0, 1) := dk_42 (dk_at dksL_law_30 23 rfl rfl)
theorem dL_law_899 : decode cL_law 899 = .ok (.iload_n 3, 1) := dk_29 (dk_at dksL_law_31 0 rfl rfl)
theorem dL_law_900 : decode cL_law 900 = .ok (.iconst 2, 1) := dk_5 (dk_at dksL_law_31 1 rfl rfl)
theorem dL_law_901 : decode cL_law 901 = .ok (.iadd, 1) := dk_96 (dk_at dksL_law_31 2 rfl rfl)
theorem dL_law_902 : decode cL_law 902 = .ok (.iaload, 1) := dk_46 (dk_at dksL_law_31 3 rfl rfl)
theorem dL_law_903 : decode cL_law 903 = .ok (.invokevirtual 109, 3) := dk_182 0 109 (dk_at dksL_law_31 4 rfl rfl)
theorem dL_law_906 : decode cL_law 906 = .ok (.aload_n 2, 1) := dk_44 (dk_at dksL_law_31 7 rfl rfl)
theorem dL_law_907 : decode cL_law 907 = .ok (.aload_n 0, 1) := dk_42 (dk_at dksL_law_31 8 rfl rfl)
theorem dL_law_908 : decode cL_law 908 = .ok (.iload_n 3, 1) := dk_29 (dk_at dksL_law_31 9 rfl rfl)
theorem dL_law_909 : decode cL_law 909 = .ok (.iconst 1, 1) := dk_4 (dk_at dksL_law_31 10 rfl rfl)
theorem dL_law_910 : decode cL_law 910 = .ok (.iadd, 1) := dk_96 (dk_at dksL_law_31 11 rfl rfl)
theorem dL_law_911 : decode cL_law 911 = .ok (.iaload, 1) := dk_46 (dk_at dksL_law_31 12 rfl rfl)
theorem dL_law_912 : decode cL_law 912 = .ok (.aload_n 0, 1) := dk_42 (dk_at dksL_law_31 13 rfl rfl)
theorem dL_law_913 : decode cL_law 913 = .ok (.iload_n 3, 1) := dk_29 (dk_at dksL_law_31 14 rfl rfl)
theorem dL_law_914 : decode cL_law 914 = .ok (.iconst 2, 1) := dk_5 (dk_at dksL_law_31 15 rfl rfl)
theorem dL_law_915 : decode cL_law 915 = .ok (.iadd, 1) := dk_96 (dk_at dksL_law_31 16 rfl rfl)
theorem dL_law_916 : decode cL_law 916 = .ok (.iaload, 1) := dk_46 (dk_at dksL_law_31 17 rfl rfl)
theorem dL_law_917 : decode cL_law 917 = .ok (.invokevirtual 112, 3) := dk_182 0 112 (dk_at dksL_law_31 18 rfl rfl)
theorem dL_law_920 : decode cL_law 920 = .ok (.if_icmp .eq 590, 3) := dk_159 2 78 (dk_at dksL_law_31 21 rfl rfl)
theorem dL_law_923 : decode cL_law 923 = .ok (.iconst 0, 1) := dk_3 (dk_at dksL_law_32 0 rfl rfl)
theorem dL_law_924 : decode cL_law 924 = .ok (.ireturn, 1) := dk_172 (dk_at dksL_law_32 1 rfl rfl)
theorem dL_law_925 : decode cL_law 925 = .ok (.aload_n 1, 1) := dk_43 (dk_at dksL_law_32 2 rfl rfl)
theorem dL_law_926 : decode cL_law 926 = .ok (.aload_n 0, 1) := dk_42 (dk_at dksL_law_32 3 rfl rfl)
theorem dL_law_927 : decode cL_law 927 = .ok (.iload_n 3, 1) := dk_29 (dk_at dksL_law_32 4 rfl rfl)
theorem dL_law_928 : decode cL_law 928 = .ok (.iconst 1, 1) := dk_4 (dk_at dksL_law_32 5 rfl rfl)
theorem dL_law_929 : decode cL_law 929 = .ok (.iadd, 1) := dk_96 (dk_at dksL_law_32 6 rfl rfl)
theorem dL_law_930 : decode cL_law 930 = .ok (.iaload, 1) := dk_46 (dk_at dksL_law_32 7 rfl rfl)
theorem dL_law_931 : decode cL_law 931 = .ok (.aload_n 0, 1) := dk_42 (dk_at dksL_law_32 8 rfl rfl)
theorem dL_law_932 : decode cL_law 932 = .ok (.iload_n 3, 1) := dk_29 (dk_at dksL_law_32 9 rfl rfl)
theorem dL_law_933 : decode cL_law 933 = .ok (.iconst 2, 1) := dk_5 (dk_at dksL_law_32 10 rfl rfl)
theorem dL_law_934 : decode cL_law 934 = .ok (.iadd, 1) := dk_96 (dk_at dksL_law_32 11 rfl rfl)
theorem dL_law_935 : decode cL_law 935 = .ok (.iaload, 1) := dk_46 (dk_at dksL_law_32 12 rfl rfl)
theorem dL_law_936 : decode cL_law 936 = .ok (.aload_n 0, 1) := dk_42 (dk_at dksL_law_32 13 rfl rfl)
theorem dL_law_937 : decode cL_law 937 = .ok (.iload_n 3, 1) := dk_29 (dk_at dksL_law_32 14 rfl rfl)
theorem dL_law_938 : decode cL_law 938 = .ok (.iconst 3, 1) := dk_6 (dk_at dksL_law_32 15 rfl rfl)
theorem dL_law_939 : decode cL_law 939 = .ok (.iadd, 1) := dk_96 (dk_at dksL_law_32 16 rfl rfl)
theorem dL_law_940 : decode cL_law 940 = .ok (.iaload, 1) := dk_46 (dk_at dksL_law_32 17 rfl rfl)
theorem dL_law_941 : decode cL_law 941 = .ok (.invokevirtual 113, 3) := dk_182 0 113 (dk_at dksL_law_32 18 rfl rfl)
theorem dL_law_944 : decode cL_law 944 = .ok (.aload_n 2, 1) := dk_44 (dk_at dksL_law_32 21 rfl rfl)
theorem dL_law_945 : decode cL_law 945 = .ok (.aload_n 0, 1) := dk_42 (dk_at dksL_law_32 22 rfl rfl)
theorem dL_law_946 : decode cL_law 946 = .ok (.iload_n 3, 1) := dk_29 (dk_at dksL_law_32 23 rfl rfl)
theorem dL_law_947 : decode cL_law 947 = .ok (.iconst 1, 1) := dk_4 (dk_at dksL_law_33 0 rfl rfl)
theorem dL_law_948 : decode cL_law 948 = .ok (.iadd, 1) := dk_96 (dk_at dksL_law_33 1 rfl rfl)
theorem dL_law_949 : decode cL_law 949 = .ok (.iaload, 1) := dk_46 (dk_at dksL_law_33 2 rfl rfl)
theorem dL_law_950 : decode cL_law 950 = .ok (.aload_n 0, 1) := dk_42 (dk_at dksL_law_33 3 rfl rfl)
theorem dL_law_951 : decode cL_law 951 = .ok (.iload_n 3, 1) := dk_29 (dk_at dksL_law_33 4 rfl rfl)
theorem dL_law_952 : decode cL_law 952 = .ok (.iconst 2, 1) := dk_5 (dk_at dksL_law_33 5 rfl rfl)
theorem dL_law_953 : decode cL_law 953 = .ok (.iadd, 1) := dk_96 (dk_at dksL_law_33 6 rfl rfl)
theorem dL_law_954 : decode cL_law 954 = .ok (.iaload, 1) := dk_46 (dk_at dksL_law_33 7 rfl rfl)
theorem dL_law_955 : decode cL_law 955 = .ok (.aload_n 0, 1) := dk_42 (dk_at dksL_law_33 8 rfl rfl)
theorem dL_law_956 : decode cL_law 956 = .ok (.iload_n 3, 1) := dk_29 (dk_at dksL_law_33 9 rfl rfl)
theorem dL_law_957 : decode cL_law 957 = .ok (.iconst 3, 1) := dk_6 (dk_at dksL_law_33 10 rfl rfl)
theorem dL_law_958 : decode cL_law 958 = .ok (.iadd, 1) := dk_96 (dk_at dksL_law_33 11 rfl rfl)
theorem dL_law_959 : decode cL_law 959 = .ok (.iaload, 1) := dk_46 (dk_at dksL_law_33 12 rfl rfl)
theorem dL_law_960 : decode cL_law 960 = .ok (.invokevirtual 116, 3) := dk_182 0 116 (dk_at dksL_law_33 13 rfl rfl)
theorem dL_law_963 : decode cL_law 963 = .ok (.if_icmp .eq 547, 3) := dk_159 2 35 (dk_at dksL_law_33 16 rfl rfl)
theorem dL_law_966 : decode cL_law 966 = .ok (.iconst 0, 1) := dk_3 (dk_at dksL_law_33 19 rfl rfl)
theorem dL_law_967 : decode cL_law 967 = .ok (.ireturn, 1) := dk_172 (dk_at dksL_law_33 20 rfl rfl)
theorem dL_law_968 : decode cL_law 968 = .ok (.aload_n 1, 1) := dk_43 (dk_at dksL_law_33 21 rfl rfl)
theorem dL_law_969 : decode cL_law 969 = .ok (.aload_n 0, 1) := dk_42 (dk_at dksL_law_33 22 rfl rfl)
theorem dL_law_970 : decode cL_law 970 = .ok (.iload_n 3, 1) := dk_29 (dk_at dksL_law_33 23 rfl rfl)
theorem dL_law_971 : decode cL_law 971 = .ok (.iconst 1, 1) := dk_4 (dk_at dksL_law_34 0 rfl rfl)
theorem dL_law_972 : decode cL_law 972 = .ok (.iadd, 1) := dk_96 (dk_at dksL_law_34 1 rfl rfl)
theorem dL_law_973 : decode cL_law 973 = .ok (.iaload, 1) := dk_46 (dk_at dksL_law_34 2 rfl rfl)
theorem dL_law_974 : decode cL_law 974 = .ok (.aload_n 0, 1) := dk_42 (dk_at dksL_law_34 3 rfl rfl)
theorem dL_law_975 : decode cL_law 975 = .ok (.iload_n 3, 1) := dk_29 (dk_at dksL_law_34 4 rfl rfl)
theorem dL_law_976 : decode cL_law 976 = .ok (.iconst 2, 1) := dk_5 (dk_at dksL_law_34 5 rfl rfl)
theorem dL_law_977 : decode cL_law 977 = .ok (.iadd, 1) := dk_96 (dk_at dksL_law_34 6 rfl rfl)
theorem dL_law_978 : decode cL_law 978 = .ok (.iaload, 1) := dk_46 (dk_at dksL_law_34 7 rfl rfl)
theorem dL_law_979 : decode cL_law 979 = .ok (.aload_n 0, 1) := dk_42 (dk_at dksL_law_34 8 rfl rfl)
theorem dL_law_980 : decode cL_law 980 = .ok (.iload_n 3, 1) := dk_29 (dk_at dksL_law_34 9 rfl rfl)
theorem dL_law_981 : decode cL_law 981 = .ok (.iconst 3, 1) := dk_6 (dk_at dksL_law_34 10 rfl rfl)
theorem dL_law_982 : decode cL_law 982 = .ok (.iadd, 1) := dk_96 (dk_at dksL_law_34 11 rfl rfl)
theorem dL_law_983 : decode cL_law 983 = .ok (.iaload, 1) := dk_46 (dk_at dksL_law_34 12 rfl rfl)
theorem dL_law_984 : decode cL_law 984 = .ok (.invokevirtual 117, 3) := dk_182 0 117 (dk_at dksL_law_34 13 rfl rfl)
theorem dL_law_987 : decode cL_law 987 = .ok (.aload_n 2, 1) := dk_44 (dk_at dksL_law_34 16 rfl rfl)
theorem dL_law_988 : decode cL_law 988 = .ok (.aload_n 0, 1) := dk_42 (dk_at dksL_law_34 17 rfl rfl)
theorem dL_law_989 : decode cL_law 989 = .ok (.iload_n 3, 1) := dk_29 (dk_at dksL_law_34 18 rfl rfl)
theorem dL_law_990 : decode cL_law 990 = .ok (.iconst 1, 1) := dk_4 (dk_at dksL_law_34 19 rfl rfl)
theorem dL_law_991 : decode cL_law 991 = .ok (.iadd, 1) := dk_96 (dk_at dksL_law_34 20 rfl rfl)
theorem dL_law_992 : decode cL_law 992 = .ok (.iaload, 1) := dk_46 (dk_at dksL_law_34 21 rfl rfl)
theorem dL_law_993 : decode cL_law 993 = .ok (.aload_n 0, 1) := dk_42 (dk_at dksL_law_34 22 rfl rfl)
theorem dL_law_994 : decode cL_law 994 = .ok (.iload_n 3, 1) := dk_29 (dk_at dksL_law_34 23 rfl rfl)
theorem dL_law_995 : decode cL_law 995 = .ok (.iconst 2, 1) := dk_5 (dk_at dksL_law_35 0 rfl rfl)
theorem dL_law_996 : decode cL_law 996 = .ok (.iadd, 1) := dk_96 (dk_at dksL_law_35 1 rfl rfl)
theorem dL_law_997 : decode cL_law 997 = .ok (.iaload, 1) := dk_46 (dk_at dksL_law_35 2 rfl rfl)
theorem dL_law_998 : decode cL_law 998 = .ok (.aload_n 0, 1) := dk_42 (dk_at dksL_law_35 3 rfl rfl)
theorem dL_law_999 : decode cL_law 999 = .ok (.iload_n 3, 1) := dk_29 (dk_at dksL_law_35 4 rfl rfl)
theorem dL_law_1000 : decode cL_law 1000 = .ok (.iconst 3, 1) := dk_6 (dk_at dksL_law_35 5 rfl rfl)
theorem dL_law_1001 : decode cL_law 1001 = .ok (.iadd, 1) := dk_96 (dk_at dksL_law_35 6 rfl rfl)
theorem dL_law_1002 : decode cL_law 1002 = .ok (.iaload, 1) := dk_46 (dk_at dksL_law_35 7 rfl rfl)
theorem dL_law_1003 : decode cL_law 1003 = .ok (.invokevirtual 121, 3) := dk_182 0 121 (dk_at dksL_law_35 8 rfl rfl)
theorem dL_law_1006 : decode cL_law 1006 = .ok (.if_icmp .eq 504, 3) := dk_159 1 248 (dk_at dksL_law_35 11 rfl rfl)
theorem dL_law_1009 : decode cL_law 1009 = .ok (.iconst 0, 1) := dk_3 (dk_at dksL_law_35 14 rfl rfl)
theorem dL_law_1010 : decode cL_law 1010 = .ok (.ireturn, 1) := dk_172 (dk_at dksL_law_35 15 rfl rfl)
theorem dL_law_1011 : decode cL_law 1011 = .ok (.aload_n 1, 1) := dk_43 (dk_at dksL_law_35 16 rfl rfl)
theorem dL_law_1012 : decode cL_law 1012 = .ok (.aload_n 0, 1) := dk_42 (dk_at dksL_law_35 17 rfl rfl)
theorem dL_law_1013 : decode cL_law 1013 = .ok (.iload_n 3, 1) := dk_29 (dk_at dksL_law_35 18 rfl rfl)
theorem dL_law_1014 : decode cL_law 1014 = .ok (.iconst 1, 1) := dk_4 (dk_at dksL_law_35 19 rfl rfl)
theorem dL_law_1015 : decode cL_law 1015 = .ok (.iadd, 1) := dk_96 (dk_at dksL_law_35 20 rfl rfl)
theorem dL_law_1016 : decode cL_law 1016 = .ok (.iaload, 1) := dk_46 (dk_at dksL_law_35 21 rfl rfl)
theorem dL_law_1017 : decode cL_law 1017 = .ok (.aload_n 0, 1) := dk_42 (dk_at dksL_law_35 22 rfl rfl)
theorem dL_law_1018 : decode cL_law 1018 = .ok (.iload_n 3, 1) := dk_29 (dk_at dksL_law_35 23 rfl rfl)
theorem dL_law_1019 : decode cL_law 1019 = .ok (.iconst 2, 1) := dk_5 (dk_at dksL_law_36 0 rfl rfl)
theorem dL_law_1020 : decode cL_law 1020 = .ok (.iadd, 1) := dk_96 (dk_at dksL_law_36 1 rfl rfl)
theorem dL_law_1021 : decode cL_law 1021 = .ok (.iaload, 1) := dk_46 (dk_at dksL_law_36 2 rfl rfl)
theorem dL_law_1022 : decode cL_law 1022 = .ok (.invokevirtual 122, 3) := dk_182 0 122 (dk_at dksL_law_36 3 rfl rfl)
theorem dL_law_1025 : decode cL_law 1025 = .ok (.aload_n 2, 1) := dk_44 (dk_at dksL_law_36 6 rfl rfl)
theorem dL_law_1026 : decode cL_law 1026 = .ok (.aload_n 0, 1) := dk_42 (dk_at dksL_law_36 7 rfl rfl)
theorem dL_law_1027 : decode cL_law 1027 = .ok (.iload_n 3, 1) := dk_29 (dk_at dksL_law_36 8 rfl rfl)
theorem dL_law_1028 : decode cL_law 1028 = .ok (.iconst 1, 1) := dk_4 (dk_at dksL_law_36 9 rfl rfl)
theorem dL_law_1029 : decode cL_law 1029 = .ok (.iadd, 1) := dk_96 (dk_at dksL_law_36 10 rfl rfl)
theorem dL_law_1030 : decode cL_law 1030 = .ok (.iaload, 1) := dk_46 (dk_at dksL_law_36 11 rfl rfl)
theorem dL_law_1031 : decode cL_law 1031 = .ok (.aload_n 0, 1) := dk_42 (dk_at dksL_law_36 12 rfl rfl)
theorem dL_law_1032 : decode cL_law 1032 = .ok (.iload_n 3, 1) := dk_29 (dk_at dksL_law_36 13 rfl rfl)
theorem dL_law_1033 : decode cL_law 1033 = .ok (.iconst 2, 1) := dk_5 (dk_at dksL_law_36 14 rfl rfl)
theorem dL_law_1034 : decode cL_law 1034 = .ok (.iadd, 1) := dk_96 (dk_at dksL_law_36 15 rfl rfl)
theorem dL_law_1035 : decode cL_law 1035 = .ok (.iaload, 1) := dk_46 (dk_at dksL_law_36 16 rfl rfl)
theorem dL_law_1036 : decode cL_law 1036 = .ok (.invokevirtual 125, 3) := dk_182 0 125 (dk_at dksL_law_36 17 rfl rfl)
theorem dL_law_1039 : decode cL_law 1039 = .ok (.if_icmp .eq 471, 3) := dk_159 1 215 (dk_at dksL_law_36 20 rfl rfl)
theorem dL_law_1042 : decode cL_law 1042 = .ok (.iconst 0, 1) := dk_3 (dk_at dksL_law_36 23 rfl rfl)
theorem dL_law_1043 : decode cL_law 1043 = .ok (.ireturn, 1) := dk_172 (dk_at dksL_law_37 0 rfl rfl)
theorem dL_law_1044 : decode cL_law 1044 = .ok (.aload_n 1, 1) := dk_43 (dk_at dksL_law_37 1 rfl rfl)
theorem dL_law_1045 : decode cL_law 1045 = .ok (.aload_n 0, 1) := dk_42 (dk_at dksL_law_37 2 rfl rfl)
theorem dL_law_1046 : decode cL_law 1046 = .ok (.iload_n 3, 1) := dk_29 (dk_at dksL_law_37 3 rfl rfl)
theorem dL_law_1047 : decode cL_law 1047 = .ok (.iconst 1, 1) := dk_4 (dk_at dksL_law_37 4 rfl rfl)
theorem dL_law_1048 : decode cL_law 1048 = .ok (.iadd, 1) := dk_96 (dk_at dksL_law_37 5 rfl rfl)
theorem dL_law_1049 : decode cL_law 1049 = .ok (.iaload, 1) := dk_46 (dk_at dksL_law_37 6 rfl rfl)
theorem dL_law_1050 : decode cL_law 1050 = .ok (.invokevirtual 126, 3) := dk_182 0 126 (dk_at dksL_law_37 7 rfl rfl)
theorem dL_law_1053 : decode cL_law 1053 = .ok (.aload_n 2, 1) := dk_44 (dk_at dksL_law_37 10 rfl rfl)
theorem dL_law_1054 : decode cL_law 1054 = .ok (.aload_n 0, 1) := dk_42 (dk_at dksL_law_37 11 rfl rfl)
theorem dL_law_1055 : decode cL_law 1055 = .ok (.iload_n 3, 1) := dk_29 (dk_at dksL_law_37 12 rfl rfl)
theorem dL_law_1056 : decode cL_law 1056 = .ok (.iconst 1, 1) := dk_4 (dk_at dksL_law_37 13 rfl rfl)
theorem dL_law_1057 : decode cL_law 1057 = .ok (.iadd, 1) := dk_96 (dk_at dksL_law_37 14 rfl rfl)
theorem dL_law_1058 : decode cL_law 1058 = .ok (.iaload, 1) := dk_46 (dk_at dksL_law_37 15 rfl rfl)
theorem dL_law_1059 : decode cL_law 1059 = .ok (.invokevirtual 130, 3) := dk_182 0 130 (dk_at dksL_law_37 16 rfl rfl)
theorem dL_law_1062 : decode cL_law 1062 = .ok (.if_icmp .eq 448, 3) := dk_159 1 192 (dk_at dksL_law_37 19 rfl rfl)
theorem dL_law_1065 : decode cL_law 1065 = .ok (.iconst 0, 1) := dk_3 (dk_at dksL_law_37 22 rfl rfl)
theorem dL_law_1066 : decode cL_law 1066 = .ok (.ireturn, 1) := dk_172 (dk_at dksL_law_37 23 rfl rfl)
theorem dL_law_1067 : decode cL_law 1067 = .ok (.aload_n 1, 1) := dk_43 (dk_at dksL_law_38 0 rfl rfl)
theorem dL_law_1068 : decode cL_law 1068 = .ok (.invokevirtual 131, 3) := dk_182 0 131 (dk_at dksL_law_38 1 rfl rfl)
theorem dL_law_1071 : decode cL_law 1071 = .ok (.aload_n 2, 1) := dk_44 (dk_at dksL_law_38 4 rfl rfl)
theorem dL_law_1072 : decode cL_law 1072 = .ok (.invokevirtual 135, 3) := dk_182 0 135 (dk_at dksL_law_38 5 rfl rfl)
theorem dL_law_1075 : decode cL_law 1075 = .ok (.if_icmp .eq 435, 3) := dk_159 1 179 (dk_at dksL_law_38 8 rfl rfl)
theorem dL_law_1078 : decode cL_law 1078 = .ok (.iconst 0, 1) := dk_3 (dk_at dksL_law_38 11 rfl rfl)
theorem dL_law_1079 : decode cL_law 1079 = .ok (.ireturn, 1) := dk_172 (dk_at dksL_law_38 12 rfl rfl)
theorem dL_law_1080 : decode cL_law 1080 = .ok (.aload_n 1, 1) := dk_43 (dk_at dksL_law_38 13 rfl rfl)
theorem dL_law_1081 : decode cL_law 1081 = .ok (.aload_n 0, 1) := dk_42 (dk_at dksL_law_38 14 rfl rfl)
theorem dL_law_1082 : decode cL_law 1082 = .ok (.iload_n 3, 1) := dk_29 (dk_at dksL_law_38 15 rfl rfl)
theorem dL_law_1083 : decode cL_law 1083 = .ok (.iconst 1, 1) := dk_4 (dk_at dksL_law_38 16 rfl rfl)
theorem dL_law_1084 : decode cL_law 1084 = .ok (.iadd, 1) := dk_96 (dk_at dksL_law_38 17 rfl rfl)
theorem dL_law_1085 : decode cL_law 1085 = .ok (.iaload, 1) := dk_46 (dk_at dksL_law_38 18 rfl rfl)
theorem dL_law_1086 : decode cL_law 1086 = .ok (.invokevirtual 136, 3) := dk_182 0 136 (dk_at dksL_law_38 19 rfl rfl)
theorem dL_law_1089 : decode cL_law 1089 = .ok (.aload_n 2, 1) := dk_44 (dk_at dksL_law_38 22 rfl rfl)
theorem dL_law_1090 : decode cL_law 1090 = .ok (.aload_n 0, 1) := dk_42 (dk_at dksL_law_38 23 rfl rfl)
theorem dL_law_1091 : decode cL_law 1091 = .ok (.iload_n 3, 1) := dk_29 (dk_at dksL_law_39 0 rfl rfl)
theorem dL_law_1092 : decode cL_law 1092 = .ok (.iconst 1, 1) := dk_4 (dk_at dksL_law_39 1 rfl rfl)
theorem dL_law_1093 : decode cL_law 1093 = .ok (.iadd, 1) := dk_96 (dk_at dksL_law_39 2 rfl rfl)
theorem dL_law_1094 : decode cL_law 1094 = .ok (.iaload, 1) := dk_46 (dk_at dksL_law_39 3 rfl rfl)
theorem dL_law_1095 : decode cL_law 1095 = .ok (.invokevirtual 139, 3) := dk_182 0 139 (dk_at dksL_law_39 4 rfl rfl)
theorem dL_law_1098 : decode cL_law 1098 = .ok (.if_icmp .eq 412, 3) := dk_159 1 156 (dk_at dksL_law_39 7 rfl rfl)
theorem dL_law_1101 : decode cL_law 1101 = .ok (.iconst 0, 1) := dk_3 (dk_at dksL_law_39 10 rfl rfl)
theorem dL_law_1102 : decode cL_law 1102 = .ok (.ireturn, 1) := dk_172 (dk_at dksL_law_39 11 rfl rfl)
theorem dL_law_1103 : decode cL_law 1103 = .ok (.aload_n 1, 1) := dk_43 (dk_at dksL_law_39 12 rfl rfl)
theorem dL_law_1104 : decode cL_law 1104 = .ok (.invokevirtual 140, 3) := dk_182 0 140 (dk_at dksL_law_39 13 rfl rfl)
theorem dL_law_1107 : decode cL_law 1107 = .ok (.aload_n 2, 1) := dk_44 (dk_at dksL_law_39 16 rfl rfl)
theorem dL_law_1108 : decode cL_law 1108 = .ok (.invokevirtual 143, 3) := dk_182 0 143 (dk_at dksL_law_39 17 rfl rfl)
theorem dL_law_1111 : decode cL_law 1111 = .ok (.if_icmp .eq 399, 3) := dk_159 1 143 (dk_at dksL_law_39 20 rfl rfl)
theorem dL_law_1114 : decode cL_law 1114 = .ok (.iconst 0, 1) := dk_3 (dk_at dksL_law_39 23 rfl rfl)
theorem dL_law_1115 : decode cL_law 1115 = .ok (.ireturn, 1) := dk_172 (dk_at dksL_law_40 0 rfl rfl)
theorem dL_law_1116 : decode cL_law 1116 = .ok (.aload_n 1, 1) := dk_43 (dk_at dksL_law_40 1 rfl rfl)
theorem dL_law_1117 : decode cL_law 1117 = .ok (.aload_n 0, 1) := dk_42 (dk_at dksL_law_40 2 rfl rfl)
theorem dL_law_1118 : decode cL_law 1118 = .ok (.iload_n 3, 1) := dk_29 (dk_at dksL_law_40 3 rfl rfl)
theorem dL_law_1119 : decode cL_law 1119 = .ok (.iconst 1, 1) := dk_4 (dk_at dksL_law_40 4 rfl rfl)
theorem dL_law_1120 : decode cL_law 1120 = .ok (.iadd, 1) := dk_96 (dk_at dksL_law_40 5 rfl rfl)
theorem dL_law_1121 : decode cL_law 1121 = .ok (.iaload, 1) := dk_46 (dk_at dksL_law_40 6 rfl rfl)
theorem dL_law_1122 : decode cL_law 1122 = .ok (.aload_n 0, 1) := dk_42 (dk_at dksL_law_40 7 rfl rfl)
theorem dL_law_1123 : decode cL_law 1123 = .ok (.iload_n 3, 1) := dk_29 (dk_at dksL_law_40 8 rfl rfl)
theorem dL_law_1124 : decode cL_law 1124 = .ok (.iconst 2, 1) := dk_5 (dk_at dksL_law_40 9 rfl rfl)
theorem dL_law_1125 : decode cL_law 1125 = .ok (.iadd, 1) := dk_96 (dk_at dksL_law_40 10 rfl rfl)
theorem dL_law_1126 : decode cL_law 1126 = .ok (.iaload, 1) := dk_46 (dk_at dksL_law_40 11 rfl rfl)
theorem dL_law_1127 : decode cL_law 1127 = .ok (.invokevirtual 144, 3) := dk_182 0 144 (dk_at dksL_law_40 12 rfl rfl)
theorem dL_law_1130 : decode cL_law 1130 = .ok (.aload_n 2, 1) := dk_44 (dk_at dksL_law_40 15 rfl rfl)
theorem dL_law_1131 : decode cL_law 1131 = .ok (.aload_n 0, 1) := dk_42 (dk_at dksL_law_40 16 rfl rfl)
theorem dL_law_1132 : decode cL_law 1132 = .ok (.iload_n 3, 1) := dk_29 (dk_at dksL_law_40 17 rfl rfl)
theorem dL_law_1133 : decode cL_law 1133 = .ok (.iconst 1, 1) := dk_4 (dk_at dksL_law_40 18 rfl rfl)
theorem dL_law_1134 : decode cL_law 1134 = .ok (.iadd, 1) := dk_96 (dk_at dksL_law_40 19 rfl rfl)
theorem dL_law_1135 : decode cL_law 1135 = .ok (.iaload, 1) := dk_46 (dk_at dksL_law_40 20 rfl rfl)
theorem dL_law_1136 : decode cL_law 1136 = .ok (.aload_n 0, 1) := dk_42 (dk_at dksL_law_40 21 rfl rfl)
theorem dL_law_1137 : decode cL_law 1137 = .ok (.iload_n 3, 1) := dk_29 (dk_at dksL_law_40 22 rfl rfl)
theorem dL_law_1138 : decode cL_law 1138 = .ok (.iconst 2, 1) := dk_5 (dk_at dksL_law_40 23 rfl rfl)
theorem dL_law_1139 : decode cL_law 1139 = .ok (.iadd, 1) := dk_96 (dk_at dksL_law_41 0 rfl rfl)
theorem dL_law_1140 : decode cL_law 1140 = .ok (.iaload, 1) := dk_46 (dk_at dksL_law_41 1 rfl rfl)
theorem dL_law_1141 : decode cL_law 1141 = .ok (.invokevirtual 147, 3) := dk_182 0 147 (dk_at dksL_law_41 2 rfl rfl)
theorem dL_law_1144 : decode cL_law 1144 = .ok (.if_icmp .eq 366, 3) := dk_159 1 110 (dk_at dksL_law_41 5 rfl rfl)
theorem dL_law_1147 : decode cL_law 1147 = .ok (.iconst 0, 1) := dk_3 (dk_at dksL_law_41 8 rfl rfl)
theorem dL_law_1148 : decode cL_law 1148 = .ok (.ireturn, 1) := dk_172 (dk_at dksL_law_41 9 rfl rfl)
theorem dL_law_1149 : decode cL_law 1149 = .ok (.aload_n 1, 1) := dk_43 (dk_at dksL_law_41 10 rfl rfl)
theorem dL_law_1150 : decode cL_law 1150 = .ok (.aload_n 0, 1) := dk_42 (dk_at dksL_law_41 11 rfl rfl)
theorem dL_law_1151 : decode cL_law 1151 = .ok (.iload_n 3, 1) := dk_29 (dk_at dksL_law_41 12 rfl rfl)
theorem dL_law_1152 : decode cL_law 1152 = .ok (.iconst 1, 1) := dk_4 (dk_at dksL_law_41 13 rfl rfl)
theorem dL_law_1153 : decode cL_law 1153 = .ok (.iadd, 1) := dk_96 (dk_at dksL_law_41 14 rfl rfl)
theorem dL_law_1154 : decode cL_law 1154 = .ok (.iaload, 1) := dk_46 (dk_at dksL_law_41 15 rfl rfl)
theorem dL_law_1155 : decode cL_law 1155 = .ok (.invokevirtual 148, 3) := dk_182 0 148 (dk_at dksL_law_41 16 rfl rfl)
theorem dL_law_1158 : decode cL_law 1158 = .ok (.aload_n 2, 1) := dk_44 (dk_at dksL_law_41 19 rfl rfl)
theorem dL_law_1159 : decode cL_law 1159 = .ok (.aload_n 0, 1) := dk_42 (dk_at dksL_law_41 20 rfl rfl)
theorem dL_law_1160 : decode cL_law 1160 = .ok (.iload_n 3, 1) := dk_29 (dk_at dksL_law_41 21 rfl rfl)
theorem dL_law_1161 : decode cL_law 1161 = .ok (.iconst 1, 1) := dk_4 (dk_at dksL_law_41 22 rfl rfl)
theorem dL_law_1162 : decode cL_law 1162 = .ok (.iadd, 1) := dk_96 (dk_at dksL_law_41 23 rfl rfl)
theorem dL_law_1163 : decode cL_law 1163 = .ok (.iaload, 1) := dk_46 (dk_at dksL_law_42 0 rfl rfl)
theorem dL_law_1164 : decode cL_law 1164 = .ok (.invokevirtual 151, 3) := dk_182 0 151 (dk_at dksL_law_42 1 rfl rfl)
theorem dL_law_1167 : decode cL_law 1167 = .ok (.if_icmp .eq 343, 3) := dk_159 1 87 (dk_at dksL_law_42 4 rfl rfl)
theorem dL_law_1170 : decode cL_law 1170 = .ok (.iconst 0, 1) := dk_3 (dk_at dksL_law_42 7 rfl rfl)
theorem dL_law_1171 : decode cL_law 1171 = .ok (.ireturn, 1) := dk_172 (dk_at dksL_law_42 8 rfl rfl)
theorem dL_law_1172 : decode cL_law 1172 = .ok (.aload_n 1, 1) := dk_43 (dk_at dksL_law_42 9 rfl rfl)
theorem dL_law_1173 : decode cL_law 1173 = .ok (.aload_n 0, 1) := dk_42 (dk_at dksL_law_42 10 rfl rfl)
theorem dL_law_1174 : decode cL_law 1174 = .ok (.iload_n 3, 1) := dk_29 (dk_at dksL_law_42 11 rfl rfl)
theorem dL_law_1175 : decode cL_law 1175 = .ok (.iconst 1, 1) := dk_4 (dk_at dksL_law_42 12 rfl rfl)
theorem dL_law_1176 : decode cL_law 1176 = .ok (.iadd, 1) := dk_96 (dk_at dksL_law_42 13 rfl rfl)
theorem dL_law_1177 : decode cL_law 1177 = .ok (.iaload, 1) := dk_46 (dk_at dksL_law_42 14 rfl rfl)
theorem dL_law_1178 : decode cL_law 1178 = .ok (.aload_n 0, 1) := dk_42 (dk_at dksL_law_42 15 rfl rfl)
theorem dL_law_1179 : decode cL_law 1179 = .ok (.iload_n 3, 1) := dk_29 (dk_at dksL_law_42 16 rfl rfl)
theorem dL_law_1180 : decode cL_law 1180 = .ok (.iconst 2, 1) := dk_5 (dk_at dksL_law_42 17 rfl rfl)
theorem dL_law_1181 : decode cL_law 1181 = .ok (.iadd, 1) := dk_96 (dk_at dksL_law_42 18 rfl rfl)
theorem dL_law_1182 : decode cL_law 1182 = .ok (.iaload, 1) := dk_46 (dk_at dksL_law_42 19 rfl rfl)
theorem dL_law_1183 : decode cL_law 1183 = .ok (.invokevirtual 152, 3) := dk_182 0 152 (dk_at dksL_law_42 20 rfl rfl)
theorem dL_law_1186 : decode cL_law 1186 = .ok (.aload_n 2, 1) := dk_44 (dk_at dksL_law_42 23 rfl rfl)
theorem dL_law_1187 : decode cL_law 1187 = .ok (.aload_n 0, 1) := dk_42 (dk_at dksL_law_43 0 rfl rfl)
theorem dL_law_1188 : decode cL_law 1188 = .ok (.iload_n 3, 1) := dk_29 (dk_at dksL_law_43 1 rfl rfl)
theorem dL_law_1189 : decode cL_law 1189 = .ok (.iconst 1, 1) := dk_4 (dk_at dksL_law_43 2 rfl rfl)
theorem dL_law_1190 : decode cL_law 1190 = .ok (.iadd, 1) := dk_96 (dk_at dksL_law_43 3 rfl rfl)
theorem dL_law_1191 : decode cL_law 1191 = .ok (.iaload, 1) := dk_46 (dk_at dksL_law_43 4 rfl rfl)
theorem dL_law_1192 : decode cL_law 1192 = .ok (.aload_n 0, 1) := dk_42 (dk_at dksL_law_43 5 rfl rfl)
theorem dL_law_1193 : decode cL_law 1193 = .ok (.iload_n 3, 1) := dk_29 (dk_at dksL_law_43 6 rfl rfl)
theorem dL_law_1194 : decode cL_law 1194 = .ok (.iconst 2, 1) := dk_5 (dk_at dksL_law_43 7 rfl rfl)
theorem dL_law_1195 : decode cL_law 1195 = .ok (.iadd, 1) := dk_96 (dk_at dksL_law_43 8 rfl rfl)
theorem dL_law_1196 : decode cL_law 1196 = .ok (.iaload, 1) := dk_46 (dk_at dksL_law_43 9 rfl rfl)
theorem dL_law_1197 : decode cL_law 1197 = .ok (.invokevirtual 155, 3) := dk_182 0 155 (dk_at dksL_law_43 10 rfl rfl)
theorem dL_law_1200 : decode cL_law 1200 = .ok (.if_icmp .eq 310, 3) := dk_159 1 54 (dk_at dksL_law_43 13 rfl rfl)
theorem dL_law_1203 : decode cL_law 1203 = .ok (.iconst 0, 1) := dk_3 (dk_at dksL_law_43 16 rfl rfl)
theorem dL_law_1204 : decode cL_law 1204 = .ok (.ireturn, 1) := dk_172 (dk_at dksL_law_43 17 rfl rfl)
theorem dL_law_1205 : decode cL_law 1205 = .ok (.aload_n 1, 1) := dk_43 (dk_at dksL_law_43 18 rfl rfl)
theorem dL_law_1206 : decode cL_law 1206 = .ok (.invokevirtual 156, 3) := dk_182 0 156 (dk_at dksL_law_43 19 rfl rfl)
theorem dL_law_1209 : decode cL_law 1209 = .ok (.aload_n 2, 1) := dk_44 (dk_at dksL_law_43 22 rfl rfl)
theorem dL_law_1210 : decode cL_law 1210 = .ok (.invokevirtual 159, 3) := dk_182 0 159 (dk_at dksL_law_44 0 rfl rfl)
theorem dL_law_1213 : decode cL_law 1213 = .ok (.if_icmp .eq 297, 3) := dk_159 1 41 (dk_at dksL_law_44 3 rfl rfl)
theorem dL_law_1216 : decode cL_law 1216 = .ok (.iconst 0, 1) := dk_3 (dk_at dksL_law_44 6 rfl rfl)
theorem dL_law_1217 : decode cL_law 1217 = .ok (.ireturn, 1) := dk_172 (dk_at dksL_law_44 7 rfl rfl)
theorem dL_law_1218 : decode cL_law 1218 = .ok (.aload_n 1, 1) := dk_43 (dk_at dksL_law_44 8 rfl rfl)
theorem dL_law_1219 : decode cL_law 1219 = .ok (.aload_n 0, 1) := dk_42 (dk_at dksL_law_44 9 rfl rfl)
theorem dL_law_1220 : decode cL_law 1220 = .ok (.iload_n 3, 1) := dk_29 (dk_at dksL_law_44 10 rfl rfl)
theorem dL_law_1221 : decode cL_law 1221 = .ok (.iconst 1, 1) := dk_4 (dk_at dksL_law_44 11 rfl rfl)
theorem dL_law_1222 : decode cL_law 1222 = .ok (.iadd, 1) := dk_96 (dk_at dksL_law_44 12 rfl rfl)
theorem dL_law_1223 : decode cL_law 1223 = .ok (.iaload, 1) := dk_46 (dk_at dksL_law_44 13 rfl rfl)
theorem dL_law_1224 : decode cL_law 1224 = .ok (.invokevirtual 160, 3) := dk_182 0 160 (dk_at dksL_law_44 14 rfl rfl)
theorem dL_law_1227 : decode cL_law 1227 = .ok (.aload_n 2, 1) := dk_44 (dk_at dksL_law_44 17 rfl rfl)
theorem dL_law_1228 : decode cL_law 1228 = .ok (.aload_n 0, 1) := dk_42 (dk_at dksL_law_44 18 rfl rfl)
theorem dL_law_1229 : decode cL_law 1229 = .ok (.iload_n 3, 1) := dk_29 (dk_at dksL_law_44 19 rfl rfl)
theorem dL_law_1230 : decode cL_law 1230 = .ok (.iconst 1, 1) := dk_4 (dk_at dksL_law_44 20 rfl rfl)
theorem dL_law_1231 : decode cL_law 1231 = .ok (.iadd, 1) := dk_96 (dk_at dksL_law_44 21 rfl rfl)
theorem dL_law_1232 : decode cL_law 1232 = .ok (.iaload, 1) := dk_46 (dk_at dksL_law_44 22 rfl rfl)
theorem dL_law_1233 : decode cL_law 1233 = .ok (.invokevirtual 163, 3) := dk_182 0 163 (dk_at dksL_law_45 0 rfl rfl)
theorem dL_law_1236 : decode cL_law 1236 = .ok (.if_icmp .eq 274, 3) := dk_159 1 18 (dk_at dksL_law_45 3 rfl rfl)
theorem dL_law_1239 : decode cL_law 1239 = .ok (.iconst 0, 1) := dk_3 (dk_at dksL_law_45 6 rfl rfl)
theorem dL_law_1240 : decode cL_law 1240 = .ok (.ireturn, 1) := dk_172 (dk_at dksL_law_45 7 rfl rfl)
theorem dL_law_1241 : decode cL_law 1241 = .ok (.aload_n 1, 1) := dk_43 (dk_at dksL_law_45 8 rfl rfl)
theorem dL_law_1242 : decode cL_law 1242 = .ok (.invokevirtual 164, 3) := dk_182 0 164 (dk_at dksL_law_45 9 rfl rfl)
theorem dL_law_1245 : decode cL_law 1245 = .ok (.aload_n 2, 1) := dk_44 (dk_at dksL_law_45 12 rfl rfl)
theorem dL_law_1246 : decode cL_law 1246 = .ok (.invokevirtual 167, 3) := dk_182 0 167 (dk_at dksL_law_45 13 rfl rfl)
theorem dL_law_1249 : decode cL_law 1249 = .ok (.if_icmp .eq 261, 3) := dk_159 1 5 (dk_at dksL_law_45 16 rfl rfl)
theorem dL_law_1252 : decode cL_law 1252 = .ok (.iconst 0, 1) := dk_3 (dk_at dksL_law_45 19 rfl rfl)
theorem dL_law_1253 : decode cL_law 1253 = .ok (.ireturn, 1) := dk_172 (dk_at dksL_law_45 20 rfl rfl)
theorem dL_law_1254 : decode cL_law 1254 = .ok (.aload_n 1, 1) := dk_43 (dk_at dksL_law_45 21 rfl rfl)
theorem dL_law_1255 : decode cL_law 1255 = .ok (.invokevirtual 168, 3) := dk_182 0 168 (dk_at dksL_law_46 0 rfl rfl)
theorem dL_law_1258 : decode cL_law 1258 = .ok (.aload_n 2, 1) := dk_44 (dk_at dksL_law_46 3 rfl rfl)
theorem dL_law_1259 : decode cL_law 1259 = .ok (.invokevirtual 171, 3) := dk_182 0 171 (dk_at dksL_law_46 4 rfl rfl)
theorem dL_law_1262 : decode cL_law 1262 = .ok (.if_icmp .eq 248, 3) := dk_159 0 248 (dk_at dksL_law_46 7 rfl rfl)
theorem dL_law_1265 : decode cL_law 1265 = .ok (.iconst 0, 1) := dk_3 (dk_at dksL_law_46 10 rfl rfl)
theorem dL_law_1266 : decode cL_law 1266 = .ok (.ireturn, 1) := dk_172 (dk_at dksL_law_46 11 rfl rfl)
theorem dL_law_1267 : decode cL_law 1267 = .ok (.aload_n 1, 1) := dk_43 (dk_at dksL_law_46 12 rfl rfl)
theorem dL_law_1268 : decode cL_law 1268 = .ok (.invokevirtual 172, 3) := dk_182 0 172 (dk_at dksL_law_46 13 rfl rfl)
theorem dL_law_1271 : decode cL_law 1271 = .ok (.aload_n 2, 1) := dk_44 (dk_at dksL_law_46 16 rfl rfl)
theorem dL_law_1272 : decode cL_law 1272 = .ok (.invokevirtual 175, 3) := dk_182 0 175 (dk_at dksL_law_46 17 rfl rfl)
theorem dL_law_1275 : decode cL_law 1275 = .ok (.if_icmp .eq 235, 3) := dk_159 0 235 (dk_at dksL_law_46 20 rfl rfl)
theorem dL_law_1278 : decode cL_law 1278 = .ok (.iconst 0, 1) := dk_3 (dk_at dksL_law_46 23 rfl rfl)
theorem dL_law_1279 : decode cL_law 1279 = .ok (.ireturn, 1) := dk_172 (dk_at dksL_law_47 0 rfl rfl)
theorem dL_law_1280 : decode cL_law 1280 = .ok (.aload_n 1, 1) := dk_43 (dk_at dksL_law_47 1 rfl rfl)
theorem dL_law_1281 : decode cL_law 1281 = .ok (.invokevirtual 176, 3) := dk_182 0 176 (dk_at dksL_law_47 2 rfl rfl)
theorem dL_law_1284 : decode cL_law 1284 = .ok (.aload_n 2, 1) := dk_44 (dk_at dksL_law_47 5 rfl rfl)
theorem dL_law_1285 : decode cL_law 1285 = .ok (.invokevirtual 179, 3) := dk_182 0 179 (dk_at dksL_law_47 6 rfl rfl)
theorem dL_law_1288 : decode cL_law 1288 = .ok (.if_icmp .eq 222, 3) := dk_159 0 222 (dk_at dksL_law_47 9 rfl rfl)
theorem dL_law_1291 : decode cL_law 1291 = .ok (.iconst 0, 1) := dk_3 (dk_at dksL_law_47 12 rfl rfl)
theorem dL_law_1292 : decode cL_law 1292 = .ok (.ireturn, 1) := dk_172 (dk_at dksL_law_47 13 rfl rfl)
theorem dL_law_1293 : decode cL_law 1293 = .ok (.aload_n 1, 1) := dk_43 (dk_at dksL_law_47 14 rfl rfl)
theorem dL_law_1294 : decode cL_law 1294 = .ok (.aload_n 0, 1) := dk_42 (dk_at dksL_law_47 15 rfl rfl)
theorem dL_law_1295 : decode cL_law 1295 = .ok (.iload_n 3, 1) := dk_29 (dk_at dksL_law_47 16 rfl rfl)
theorem dL_law_1296 : decode cL_law 1296 = .ok (.iconst 1, 1) := dk_4 (dk_at dksL_law_47 17 rfl rfl)
theorem dL_law_1297 : decode cL_law 1297 = .ok (.iadd, 1) := dk_96 (dk_at dksL_law_47 18 rfl rfl)
theorem dL_law_1298 : decode cL_law 1298 = .ok (.iaload, 1) := dk_46 (dk_at dksL_law_47 19 rfl rfl)
theorem dL_law_1299 : decode cL_law 1299 = .ok (.invokevirtual 180, 3) := dk_182 0 180 (dk_at dksL_law_47 20 rfl rfl)
theorem dL_law_1302 : decode cL_law 1302 = .ok (.aload_n 2, 1) := dk_44 (dk_at dksL_law_47 23 rfl rfl)
theorem dL_law_1303 : decode cL_law 1303 = .ok (.aload_n 0, 1) := dk_42 (dk_at dksL_law_48 0 rfl rfl)
theorem dL_law_1304 : decode cL_law 1304 = .ok (.iload_n 3, 1) := dk_29 (dk_at dksL_law_48 1 rfl rfl)
theorem dL_law_1305 : decode cL_law 1305 = .ok (.iconst 1, 1) := dk_4 (dk_at dksL_law_48 2 rfl rfl)
theorem dL_law_1306 : decode cL_law 1306 = .ok (.iadd, 1) := dk_96 (dk_at dksL_law_48 3 rfl rfl)
theorem dL_law_1307 : decode cL_law 1307 = .ok (.iaload, 1) := dk_46 (dk_at dksL_law_48 4 rfl rfl)
theorem dL_law_1308 : decode cL_law 1308 = .ok (.invokevirtual 183, 3) := dk_182 0 183 (dk_at dksL_law_48 5 rfl rfl)
theorem dL_law_1311 : decode cL_law 1311 = .ok (.if_icmp .eq 199, 3) := dk_159 0 199 (dk_at dksL_law_48 8 rfl rfl)
theorem dL_law_1314 : decode cL_law 1314 = .ok (.iconst 0, 1) := dk_3 (dk_at dksL_law_48 11 rfl rfl)
theorem dL_law_1315 : decode cL_law 1315 = .ok (.ireturn, 1) := dk_172 (dk_at dksL_law_48 12 rfl rfl)
theorem dL_law_1316 : decode cL_law 1316 = .ok (.aload_n 1, 1) := dk_43 (dk_at dksL_law_48 13 rfl rfl)
theorem dL_law_1317 : decode cL_law 1317 = .ok (.aload_n 0, 1) := dk_42 (dk_at dksL_law_48 14 rfl rfl)
theorem dL_law_1318 : decode cL_law 1318 = .ok (.iload_n 3, 1) := dk_29 (dk_at dksL_law_48 15 rfl rfl)
theorem dL_law_1319 : decode cL_law 1319 = .ok (.iconst 1, 1) := dk_4 (dk_at dksL_law_48 16 rfl rfl)
theorem dL_law_1320 : decode cL_law 1320 = .ok (.iadd, 1) := dk_96 (dk_at dksL_law_48 17 rfl rfl)
theorem dL_law_1321 : decode cL_law 1321 = .ok (.iaload, 1) := dk_46 (dk_at dksL_law_48 18 rfl rfl)
theorem dL_law_1322 : decode cL_law 1322 = .ok (.invokevirtual 184, 3) := dk_182 0 184 (dk_at dksL_law_48 19 rfl rfl)
theorem dL_law_1325 : decode cL_law 1325 = .ok (.aload_n 2, 1) := dk_44 (dk_at dksL_law_48 22 rfl rfl)
theorem dL_law_1326 : decode cL_law 1326 = .ok (.aload_n 0, 1) := dk_42 (dk_at dksL_law_48 23 rfl rfl)
theorem dL_law_1327 : decode cL_law 1327 = .ok (.iload_n 3, 1) := dk_29 (dk_at dksL_law_49 0 rfl rfl)
theorem dL_law_1328 : decode cL_law 1328 = .ok (.iconst 1, 1) := dk_4 (dk_at dksL_law_49 1 rfl rfl)
theorem dL_law_1329 : decode cL_law 1329 = .ok (.iadd, 1) := dk_96 (dk_at dksL_law_49 2 rfl rfl)
theorem dL_law_1330 : decode cL_law 1330 = .ok (.iaload, 1) := dk_46 (dk_at dksL_law_49 3 rfl rfl)
theorem dL_law_1331 : decode cL_law 1331 = .ok (.invokevirtual 187, 3) := dk_182 0 187 (dk_at dksL_law_49 4 rfl rfl)
theorem dL_law_1334 : decode cL_law 1334 = .ok (.if_icmp .eq 176, 3) := dk_159 0 176 (dk_at dksL_law_49 7 rfl rfl)
theorem dL_law_1337 : decode cL_law 1337 = .ok (.iconst 0, 1) := dk_3 (dk_at dksL_law_49 10 rfl rfl)
theorem dL_law_1338 : decode cL_law 1338 = .ok (.ireturn, 1) := dk_172 (dk_at dksL_law_49 11 rfl rfl)
theorem dL_law_1339 : decode cL_law 1339 = .ok (.aload_n 1, 1) := dk_43 (dk_at dksL_law_49 12 rfl rfl)
theorem dL_law_1340 : decode cL_law 1340 = .ok (.aload_n 0, 1) := dk_42 (dk_at dksL_law_49 13 rfl rfl)
theorem dL_law_1341 : decode cL_law 1341 = .ok (.iload_n 3, 1) := dk_29 (dk_at dksL_law_49 14 rfl rfl)
theorem dL_law_1342 : decode cL_law 1342 = .ok (.iconst 1, 1) := dk_4 (dk_at dksL_law_49 15 rfl rfl)
theorem dL_law_1343 : decode cL_law 1343 = .ok (.iadd, 1) := dk_96 (dk_at dksL_law_49 16 rfl rfl)
theorem dL_law_1344 : decode cL_law 1344 = .ok (.iaload, 1) := dk_46 (dk_at dksL_law_49 17 rfl rfl)
theorem dL_law_1345 : decode cL_law 1345 = .ok (.aload_n 0, 1) := dk_42 (dk_at dksL_law_49 18 rfl rfl)
theorem dL_law_1346 : decode cL_law 1346 = .ok (.iload_n 3, 1) := dk_29 (dk_at dksL_law_49 19 rfl rfl)
theorem dL_law_1347 : decode cL_law 1347 = .ok (.iconst 2, 1) := dk_5 (dk_at dksL_law_49 20 rfl rfl)
theorem dL_law_1348 : decode cL_law 1348 = .ok (.iadd, 1) := dk_96 (dk_at dksL_law_49 21 rfl rfl)
theorem dL_law_1349 : decode cL_law 1349 = .ok (.iaload, 1) := dk_46 (dk_at dksL_law_49 22 rfl rfl)
theorem dL_law_1350 : decode cL_law 1350 = .ok (.aload_n 0, 1) := dk_42 (dk_at dksL_law_49 23 rfl rfl)
theorem dL_law_1351 : decode cL_law 1351 = .ok (.iload_n 3, 1) := dk_29 (dk_at dksL_law_50 0 rfl rfl)
theorem dL_law_1352 : decode cL_law 1352 = .ok (.iconst 3, 1) := dk_6 (dk_at dksL_law_50 1 rfl rfl)
theorem dL_law_1353 : decode cL_law 1353 = .ok (.iadd, 1) := dk_96 (dk_at dksL_law_50 2 rfl rfl)
theorem dL_law_1354 : decode cL_law 1354 = .ok (.iaload, 1) := dk_46 (dk_at dksL_law_50 3 rfl rfl)
theorem dL_law_1355 : decode cL_law 1355 = .ok (.invokevirtual 188, 3) := dk_182 0 188 (dk_at dksL_law_50 4 rfl rfl)
theorem dL_law_1358 : decode cL_law 1358 = .ok (.aload_n 2, 1) := dk_44 (dk_at dksL_law_50 7 rfl rfl)
theorem dL_law_1359 : decode cL_law 1359 = .ok (.aload_n 0, 1) := dk_42 (dk_at dksL_law_50 8 rfl rfl)
theorem dL_law_1360 : decode cL_law 1360 = .ok (.iload_n 3, 1) := dk_29 (dk_at dksL_law_50 9 rfl rfl)
theorem dL_law_1361 : decode cL_law 1361 = .ok (.iconst 1, 1) := dk_4 (dk_at dksL_law_50 10 rfl rfl)
theorem dL_law_1362 : decode cL_law 1362 = .ok (.iadd, 1) := dk_96 (dk_at dksL_law_50 11 rfl rfl)
theorem dL_law_1363 : decode cL_law 1363 = .ok (.iaload, 1) := dk_46 (dk_at dksL_law_50 12 rfl rfl)
theorem dL_law_1364 : decode cL_law 1364 = .ok (.aload_n 0, 1) := dk_42 (dk_at dksL_law_50 13 rfl rfl)
theorem dL_law_1365 : decode cL_law 1365 = .ok (.iload_n 3, 1) := dk_29 (dk_at dksL_law_50 14 rfl rfl)
theorem dL_law_1366 : decode cL_law 1366 = .ok (.iconst 2, 1) := dk_5 (dk_at dksL_law_50 15 rfl rfl)
theorem dL_law_1367 : decode cL_law 1367 = .ok (.iadd, 1) := dk_96 (dk_at dksL_law_50 16 rfl rfl)
theorem dL_law_1368 : decode cL_law 1368 = .ok (.iaload, 1) := dk_46 (dk_at dksL_law_50 17 rfl rfl)
theorem dL_law_1369 : decode cL_law 1369 = .ok (.aload_n 0, 1) := dk_42 (dk_at dksL_law_50 18 rfl rfl)
theorem dL_law_1370 : decode cL_law 1370 = .ok (.iload_n 3, 1) := dk_29 (dk_at dksL_law_50 19 rfl rfl)
theorem dL_law_1371 : decode cL_law 1371 = .ok (.iconst 3, 1) := dk_6 (dk_at dksL_law_50 20 rfl rfl)
theorem dL_law_1372 : decode cL_law 1372 = .ok (.iadd, 1) := dk_96 (dk_at dksL_law_50 21 rfl rfl)
theorem dL_law_1373 : decode cL_law 1373 = .ok (.iaload, 1) := dk_46 (dk_at dksL_law_50 22 rfl rfl)
theorem dL_law_1374 : decode cL_law 1374 = .ok (.invokevirtual 191, 3) := dk_182 0 191 (dk_at dksL_law_51 0 rfl rfl)
theorem dL_law_1377 : decode cL_law 1377 = .ok (.if_icmp .eq 133, 3) := dk_159 0 133 (dk_at dksL_law_51 3 rfl rfl)
theorem dL_law_1380 : decode cL_law 1380 = .ok (.iconst 0, 1) := dk_3 (dk_at dksL_law_51 6 rfl rfl)
theorem dL_law_1381 : decode cL_law 1381 = .ok (.ireturn, 1) := dk_172 (dk_at dksL_law_51 7 rfl rfl)
theorem dL_law_1382 : decode cL_law 1382 = .ok (.aload_n 1, 1) := dk_43 (dk_at dksL_law_51 8 rfl rfl)
theorem dL_law_1383 : decode cL_law 1383 = .ok (.aload_n 0, 1) := dk_42 (dk_at dksL_law_51 9 rfl rfl)
theorem dL_law_1384 : decode cL_law 1384 = .ok (.iload_n 3, 1) := dk_29 (dk_at dksL_law_51 10 rfl rfl)
theorem dL_law_1385 : decode cL_law 1385 = .ok (.iconst 1, 1) := dk_4 (dk_at dksL_law_51 11 rfl rfl)
theorem dL_law_1386 : decode cL_law 1386 = .ok (.iadd, 1) := dk_96 (dk_at dksL_law_51 12 rfl rfl)
theorem dL_law_1387 : decode cL_law 1387 = .ok (.iaload, 1) := dk_46 (dk_at dksL_law_51 13 rfl rfl)
theorem dL_law_1388 : decode cL_law 1388 = .ok (.invokevirtual 192, 3) := dk_182 0 192 (dk_at dksL_law_51 14 rfl rfl)
theorem dL_law_1391 : decode cL_law 1391 = .ok (.aload_n 2, 1) := dk_44 (dk_at dksL_law_51 17 rfl rfl)
theorem dL_law_1392 : decode cL_law 1392 = .ok (.aload_n 0, 1) := dk_42 (dk_at dksL_law_51 18 rfl rfl)
theorem dL_law_1393 : decode cL_law 1393 = .ok (.iload_n 3, 1) := dk_29 (dk_at dksL_law_51 19 rfl rfl)
theorem dL_law_1394 : decode cL_law 1394 = .ok (.iconst 1, 1) := dk_4 (dk_at dksL_law_51 20 rfl rfl)
theorem dL_law_1395 : decode cL_law 1395 = .ok (.iadd, 1) := dk_96 (dk_at dksL_law_51 21 rfl rfl)
theorem dL_law_1396 : decode cL_law 1396 = .ok (.iaload, 1) := dk_46 (dk_at dksL_law_51 22 rfl rfl)
theorem dL_law_1397 : decode cL_law 1397 = .ok (.invokevirtual 195, 3) := dk_182 0 195 (dk_at dksL_law_52 0 rfl rfl)
theorem dL_law_1400 : decode cL_law 1400 = .ok (.if_icmp .eq 110, 3) := dk_159 0 110 (dk_at dksL_law_52 3 rfl rfl)
theorem dL_law_1403 : decode cL_law 1403 = .ok (.iconst 0, 1) := dk_3 (dk_at dksL_law_52 6 rfl rfl)
theorem dL_law_1404 : decode cL_law 1404 = .ok (.ireturn, 1) := dk_172 (dk_at dksL_law_52 7 rfl rfl)
theorem dL_law_1405 : decode cL_law 1405 = .ok (.aload_n 1, 1) := dk_43 (dk_at dksL_law_52 8 rfl rfl)
theorem dL_law_1406 : decode cL_law 1406 = .ok (.aload_n 0, 1) := dk_42 (dk_at dksL_law_52 9 rfl rfl)
theorem dL_law_1407 : decode cL_law 1407 = .ok (.iload_n 3, 1) := dk_29 (dk_at dksL_law_52 10 rfl rfl)
theorem dL_law_1408 : decode cL_law 1408 = .ok (.iconst 1, 1) := dk_4 (dk_at dksL_law_52 11 rfl rfl)
theorem dL_law_1409 : decode cL_law 1409 = .ok (.iadd, 1) := dk_96 (dk_at dksL_law_52 12 rfl rfl)
theorem dL_law_1410 : decode cL_law 1410 = .ok (.iaload, 1) := dk_46 (dk_at dksL_law_52 13 rfl rfl)
theorem dL_law_1411 : decode cL_law 1411 = .ok (.invokevirtual 196, 3) := dk_182 0 196 (dk_at dksL_law_52 14 rfl rfl)
theorem dL_law_1414 : decode cL_law 1414 = .ok (.aload_n 2, 1) := dk_44 (dk_at dksL_law_52 17 rfl rfl)
theorem dL_law_1415 : decode cL_law 1415 = .ok (.aload_n 0, 1) := dk_42 (dk_at dksL_law_52 18 rfl rfl)
theorem dL_law_1416 : decode cL_law 1416 = .ok (.iload_n 3, 1) := dk_29 (dk_at dksL_law_52 19 rfl rfl)
theorem dL_law_1417 : decode cL_law 1417 = .ok (.iconst 1, 1) := dk_4 (dk_at dksL_law_52 20 rfl rfl)
theorem dL_law_1418 : decode cL_law 1418 = .ok (.iadd, 1) := dk_96 (dk_at dksL_law_52 21 rfl rfl)
theorem dL_law_1419 : decode cL_law 1419 = .ok (.iaload, 1) := dk_46 (dk_at dksL_law_52 22 rfl rfl)
theorem dL_law_1420 : decode cL_law 1420 = .ok (.invokevirtual 199, 3) := dk_182 0 199 (dk_at dksL_law_53 0 rfl rfl)
theorem dL_law_1423 : decode cL_law 1423 = .ok (.if_icmp .eq 87, 3) := dk_159 0 87 (dk_at dksL_law_53 3 rfl rfl)
theorem dL_law_1426 : decode cL_law 1426 = .ok (.iconst 0, 1) := dk_3 (dk_at dksL_law_53 6 rfl rfl)
theorem dL_law_1427 : decode cL_law 1427 = .ok (.ireturn, 1) := dk_172 (dk_at dksL_law_53 7 rfl rfl)
theorem dL_law_1428 : decode cL_law 1428 = .ok (.aload_n 1, 1) := dk_43 (dk_at dksL_law_53 8 rfl rfl)
theorem dL_law_1429 : decode cL_law 1429 = .ok (.aload_n 0, 1) := dk_42 (dk_at dksL_law_53 9 rfl rfl)
theorem dL_law_1430 : decode cL_law 1430 = .ok (.iload_n 3, 1) := dk_29 (dk_at dksL_law_53 10 rfl rfl)
theorem dL_law_1431 : decode cL_law 1431 = .ok (.iconst 1, 1) := dk_4 (dk_at dksL_law_53 11 rfl rfl)
theorem dL_law_1432 : decode cL_law 1432 = .ok (.iadd, 1) := dk_96 (dk_at dksL_law_53 12 rfl rfl)
theorem dL_law_1433 : decode cL_law 1433 = .ok (.iaload, 1) := dk_46 (dk_at dksL_law_53 13 rfl rfl)
theorem dL_law_1434 : decode cL_law 1434 = .ok (.invokevirtual 200, 3) := dk_182 0 200 (dk_at dksL_law_53 14 rfl rfl)
theorem dL_law_1437 : decode cL_law 1437 = .ok (.aload_n 2, 1) := dk_44 (dk_at dksL_law_53 17 rfl rfl)
theorem dL_law_1438 : decode cL_law 1438 = .ok (.aload_n 0, 1) := dk_42 (dk_at dksL_law_53 18 rfl rfl)
theorem dL_law_1439 : decode cL_law 1439 = .ok (.iload_n 3, 1) := dk_29 (dk_at dksL_law_53 19 rfl rfl)
theorem dL_law_1440 : decode cL_law 1440 = .ok (.iconst 1, 1) := dk_4 (dk_at dksL_law_53 20 rfl rfl)
theorem dL_law_1441 : decode cL_law 1441 = .ok (.iadd, 1) := dk_96 (dk_at dksL_law_53 21 rfl rfl)
theorem dL_law_1442 : decode cL_law 1442 = .ok (.iaload, 1) := dk_46 (dk_at dksL_law_53 22 rfl rfl)
theorem dL_law_1443 : decode cL_law 1443 = .ok (.invokevirtual 203, 3) := dk_182 0 203 (dk_at dksL_law_54 0 rfl rfl)
theorem dL_law_1446 : decode cL_law 1446 = .ok (.if_icmp .eq 64, 3) := dk_159 0 64 (dk_at dksL_law_54 3 rfl rfl)
theorem dL_law_1449 : decode cL_law 1449 = .ok (.iconst 0, 1) := dk_3 (dk_at dksL_law_54 6 rfl rfl)
theorem dL_law_1450 : decode cL_law 1450 = .ok (.ireturn, 1) := dk_172 (dk_at dksL_law_54 7 rfl rfl)
theorem dL_law_1451 : decode cL_law 1451 = .ok (.aload_n 1, 1) := dk_43 (dk_at dksL_law_54 8 rfl rfl)
theorem dL_law_1452 : decode cL_law 1452 = .ok (.aload_n 0, 1) := dk_42 (dk_at dksL_law_54 9 rfl rfl)
theorem dL_law_1453 : decode cL_law 1453 = .ok (.iload_n 3, 1) := dk_29 (dk_at dksL_law_54 10 rfl rfl)
theorem dL_law_1454 : decode cL_law 1454 = .ok (.iconst 1, 1) := dk_4 (dk_at dksL_law_54 11 rfl rfl)
theorem dL_law_1455 : decode cL_law 1455 = .ok (.iadd, 1) := dk_96 (dk_at dksL_law_54 12 rfl rfl)
theorem dL_law_1456 : decode cL_law 1456 = .ok (.iaload, 1) := dk_46 (dk_at dksL_law_54 13 rfl rfl)
theorem dL_law_1457 : decode cL_law 1457 = .ok (.aload_n 0, 1) := dk_42 (dk_at dksL_law_54 14 rfl rfl)
theorem dL_law_1458 : decode cL_law 1458 = .ok (.iload_n 3, 1) := dk_29 (dk_at dksL_law_54 15 rfl rfl)
theorem dL_law_1459 : decode cL_law 1459 = .ok (.iconst 2, 1) := dk_5 (dk_at dksL_law_54 16 rfl rfl)
theorem dL_law_1460 : decode cL_law 1460 = .ok (.iadd, 1) := dk_96 (dk_at dksL_law_54 17 rfl rfl)
theorem dL_law_1461 : decode cL_law 1461 = .ok (.iaload, 1) := dk_46 (dk_at dksL_law_54 18 rfl rfl)
theorem dL_law_1462 : decode cL_law 1462 = .ok (.invokevirtual 204, 3) := dk_182 0 204 (dk_at dksL_law_54 19 rfl rfl)
theorem dL_law_1465 : decode cL_law 1465 = .ok (.aload_n 2, 1) := dk_44 (dk_at dksL_law_54 22 rfl rfl)
theorem dL_law_1466 : decode cL_law 1466 = .ok (.aload_n 0, 1) := dk_42 (dk_at dksL_law_54 23 rfl rfl)
theorem dL_law_1467 : decode cL_law 1467 = .ok (.iload_n 3, 1) := dk_29 (dk_at dksL_law_55 0 rfl rfl)
theorem dL_law_1468 : decode cL_law 1468 = .ok (.iconst 1, 1) := dk_4 (dk_at dksL_law_55 1 rfl rfl)
theorem dL_law_1469 : decode cL_law 1469 = .ok (.iadd, 1) := dk_96 (dk_at dksL_law_55 2 rfl rfl)
theorem dL_law_1470 : decode cL_law 1470 = .ok (.iaload, 1) := dk_46 (dk_at dksL_law_55 3 rfl rfl)
theorem dL_law_1471 : decode cL_law 1471 = .ok (.aload_n 0, 1) := dk_42 (dk_at dksL_law_55 4 rfl rfl)
theorem dL_law_1472 : decode cL_law 1472 = .ok (.iload_n 3, 1) := dk_29 (dk_at dksL_law_55 5 rfl rfl)
theorem dL_law_1473 : decode cL_law 1473 = .ok (.iconst 2, 1) := dk_5 (dk_at dksL_law_55 6 rfl rfl)
theorem dL_law_1474 : decode cL_law 1474 = .ok (.iadd, 1) := dk_96 (dk_at dksL_law_55 7 rfl rfl)
theorem dL_law_1475 : decode cL_law 1475 = .ok (.iaload, 1) := dk_46 (dk_at dksL_law_55 8 rfl rfl)
theorem dL_law_1476 : decode cL_law 1476 = .ok (.invokevirtual 207, 3) := dk_182 0 207 (dk_at dksL_law_55 9 rfl rfl)
theorem dL_law_1479 : decode cL_law 1479 = .ok (.if_icmp .eq 31, 3) := dk_159 0 31 (dk_at dksL_law_55 12 rfl rfl)
theorem dL_law_1482 : decode cL_law 1482 = .ok (.iconst 0, 1) := dk_3 (dk_at dksL_law_55 15 rfl rfl)
theorem dL_law_1483 : decode cL_law 1483 = .ok (.ireturn, 1) := dk_172 (dk_at dksL_law_55 16 rfl rfl)
theorem dL_law_1484 : decode cL_law 1484 = .ok (.aload_n 1, 1) := dk_43 (dk_at dksL_law_55 17 rfl rfl)
theorem dL_law_1485 : decode cL_law 1485 = .ok (.invokevirtual 208, 3) := dk_182 0 208 (dk_at dksL_law_55 18 rfl rfl)
theorem dL_law_1488 : decode cL_law 1488 = .ok (.aload_n 2, 1) := dk_44 (dk_at dksL_law_55 21 rfl rfl)
theorem dL_law_1489 : decode cL_law 1489 = .ok (.invokevirtual 211, 3) := dk_182 0 211 (dk_at dksL_law_56 0 rfl rfl)
theorem dL_law_1492 : decode cL_law 1492 = .ok (.if_icmp .eq 18, 3) := dk_159 0 18 (dk_at dksL_law_56 3 rfl rfl)
theorem dL_law_1495 : decode cL_law 1495 = .ok (.iconst 0, 1) := dk_3 (dk_at dksL_law_56 6 rfl rfl)
theorem dL_law_1496 : decode cL_law 1496 = .ok (.ireturn, 1) := dk_172 (dk_at dksL_law_56 7 rfl rfl)
theorem dL_law_1497 : decode cL_law 1497 = .ok (.aload_n 1, 1) := dk_43 (dk_at dksL_law_56 8 rfl rfl)
theorem dL_law_1498 : decode cL_law 1498 = .ok (.invokevirtual 212, 3) := dk_182 0 212 (dk_at dksL_law_56 9 rfl rfl)
theorem dL_law_1501 : decode cL_law 1501 = .ok (.aload_n 2, 1) := dk_44 (dk_at dksL_law_56 12 rfl rfl)
theorem dL_law_1502 : decode cL_law 1502 = .ok (.invokevirtual 215, 3) := dk_182 0 215 (dk_at dksL_law_56 13 rfl rfl)
theorem dL_law_1505 : decode cL_law 1505 = .ok (.if_icmp .eq 5, 3) := dk_159 0 5 (dk_at dksL_law_56 16 rfl rfl)
theorem dL_law_1508 : decode cL_law 1508 = .ok (.iconst 0, 1) := dk_3 (dk_at dksL_law_56 19 rfl rfl)
theorem dL_law_1509 : decode cL_law 1509 = .ok (.ireturn, 1) := dk_172 (dk_at dksL_law_56 20 rfl rfl)
theorem dL_law_1510 : decode cL_law 1510 = .ok (.iinc 3 6, 3) := dk_132 3 6 (dk_at dksL_law_56 21 rfl rfl)
theorem dL_law_1513 : decode cL_law 1513 = .ok (.goto (-1495), 3) := dk_167 250 41 (dk_at dksL_law_57 0 rfl rfl)
theorem dL_law_1516 : decode cL_law 1516 = .ok (.iconst 1, 1) := dk_4 (dk_at dksL_law_57 3 rfl rfl)
theorem dL_law_1517 : decode cL_law 1517 = .ok (.ireturn, 1) := dk_172 (dk_at dksL_law_57 4 rfl rfl)
