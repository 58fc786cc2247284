/-! RingMeetsModel -/
set_option maxRecDepth 100000
def RX6 : String := "RingMeetsModel"
def TX6 : u_T := fun k => match k with
  | 0 => ("RingMeetsModel", "state", "[I", true)
  | 1 => ("RingMeetsModel", "images", "[I", true)
  | 2 => ("RingMeetsModel", "isKept", "[Z", true)
  | 3 => ("RingMeetsModel", "power", "[I", true)
  | 4 => ("RingMeetsModel", "next", "[I", true)
  | 5 => ("RingMeetsModel", "list", "[I", true)
  | 6 => ("RingMeetsModel", "listed", "I", false)
  | 7 => ("RingMeetsModel", "isListed", "[Z", true)
  | 8 => ("RingMeetsModel", "moves", "[I", true)
  | 9 => ("RingMeetsModel", "soon", "[I", true)
  | 10 => ("RingMeetsModel", "late", "[I", true)
  | 11 => ("RingMeetsModel", "usedRules", "I", false)
  | 12 => ("RingMeetsModel", "isBlind", "Z", false)
  | _ => ("RingMeetsModel", "come", "[I", true)
def tyX6 : Nat → FieldType := fun k => match k with
  | 0 => .array .int
  | 1 => .array .int
  | 2 => .array .boolean
  | 3 => .array .int
  | 4 => .array .int
  | 5 => .array .int
  | 6 => .int
  | 7 => .array .boolean
  | 8 => .array .int
  | 9 => .array .int
  | 10 => .array .int
  | 11 => .int
  | 12 => .boolean
  | _ => .array .int
abbrev wsX60 : List Cond := u_ws RX6 TX6 14
set_option maxRecDepth 100000 in
theorem nmX6 : ∀ a, a < 14 → ∀ b, b < 14 → a ≠ b → (TX6 a).2.1 ≠ (TX6 b).2.1 := by decide +kernel
set_option maxRecDepth 100000 in
theorem tyX6_ok : ∀ k, k < 14 → parseFieldDescriptor (TX6 k).2.2.1 = some (tyX6 k) := by decide +kernel
abbrev cX6_init : ByteArray := prog_16_method_1_code
def yX6_init : MethodName := ⟨RX6, "<init>", "()V"⟩
def dkwX6_init_5 : List UInt8 := [180, 0, 20, 27, 6, 42, 180, 0, 20, 27, 4, 100, 46, 104, 79, 132, 1, 1, 167, 255, 231, 177]
abbrev dktX6_init_5 : List UInt8 := dkwX6_init_5 ++ []
def dkwX6_init_4 : List UInt8 := [180, 0, 7, 3, 16, 8, 79, 42, 180, 0, 20, 3, 4, 79, 4, 60, 27, 16, 11, 162, 0, 25, 42]
abbrev dktX6_init_4 : List UInt8 := dkwX6_init_4 ++ dktX6_init_5
def dkwX6_init_3 : List UInt8 := [188, 10, 181, 0, 36, 42, 18, 26, 188, 10, 181, 0, 39, 42, 16, 10, 188, 10, 181, 0, 42, 42]
abbrev dktX6_init_3 : List UInt8 := dkwX6_init_3 ++ dktX6_init_4
def dkwX6_init_2 : List UInt8 := [188, 10, 181, 0, 27, 42, 18, 26, 188, 4, 181, 0, 30, 42, 18, 26, 188, 10, 181, 0, 33, 42, 18, 26]
abbrev dktX6_init_2 : List UInt8 := dkwX6_init_2 ++ dktX6_init_3
def dkwX6_init_1 : List UInt8 := [188, 4, 181, 0, 16, 42, 16, 11, 188, 10, 181, 0, 20, 42, 16, 10, 188, 10, 181, 0, 23, 42, 18, 26]
abbrev dktX6_init_1 : List UInt8 := dkwX6_init_1 ++ dktX6_init_2
def dkwX6_init_0 : List UInt8 := [42, 183, 0, 1, 42, 16, 72, 188, 10, 181, 0, 7, 42, 17, 0, 144, 188, 10, 181, 0, 13, 42, 5]
abbrev dktX6_init_0 : List UInt8 := dkwX6_init_0 ++ dktX6_init_1
theorem dksX6_init_0 : cX6_init.data.toList.drop 0 = dktX6_init_0 := by decide +kernel
theorem dksX6_init_1 : cX6_init.data.toList.drop 23 = dktX6_init_1 := dk_seg dksX6_init_0 23 rfl rfl
theorem dksX6_init_2 : cX6_init.data.toList.drop 47 = dktX6_init_2 := dk_seg dksX6_init_1 24 rfl rfl
theorem dksX6_init_3 : cX6_init.data.toList.drop 71 = dktX6_init_3 := dk_seg dksX6_init_2 24 rfl rfl
theorem dksX6_init_4 : cX6_init.data.toList.drop 93 = dktX6_init_4 := dk_seg dksX6_init_3 22 rfl rfl
theorem dksX6_init_5 : cX6_init.data.toList.drop 116 = dktX6_init_5 := dk_seg dksX6_init_4 23 rfl rfl
theorem dX6_init_0 : decode cX6_init 0 = .ok (.aload_n 0, 1) := dk_42 (dk_at dksX6_init_0 0 rfl rfl)
theorem dX6_init_1 : decode cX6_init 1 = .ok (.invokespecial 1, 3) := dk_183 0 1 (dk_at dksX6_init_0 1 rfl rfl)
theorem dX6_init_4 : decode cX6_init 4 = .ok (.aload_n 0, 1) := dk_42 (dk_at dksX6_init_0 4 rfl rfl)
theorem dX6_init_5 : decode cX6_init 5 = .ok (.bipush 72, 2) := dk_16 72 (dk_at dksX6_init_0 5 rfl rfl)
theorem dX6_init_7 : decode cX6_init 7 = .ok (.newarray .int, 2) := dk_188_10 (dk_at dksX6_init_0 7 rfl rfl)
theorem dX6_init_9 : decode cX6_init 9 = .ok (.putfield 7, 3) := dk_181 0 7 (dk_at dksX6_init_0 9 rfl rfl)
theorem dX6_init_12 : decode cX6_init 12 = .ok (.aload_n 0, 1) := dk_42 (dk_at dksX6_init_0 12 rfl rfl)
theorem dX6_init_13 : decode cX6_init 13 = .ok (.sipush 144, 3) := dk_17 0 144 (dk_at dksX6_init_0 13 rfl rfl)
theorem dX6_init_16 : decode cX6_init 16 = .ok (.newarray .int, 2) := dk_188_10 (dk_at dksX6_init_0 16 rfl rfl)
theorem dX6_init_18 : decode cX6_init 18 = .ok (.putfield 13, 3) := dk_181 0 13 (dk_at dksX6_init_0 18 rfl rfl)
theorem dX6_init_21 : decode cX6_init 21 = .ok (.aload_n 0, 1) := dk_42 (dk_at dksX6_init_0 21 rfl rfl)
theorem dX6_init_22 : decode cX6_init 22 = .ok (.iconst 2, 1) := dk_5 (dk_at dksX6_init_0 22 rfl rfl)
theorem dX6_init_23 : decode cX6_init 23 = .ok (.newarray .boolean, 2) := dk_188_4 (dk_at dksX6_init_1 0 rfl rfl)
theorem dX6_init_25 : decode cX6_init 25 = .ok (.putfield 16, 3) := dk_181 0 16 (dk_at dksX6_init_1 2 rfl rfl)
theorem dX6_init_28 : decode cX6_init 28 = .ok (.aload_n 0, 1) := dk_42 (dk_at dksX6_init_1 5 rfl rfl)
theorem dX6_init_29 : decode cX6_init 29 = .ok (.bipush 11, 2) := dk_16 11 (dk_at dksX6_init_1 6 rfl rfl)
theorem dX6_init_31 : decode cX6_init 31 = .ok (.newarray .int, 2) := dk_188_10 (dk_at dksX6_init_1 8 rfl rfl)
theorem dX6_init_33 : decode cX6_init 33 = .ok (.putfield 20, 3) := dk_181 0 20 (dk_at dksX6_init_1 10 rfl rfl)
theorem dX6_init_36 : decode cX6_init 36 = .ok (.aload_n 0, 1) := dk_42 (dk_at dksX6_init_1 13 rfl rfl)
theorem dX6_init_37 : decode cX6_init 37 = .ok (.bipush 10, 2) := dk_16 10 (dk_at dksX6_init_1 14 rfl rfl)
theorem dX6_init_39 : decode cX6_init 39 = .ok (.newarray .int, 2) := dk_188_10 (dk_at dksX6_init_1 16 rfl rfl)
theorem dX6_init_41 : decode cX6_init 41 = .ok (.putfield 23, 3) := dk_181 0 23 (dk_at dksX6_init_1 18 rfl rfl)
theorem dX6_init_44 : decode cX6_init 44 = .ok (.aload_n 0, 1) := dk_42 (dk_at dksX6_init_1 21 rfl rfl)
theorem dX6_init_45 : decode cX6_init 45 = .ok (.ldc 26, 2) := dk_18 26 (dk_at dksX6_init_1 22 rfl rfl)
theorem dX6_init_47 : decode cX6_init 47 = .ok (.newarray .int, 2) := dk_188_10 (dk_at dksX6_init_2 0 rfl rfl)
theorem dX6_init_49 : decode cX6_init 49 = .ok (.putfield 27, 3) := dk_181 0 27 (dk_at dksX6_init_2 2 rfl rfl)
theorem dX6_init_52 : decode cX6_init 52 = .ok (.aload_n 0, 1) := dk_42 (dk_at dksX6_init_2 5 rfl rfl)
theorem dX6_init_53 : decode cX6_init 53 = .ok (.ldc 26, 2) := dk_18 26 (dk_at dksX6_init_2 6 rfl rfl)
theorem dX6_init_55 : decode cX6_init 55 = .ok (.newarray .boolean, 2) := dk_188_4 (dk_at dksX6_init_2 8 rfl rfl)
theorem dX6_init_57 : decode cX6_init 57 = .ok (.putfield 30, 3) := dk_181 0 30 (dk_at dksX6_init_2 10 rfl rfl)
theorem dX6_init_60 : decode cX6_init 60 = .ok (.aload_n 0, 1) := dk_42 (dk_at dksX6_init_2 13 rfl rfl)
theorem dX6_init_61 : decode cX6_init 61 = .ok (.ldc 26, 2) := dk_18 26 (dk_at dksX6_init_2 14 rfl rfl)
theorem dX6_init_63 : decode cX6_init 63 = .ok (.newarray .int, 2) := dk_188_10 (dk_at dksX6_init_2 16 rfl rfl)
theorem dX6_init_65 : decode cX6_init 65 = .ok (.putfield 33, 3) := dk_181 0 33 (dk_at dksX6_init_2 18 rfl rfl)
theorem dX6_init_68 : decode cX6_init 68 = .ok (.aload_n 0, 1) := dk_42 (dk_at dksX6_init_2 21 rfl rfl)
theorem dX6_init_69 : decode cX6_init 69 = .ok (.ldc 26, 2) := dk_18 26 (dk_at dksX6_init_2 22 rfl rfl)
theorem dX6_init_71 : decode cX6_init 71 = .ok (.newarray .int, 2) := dk_188_10 (dk_at dksX6_init_3 0 rfl rfl)
theorem dX6_init_73 : decode cX6_init 73 = .ok (.putfield 36, 3) := dk_181 0 36 (dk_at dksX6_init_3 2 rfl rfl)
theorem dX6_init_76 : decode cX6_init 76 = .ok (.aload_n 0, 1) := dk_42 (dk_at dksX6_init_3 5 rfl rfl)
theorem dX6_init_77 : decode cX6_init 77 = .ok (.ldc 26, 2) := dk_18 26 (dk_at dksX6_init_3 6 rfl rfl)
theorem dX6_init_79 : decode cX6_init 79 = .ok (.newarray .int, 2) := dk_188_10 (dk_at dksX6_init_3 8 rfl rfl)
theorem dX6_init_81 : decode cX6_init 81 = .ok (.putfield 39, 3) := dk_181 0 39 (dk_at dksX6_init_3 10 rfl rfl)
theorem dX6_init_84 : decode cX6_init 84 = .ok (.aload_n 0, 1) := dk_42 (dk_at dksX6_init_3 13 rfl rfl)
theorem dX6_init_85 : decode cX6_init 85 = .ok (.bipush 10, 2) := dk_16 10 (dk_at dksX6_init_3 14 rfl rfl)
theorem dX6_init_87 : decode cX6_init 87 = .ok (.newarray .int, 2) := dk_188_10 (dk_at dksX6_init_3 16 rfl rfl)
theorem dX6_init_89 : decode cX6_init 89 = .ok (.putfield 42, 3) := dk_181 0 42 (dk_at dksX6_init_3 18 rfl rfl)
theorem dX6_init_92 : decode cX6_init 92 = .ok (.aload_n 0, 1) := dk_42 (dk_at dksX6_init_3 21 rfl rfl)
theorem dX6_init_93 : decode cX6_init 93 = .ok (.getfield 7, 3) := dk_180 0 7 (dk_at dksX6_init_4 0 rfl rfl)
theorem dX6_init_96 : decode cX6_init 96 = .ok (.iconst 0, 1) := dk_3 (dk_at dksX6_init_4 3 rfl rfl)
theorem dX6_init_97 : decode cX6_init 97 = .ok (.bipush 8, 2) := dk_16 8 (dk_at dksX6_init_4 4 rfl rfl)
theorem dX6_init_99 : decode cX6_init 99 = .ok (.iastore, 1) := dk_79 (dk_at dksX6_init_4 6 rfl rfl)
theorem dX6_init_100 : decode cX6_init 100 = .ok (.aload_n 0, 1) := dk_42 (dk_at dksX6_init_4 7 rfl rfl)
theorem dX6_init_101 : decode cX6_init 101 = .ok (.getfield 20, 3) := dk_180 0 20 (dk_at dksX6_init_4 8 rfl rfl)
theorem dX6_init_104 : decode cX6_init 104 = .ok (.iconst 0, 1) := dk_3 (dk_at dksX6_init_4 11 rfl rfl)
theorem dX6_init_105 : decode cX6_init 105 = .ok (.iconst 1, 1) := dk_4 (dk_at dksX6_init_4 12 rfl rfl)
theorem dX6_init_106 : decode cX6_init 106 = .ok (.iastore, 1) := dk_79 (dk_at dksX6_init_4 13 rfl rfl)
theorem dX6_init_107 : decode cX6_init 107 = .ok (.iconst 1, 1) := dk_4 (dk_at dksX6_init_4 14 rfl rfl)
theorem dX6_init_108 : decode cX6_init 108 = .ok (.istore_n 1, 1) := dk_60 (dk_at dksX6_init_4 15 rfl rfl)
theorem dX6_init_109 : decode cX6_init 109 = .ok (.iload_n 1, 1) := dk_27 (dk_at dksX6_init_4 16 rfl rfl)
theorem dX6_init_110 : decode cX6_init 110 = .ok (.bipush 11, 2) := dk_16 11 (dk_at dksX6_init_4 17 rfl rfl)
theorem dX6_init_112 : decode cX6_init 112 = .ok (.if_icmp .ge 25, 3) := dk_162 0 25 (dk_at dksX6_init_4 19 rfl rfl)
theorem dX6_init_115 : decode cX6_init 115 = .ok (.aload_n 0, 1) := dk_42 (dk_at dksX6_init_4 22 rfl rfl)
theorem dX6_init_116 : decode cX6_init 116 = .ok (.getfield 20, 3) := dk_180 0 20 (dk_at dksX6_init_5 0 rfl rfl)
theorem dX6_init_119 : decode cX6_init 119 = .ok (.iload_n 1, 1) := dk_27 (dk_at dksX6_init_5 3 rfl rfl)
theorem dX6_init_120 : decode cX6_init 120 = .ok (.iconst 3, 1) := dk_6 (dk_at dksX6_init_5 4 rfl rfl)
theorem dX6_init_121 : decode cX6_init 121 = .ok (.aload_n 0, 1) := dk_42 (dk_at dksX6_init_5 5 rfl rfl)
theorem dX6_init_122 : decode cX6_init 122 = .ok (.getfield 20, 3) := dk_180 0 20 (dk_at dksX6_init_5 6 rfl rfl)
theorem dX6_init_125 : decode cX6_init 125 = .ok (.iload_n 1, 1) := dk_27 (dk_at dksX6_init_5 9 rfl rfl)
theorem dX6_init_126 : decode cX6_init 126 = .ok (.iconst 1, 1) := dk_4 (dk_at dksX6_init_5 10 rfl rfl)
theorem dX6_init_127 : decode cX6_init 127 = .ok (.isub, 1) := dk_100 (dk_at dksX6_init_5 11 rfl rfl)
theorem dX6_init_128 : decode cX6_init 128 = .ok (.iaload, 1) := dk_46 (dk_at dksX6_init_5 12 rfl rfl)
theorem dX6_init_129 : decode cX6_init 129 = .ok (.imul, 1) := dk_104 (dk_at dksX6_init_5 13 rfl rfl)
theorem dX6_init_130 : decode cX6_init 130 = .ok (.iastore, 1) := dk_79 (dk_at dksX6_init_5 14 rfl rfl)
theorem dX6_init_131 : decode cX6_init 131 = .ok (.iinc 1 1, 3) := dk_132 1 1 (dk_at dksX6_init_5 15 rfl rfl)
theorem dX6_init_134 : decode cX6_init 134 = .ok (.goto (-25), 3) := dk_167 255 231 (dk_at dksX6_init_5 18 rfl rfl)
theorem dX6_init_137 : decode cX6_init 137 = .ok (.return_, 1) := dk_177 (dk_at dksX6_init_5 21 rfl rfl)
abbrev cX6_ring : ByteArray := prog_16_method_12_code
def yX6_ring : MethodName := ⟨RX6, "ring", "(I)I"⟩
def dkwX6_ring_2 : List UInt8 := [28, 172]
abbrev dktX6_ring_2 : List UInt8 := dkwX6_ring_2 ++ []
def dkwX6_ring_1 : List UInt8 := [79, 3, 62, 29, 16, 10, 162, 0, 18, 42, 180, 0, 7, 4, 29, 96, 3, 79, 132, 3, 1, 167, 255, 238]
abbrev dktX6_ring_1 : List UInt8 := dkwX6_ring_1 ++ dktX6_ring_2
def dkwX6_ring_0 : List UInt8 := [27, 6, 16, 10, 184, 0, 49, 154, 0, 6, 16, 254, 172, 42, 182, 0, 45, 61, 42, 180, 0, 7, 3, 27]
abbrev dktX6_ring_0 : List UInt8 := dkwX6_ring_0 ++ dktX6_ring_1
theorem dksX6_ring_0 : cX6_ring.data.toList.drop 0 = dktX6_ring_0 := by decide +kernel
theorem dksX6_ring_1 : cX6_ring.data.toList.drop 24 = dktX6_ring_1 := dk_seg dksX6_ring_0 24 rfl rfl
theorem dksX6_ring_2 : cX6_ring.data.toList.drop 48 = dktX6_ring_2 := dk_seg dksX6_ring_1 24 rfl rfl
theorem dX6_ring_0 : decode cX6_ring 0 = .ok (.iload_n 1, 1) := dk_27 (dk_at dksX6_ring_0 0 rfl rfl)
theorem dX6_ring_1 : decode cX6_ring 1 = .ok (.iconst 3, 1) := dk_6 (dk_at dksX6_ring_0 1 rfl rfl)
theorem dX6_ring_2 : decode cX6_ring 2 = .ok (.bipush 10, 2) := dk_16 10 (dk_at dksX6_ring_0 2 rfl rfl)
theorem dX6_ring_4 : decode cX6_ring 4 = .ok (.invokestatic 49, 3) := dk_184 0 49 (dk_at dksX6_ring_0 4 rfl rfl)
theorem dX6_ring_7 : decode cX6_ring 7 = .ok (.ifCond .ne 6, 3) := dk_154 0 6 (dk_at dksX6_ring_0 7 rfl rfl)
theorem dX6_ring_10 : decode cX6_ring 10 = .ok (.bipush (-2), 2) := dk_16 254 (dk_at dksX6_ring_0 10 rfl rfl)
theorem dX6_ring_12 : decode cX6_ring 12 = .ok (.ireturn, 1) := dk_172 (dk_at dksX6_ring_0 12 rfl rfl)
theorem dX6_ring_13 : decode cX6_ring 13 = .ok (.aload_n 0, 1) := dk_42 (dk_at dksX6_ring_0 13 rfl rfl)
theorem dX6_ring_14 : decode cX6_ring 14 = .ok (.invokevirtual 45, 3) := dk_182 0 45 (dk_at dksX6_ring_0 14 rfl rfl)
theorem dX6_ring_17 : decode cX6_ring 17 = .ok (.istore_n 2, 1) := dk_61 (dk_at dksX6_ring_0 17 rfl rfl)
theorem dX6_ring_18 : decode cX6_ring 18 = .ok (.aload_n 0, 1) := dk_42 (dk_at dksX6_ring_0 18 rfl rfl)
theorem dX6_ring_19 : decode cX6_ring 19 = .ok (.getfield 7, 3) := dk_180 0 7 (dk_at dksX6_ring_0 19 rfl rfl)
theorem dX6_ring_22 : decode cX6_ring 22 = .ok (.iconst 0, 1) := dk_3 (dk_at dksX6_ring_0 22 rfl rfl)
theorem dX6_ring_23 : decode cX6_ring 23 = .ok (.iload_n 1, 1) := dk_27 (dk_at dksX6_ring_0 23 rfl rfl)
theorem dX6_ring_24 : decode cX6_ring 24 = .ok (.iastore, 1) := dk_79 (dk_at dksX6_ring_1 0 rfl rfl)
theorem dX6_ring_25 : decode cX6_ring 25 = .ok (.iconst 0, 1) := dk_3 (dk_at dksX6_ring_1 1 rfl rfl)
theorem dX6_ring_26 : decode cX6_ring 26 = .ok (.istore_n 3, 1) := dk_62 (dk_at dksX6_ring_1 2 rfl rfl)
theorem dX6_ring_27 : decode cX6_ring 27 = .ok (.iload_n 3, 1) := dk_29 (dk_at dksX6_ring_1 3 rfl rfl)
theorem dX6_ring_28 : decode cX6_ring 28 = .ok (.bipush 10, 2) := dk_16 10 (dk_at dksX6_ring_1 4 rfl rfl)
theorem dX6_ring_30 : decode cX6_ring 30 = .ok (.if_icmp .ge 18, 3) := dk_162 0 18 (dk_at dksX6_ring_1 6 rfl rfl)
theorem dX6_ring_33 : decode cX6_ring 33 = .ok (.aload_n 0, 1) := dk_42 (dk_at dksX6_ring_1 9 rfl rfl)
theorem dX6_ring_34 : decode cX6_ring 34 = .ok (.getfield 7, 3) := dk_180 0 7 (dk_at dksX6_ring_1 10 rfl rfl)
theorem dX6_ring_37 : decode cX6_ring 37 = .ok (.iconst 1, 1) := dk_4 (dk_at dksX6_ring_1 13 rfl rfl)
theorem dX6_ring_38 : decode cX6_ring 38 = .ok (.iload_n 3, 1) := dk_29 (dk_at dksX6_ring_1 14 rfl rfl)
theorem dX6_ring_39 : decode cX6_ring 39 = .ok (.iadd, 1) := dk_96 (dk_at dksX6_ring_1 15 rfl rfl)
theorem dX6_ring_40 : decode cX6_ring 40 = .ok (.iconst 0, 1) := dk_3 (dk_at dksX6_ring_1 16 rfl rfl)
theorem dX6_ring_41 : decode cX6_ring 41 = .ok (.iastore, 1) := dk_79 (dk_at dksX6_ring_1 17 rfl rfl)
theorem dX6_ring_42 : decode cX6_ring 42 = .ok (.iinc 3 1, 3) := dk_132 3 1 (dk_at dksX6_ring_1 18 rfl rfl)
theorem dX6_ring_45 : decode cX6_ring 45 = .ok (.goto (-18), 3) := dk_167 255 238 (dk_at dksX6_ring_1 21 rfl rfl)
theorem dX6_ring_48 : decode cX6_ring 48 = .ok (.iload_n 2, 1) := dk_28 (dk_at dksX6_ring_2 0 rfl rfl)
theorem dX6_ring_49 : decode cX6_ring 49 = .ok (.ireturn, 1) := dk_172 (dk_at dksX6_ring_2 1 rfl rfl)
abbrev cX6_in : ByteArray := prog_16_method_2_code
def yX6_in : MethodName := ⟨RX6, "in", "(III)Z"⟩
def dkwX6_in_0 : List UInt8 := [26, 27, 161, 0, 12, 26, 28, 163, 0, 7, 4, 167, 0, 4, 3, 172]
abbrev dktX6_in_0 : List UInt8 := dkwX6_in_0 ++ []
theorem dksX6_in_0 : cX6_in.data.toList.drop 0 = dktX6_in_0 := by decide +kernel
theorem dX6_in_0 : decode cX6_in 0 = .ok (.iload_n 0, 1) := dk_26 (dk_at dksX6_in_0 0 rfl rfl)
theorem dX6_in_1 : decode cX6_in 1 = .ok (.iload_n 1, 1) := dk_27 (dk_at dksX6_in_0 1 rfl rfl)
theorem dX6_in_2 : decode cX6_in 2 = .ok (.if_icmp .lt 12, 3) := dk_161 0 12 (dk_at dksX6_in_0 2 rfl rfl)
theorem dX6_in_5 : decode cX6_in 5 = .ok (.iload_n 0, 1) := dk_26 (dk_at dksX6_in_0 5 rfl rfl)
theorem dX6_in_6 : decode cX6_in 6 = .ok (.iload_n 2, 1) := dk_28 (dk_at dksX6_in_0 6 rfl rfl)
theorem dX6_in_7 : decode cX6_in 7 = .ok (.if_icmp .gt 7, 3) := dk_163 0 7 (dk_at dksX6_in_0 7 rfl rfl)
theorem dX6_in_10 : decode cX6_in 10 = .ok (.iconst 1, 1) := dk_4 (dk_at dksX6_in_0 10 rfl rfl)
theorem dX6_in_11 : decode cX6_in 11 = .ok (.goto 4, 3) := dk_167 0 4 (dk_at dksX6_in_0 11 rfl rfl)
theorem dX6_in_14 : decode cX6_in 14 = .ok (.iconst 0, 1) := dk_3 (dk_at dksX6_in_0 14 rfl rfl)
theorem dX6_in_15 : decode cX6_in 15 = .ok (.ireturn, 1) := dk_172 (dk_at dksX6_in_0 15 rfl rfl)
abbrev cX6_cells : ByteArray := prog_16_method_3_code
def yX6_cells : MethodName := ⟨RX6, "cells", "()I"⟩
def dkwX6_cells_0 : List UInt8 := [42, 180, 0, 7, 3, 46, 172]
abbrev dktX6_cells_0 : List UInt8 := dkwX6_cells_0 ++ []
theorem dksX6_cells_0 : cX6_cells.data.toList.drop 0 = dktX6_cells_0 := by decide +kernel
theorem dX6_cells_0 : decode cX6_cells 0 = .ok (.aload_n 0, 1) := dk_42 (dk_at dksX6_cells_0 0 rfl rfl)
theorem dX6_cells_1 : decode cX6_cells 1 = .ok (.getfield 7, 3) := dk_180 0 7 (dk_at dksX6_cells_0 1 rfl rfl)
theorem dX6_cells_4 : decode cX6_cells 4 = .ok (.iconst 0, 1) := dk_3 (dk_at dksX6_cells_0 4 rfl rfl)
theorem dX6_cells_5 : decode cX6_cells 5 = .ok (.iaload, 1) := dk_46 (dk_at dksX6_cells_0 5 rfl rfl)
theorem dX6_cells_6 : decode cX6_cells 6 = .ok (.ireturn, 1) := dk_172 (dk_at dksX6_cells_0 6 rfl rfl)
abbrev cX6_stand : ByteArray := prog_16_method_13_code
def yX6_stand : MethodName := ⟨RX6, "stand", "(II)I"⟩
def dkwX6_stand_2 : List UInt8 := [180, 0, 7, 4, 27, 96, 28, 79, 29, 172]
abbrev dktX6_stand_2 : List UInt8 := dkwX6_stand_2 ++ []
def dkwX6_stand_1 : List UInt8 := [180, 0, 7, 4, 27, 96, 46, 62, 42, 182, 0, 57, 29, 100, 28, 96, 8, 164, 0, 6, 16, 252, 172, 42]
abbrev dktX6_stand_1 : List UInt8 := dkwX6_stand_1 ++ dktX6_stand_2
def dkwX6_stand_0 : List UInt8 := [42, 27, 182, 0, 53, 154, 0, 5, 2, 172, 28, 3, 8, 184, 0, 49, 154, 0, 6, 16, 254, 172, 42]
abbrev dktX6_stand_0 : List UInt8 := dkwX6_stand_0 ++ dktX6_stand_1
theorem dksX6_stand_0 : cX6_stand.data.toList.drop 0 = dktX6_stand_0 := by decide +kernel
theorem dksX6_stand_1 : cX6_stand.data.toList.drop 23 = dktX6_stand_1 := dk_seg dksX6_stand_0 23 rfl rfl
theorem dksX6_stand_2 : cX6_stand.data.toList.drop 47 = dktX6_stand_2 := dk_seg dksX6_stand_1 24 rfl rfl
theorem dX6_stand_0 : decode cX6_stand 0 = .ok (.aload_n 0, 1) := dk_42 (dk_at dksX6_stand_0 0 rfl rfl)
theorem dX6_stand_1 : decode cX6_stand 1 = .ok (.iload_n 1, 1) := dk_27 (dk_at dksX6_stand_0 1 rfl rfl)
theorem dX6_stand_2 : decode cX6_stand 2 = .ok (.invokevirtual 53, 3) := dk_182 0 53 (dk_at dksX6_stand_0 2 rfl rfl)
theorem dX6_stand_5 : decode cX6_stand 5 = .ok (.ifCond .ne 5, 3) := dk_154 0 5 (dk_at dksX6_stand_0 5 rfl rfl)
theorem dX6_stand_8 : decode cX6_stand 8 = .ok (.iconst (-1), 1) := dk_2 (dk_at dksX6_stand_0 8 rfl rfl)
theorem dX6_stand_9 : decode cX6_stand 9 = .ok (.ireturn, 1) := dk_172 (dk_at dksX6_stand_0 9 rfl rfl)
theorem dX6_stand_10 : decode cX6_stand 10 = .ok (.iload_n 2, 1) := dk_28 (dk_at dksX6_stand_0 10 rfl rfl)
theorem dX6_stand_11 : decode cX6_stand 11 = .ok (.iconst 0, 1) := dk_3 (dk_at dksX6_stand_0 11 rfl rfl)
theorem dX6_stand_12 : decode cX6_stand 12 = .ok (.iconst 5, 1) := dk_8 (dk_at dksX6_stand_0 12 rfl rfl)
theorem dX6_stand_13 : decode cX6_stand 13 = .ok (.invokestatic 49, 3) := dk_184 0 49 (dk_at dksX6_stand_0 13 rfl rfl)
theorem dX6_stand_16 : decode cX6_stand 16 = .ok (.ifCond .ne 6, 3) := dk_154 0 6 (dk_at dksX6_stand_0 16 rfl rfl)
theorem dX6_stand_19 : decode cX6_stand 19 = .ok (.bipush (-2), 2) := dk_16 254 (dk_at dksX6_stand_0 19 rfl rfl)
theorem dX6_stand_21 : decode cX6_stand 21 = .ok (.ireturn, 1) := dk_172 (dk_at dksX6_stand_0 21 rfl rfl)
theorem dX6_stand_22 : decode cX6_stand 22 = .ok (.aload_n 0, 1) := dk_42 (dk_at dksX6_stand_0 22 rfl rfl)
theorem dX6_stand_23 : decode cX6_stand 23 = .ok (.getfield 7, 3) := dk_180 0 7 (dk_at dksX6_stand_1 0 rfl rfl)
theorem dX6_stand_26 : decode cX6_stand 26 = .ok (.iconst 1, 1) := dk_4 (dk_at dksX6_stand_1 3 rfl rfl)
theorem dX6_stand_27 : decode cX6_stand 27 = .ok (.iload_n 1, 1) := dk_27 (dk_at dksX6_stand_1 4 rfl rfl)
theorem dX6_stand_28 : decode cX6_stand 28 = .ok (.iadd, 1) := dk_96 (dk_at dksX6_stand_1 5 rfl rfl)
theorem dX6_stand_29 : decode cX6_stand 29 = .ok (.iaload, 1) := dk_46 (dk_at dksX6_stand_1 6 rfl rfl)
theorem dX6_stand_30 : decode cX6_stand 30 = .ok (.istore_n 3, 1) := dk_62 (dk_at dksX6_stand_1 7 rfl rfl)
theorem dX6_stand_31 : decode cX6_stand 31 = .ok (.aload_n 0, 1) := dk_42 (dk_at dksX6_stand_1 8 rfl rfl)
theorem dX6_stand_32 : decode cX6_stand 32 = .ok (.invokevirtual 57, 3) := dk_182 0 57 (dk_at dksX6_stand_1 9 rfl rfl)
theorem dX6_stand_35 : decode cX6_stand 35 = .ok (.iload_n 3, 1) := dk_29 (dk_at dksX6_stand_1 12 rfl rfl)
theorem dX6_stand_36 : decode cX6_stand 36 = .ok (.isub, 1) := dk_100 (dk_at dksX6_stand_1 13 rfl rfl)
theorem dX6_stand_37 : decode cX6_stand 37 = .ok (.iload_n 2, 1) := dk_28 (dk_at dksX6_stand_1 14 rfl rfl)
theorem dX6_stand_38 : decode cX6_stand 38 = .ok (.iadd, 1) := dk_96 (dk_at dksX6_stand_1 15 rfl rfl)
theorem dX6_stand_39 : decode cX6_stand 39 = .ok (.iconst 5, 1) := dk_8 (dk_at dksX6_stand_1 16 rfl rfl)
theorem dX6_stand_40 : decode cX6_stand 40 = .ok (.if_icmp .le 6, 3) := dk_164 0 6 (dk_at dksX6_stand_1 17 rfl rfl)
theorem dX6_stand_43 : decode cX6_stand 43 = .ok (.bipush (-4), 2) := dk_16 252 (dk_at dksX6_stand_1 20 rfl rfl)
theorem dX6_stand_45 : decode cX6_stand 45 = .ok (.ireturn, 1) := dk_172 (dk_at dksX6_stand_1 22 rfl rfl)
theorem dX6_stand_46 : decode cX6_stand 46 = .ok (.aload_n 0, 1) := dk_42 (dk_at dksX6_stand_1 23 rfl rfl)
theorem dX6_stand_47 : decode cX6_stand 47 = .ok (.getfield 7, 3) := dk_180 0 7 (dk_at dksX6_stand_2 0 rfl rfl)
theorem dX6_stand_50 : decode cX6_stand 50 = .ok (.iconst 1, 1) := dk_4 (dk_at dksX6_stand_2 3 rfl rfl)
theorem dX6_stand_51 : decode cX6_stand 51 = .ok (.iload_n 1, 1) := dk_27 (dk_at dksX6_stand_2 4 rfl rfl)
theorem dX6_stand_52 : decode cX6_stand 52 = .ok (.iadd, 1) := dk_96 (dk_at dksX6_stand_2 5 rfl rfl)
theorem dX6_stand_53 : decode cX6_stand 53 = .ok (.iload_n 2, 1) := dk_28 (dk_at dksX6_stand_2 6 rfl rfl)
theorem dX6_stand_54 : decode cX6_stand 54 = .ok (.iastore, 1) := dk_79 (dk_at dksX6_stand_2 7 rfl rfl)
theorem dX6_stand_55 : decode cX6_stand 55 = .ok (.iload_n 3, 1) := dk_29 (dk_at dksX6_stand_2 8 rfl rfl)
theorem dX6_stand_56 : decode cX6_stand 56 = .ok (.ireturn, 1) := dk_172 (dk_at dksX6_stand_2 9 rfl rfl)
abbrev cX6_isCell : ByteArray := prog_16_method_4_code
def yX6_isCell : MethodName := ⟨RX6, "isCell", "(I)Z"⟩
def dkwX6_isCell_0 : List UInt8 := [27, 3, 42, 182, 0, 45, 4, 100, 184, 0, 49, 172]
abbrev dktX6_isCell_0 : List UInt8 := dkwX6_isCell_0 ++ []
theorem dksX6_isCell_0 : cX6_isCell.data.toList.drop 0 = dktX6_isCell_0 := by decide +kernel
theorem dX6_isCell_0 : decode cX6_isCell 0 = .ok (.iload_n 1, 1) := dk_27 (dk_at dksX6_isCell_0 0 rfl rfl)
theorem dX6_isCell_1 : decode cX6_isCell 1 = .ok (.iconst 0, 1) := dk_3 (dk_at dksX6_isCell_0 1 rfl rfl)
theorem dX6_isCell_2 : decode cX6_isCell 2 = .ok (.aload_n 0, 1) := dk_42 (dk_at dksX6_isCell_0 2 rfl rfl)
theorem dX6_isCell_3 : decode cX6_isCell 3 = .ok (.invokevirtual 45, 3) := dk_182 0 45 (dk_at dksX6_isCell_0 3 rfl rfl)
theorem dX6_isCell_6 : decode cX6_isCell 6 = .ok (.iconst 1, 1) := dk_4 (dk_at dksX6_isCell_0 6 rfl rfl)
theorem dX6_isCell_7 : decode cX6_isCell 7 = .ok (.isub, 1) := dk_100 (dk_at dksX6_isCell_0 7 rfl rfl)
theorem dX6_isCell_8 : decode cX6_isCell 8 = .ok (.invokestatic 49, 3) := dk_184 0 49 (dk_at dksX6_isCell_0 8 rfl rfl)
theorem dX6_isCell_11 : decode cX6_isCell 11 = .ok (.ireturn, 1) := dk_172 (dk_at dksX6_isCell_0 11 rfl rfl)
abbrev cX6_walkers : ByteArray := prog_16_method_8_code
def yX6_walkers : MethodName := ⟨RX6, "walkers", "()I"⟩
def dkwX6_walkers_1 : List UInt8 := [167, 255, 236, 27, 172]
abbrev dktX6_walkers_1 : List UInt8 := dkwX6_walkers_1 ++ []
def dkwX6_walkers_0 : List UInt8 := [3, 60, 3, 61, 28, 16, 10, 162, 0, 20, 27, 42, 180, 0, 7, 4, 28, 96, 46, 96, 60, 132, 2, 1]
abbrev dktX6_walkers_0 : List UInt8 := dkwX6_walkers_0 ++ dktX6_walkers_1
theorem dksX6_walkers_0 : cX6_walkers.data.toList.drop 0 = dktX6_walkers_0 := by decide +kernel
theorem dksX6_walkers_1 : cX6_walkers.data.toList.drop 24 = dktX6_walkers_1 := dk_seg dksX6_walkers_0 24 rfl rfl
theorem dX6_walkers_0 : decode cX6_walkers 0 = .ok (.iconst 0, 1) := dk_3 (dk_at dksX6_walkers_0 0 rfl rfl)
theorem dX6_walkers_1 : decode cX6_walkers 1 = .ok (.istore_n 1, 1) := dk_60 (dk_at dksX6_walkers_0 1 rfl rfl)
theorem dX6_walkers_2 : decode cX6_walkers 2 = .ok (.iconst 0, 1) := dk_3 (dk_at dksX6_walkers_0 2 rfl rfl)
theorem dX6_walkers_3 : decode cX6_walkers 3 = .ok (.istore_n 2, 1) := dk_61 (dk_at dksX6_walkers_0 3 rfl rfl)
theorem dX6_walkers_4 : decode cX6_walkers 4 = .ok (.iload_n 2, 1) := dk_28 (dk_at dksX6_walkers_0 4 rfl rfl)
theorem dX6_walkers_5 : decode cX6_walkers 5 = .ok (.bipush 10, 2) := dk_16 10 (dk_at dksX6_walkers_0 5 rfl rfl)
theorem dX6_walkers_7 : decode cX6_walkers 7 = .ok (.if_icmp .ge 20, 3) := dk_162 0 20 (dk_at dksX6_walkers_0 7 rfl rfl)
theorem dX6_walkers_10 : decode cX6_walkers 10 = .ok (.iload_n 1, 1) := dk_27 (dk_at dksX6_walkers_0 10 rfl rfl)
theorem dX6_walkers_11 : decode cX6_walkers 11 = .ok (.aload_n 0, 1) := dk_42 (dk_at dksX6_walkers_0 11 rfl rfl)
theorem dX6_walkers_12 : decode cX6_walkers 12 = .ok (.getfield 7, 3) := dk_180 0 7 (dk_at dksX6_walkers_0 12 rfl rfl)
theorem dX6_walkers_15 : decode cX6_walkers 15 = .ok (.iconst 1, 1) := dk_4 (dk_at dksX6_walkers_0 15 rfl rfl)
theorem dX6_walkers_16 : decode cX6_walkers 16 = .ok (.iload_n 2, 1) := dk_28 (dk_at dksX6_walkers_0 16 rfl rfl)
theorem dX6_walkers_17 : decode cX6_walkers 17 = .ok (.iadd, 1) := dk_96 (dk_at dksX6_walkers_0 17 rfl rfl)
theorem dX6_walkers_18 : decode cX6_walkers 18 = .ok (.iaload, 1) := dk_46 (dk_at dksX6_walkers_0 18 rfl rfl)
theorem dX6_walkers_19 : decode cX6_walkers 19 = .ok (.iadd, 1) := dk_96 (dk_at dksX6_walkers_0 19 rfl rfl)
theorem dX6_walkers_20 : decode cX6_walkers 20 = .ok (.istore_n 1, 1) := dk_60 (dk_at dksX6_walkers_0 20 rfl rfl)
theorem dX6_walkers_21 : decode cX6_walkers 21 = .ok (.iinc 2 1, 3) := dk_132 2 1 (dk_at dksX6_walkers_0 21 rfl rfl)
theorem dX6_walkers_24 : decode cX6_walkers 24 = .ok (.goto (-20), 3) := dk_167 255 236 (dk_at dksX6_walkers_1 0 rfl rfl)
theorem dX6_walkers_27 : decode cX6_walkers 27 = .ok (.iload_n 1, 1) := dk_27 (dk_at dksX6_walkers_1 3 rfl rfl)
theorem dX6_walkers_28 : decode cX6_walkers 28 = .ok (.ireturn, 1) := dk_172 (dk_at dksX6_walkers_1 4 rfl rfl)
abbrev cX6_gap : ByteArray := prog_16_method_19_code
def yX6_gap : MethodName := ⟨RX6, "gap", "(III)I"⟩
def dkwX6_gap_4 : List UInt8 := [167, 0, 5, 16, 250, 172]
abbrev dktX6_gap_4 : List UInt8 := dkwX6_gap_4 ++ []
def dkwX6_gap_3 : List UInt8 := [54, 6, 29, 3, 21, 5, 4, 100, 184, 0, 49, 153, 0, 16, 42, 21, 4, 27, 21, 6, 29, 182, 0, 72]
abbrev dktX6_gap_3 : List UInt8 := dkwX6_gap_3 ++ dktX6_gap_4
def dkwX6_gap_2 : List UInt8 := [154, 0, 7, 4, 167, 0, 19, 28, 4, 160, 0, 7, 2, 167, 0, 10, 42, 21, 4, 27, 182, 0, 89]
abbrev dktX6_gap_2 : List UInt8 := dkwX6_gap_2 ++ dktX6_gap_3
def dkwX6_gap_1 : List UInt8 := [182, 0, 83, 182, 0, 86, 54, 4, 21, 4, 184, 0, 68, 54, 5, 29, 2, 160, 0, 6, 21, 5, 172, 28]
abbrev dktX6_gap_1 : List UInt8 := dkwX6_gap_1 ++ dktX6_gap_2
def dkwX6_gap_0 : List UInt8 := [42, 27, 182, 0, 80, 154, 0, 5, 2, 172, 28, 3, 5, 184, 0, 49, 154, 0, 6, 16, 254, 172, 42, 42]
abbrev dktX6_gap_0 : List UInt8 := dkwX6_gap_0 ++ dktX6_gap_1
theorem dksX6_gap_0 : cX6_gap.data.toList.drop 0 = dktX6_gap_0 := by decide +kernel
theorem dksX6_gap_1 : cX6_gap.data.toList.drop 24 = dktX6_gap_1 := dk_seg dksX6_gap_0 24 rfl rfl
theorem dksX6_gap_2 : cX6_gap.data.toList.drop 48 = dktX6_gap_2 := dk_seg dksX6_gap_1 24 rfl rfl
theorem dksX6_gap_3 : cX6_gap.data.toList.drop 71 = dktX6_gap_3 := dk_seg dksX6_gap_2 23 rfl rfl
theorem dksX6_gap_4 : cX6_gap.data.toList.drop 95 = dktX6_gap_4 := dk_seg dksX6_gap_3 24 rfl rfl
theorem dX6_gap_0 : decode cX6_gap 0 = .ok (.aload_n 0, 1) := dk_42 (dk_at dksX6_gap_0 0 rfl rfl)
theorem dX6_gap_1 : decode cX6_gap 1 = .ok (.iload_n 1, 1) := dk_27 (dk_at dksX6_gap_0 1 rfl rfl)
theorem dX6_gap_2 : decode cX6_gap 2 = .ok (.invokevirtual 80, 3) := dk_182 0 80 (dk_at dksX6_gap_0 2 rfl rfl)
theorem dX6_gap_5 : decode cX6_gap 5 = .ok (.ifCond .ne 5, 3) := dk_154 0 5 (dk_at dksX6_gap_0 5 rfl rfl)
theorem dX6_gap_8 : decode cX6_gap 8 = .ok (.iconst (-1), 1) := dk_2 (dk_at dksX6_gap_0 8 rfl rfl)
theorem dX6_gap_9 : decode cX6_gap 9 = .ok (.ireturn, 1) := dk_172 (dk_at dksX6_gap_0 9 rfl rfl)
theorem dX6_gap_10 : decode cX6_gap 10 = .ok (.iload_n 2, 1) := dk_28 (dk_at dksX6_gap_0 10 rfl rfl)
theorem dX6_gap_11 : decode cX6_gap 11 = .ok (.iconst 0, 1) := dk_3 (dk_at dksX6_gap_0 11 rfl rfl)
theorem dX6_gap_12 : decode cX6_gap 12 = .ok (.iconst 2, 1) := dk_5 (dk_at dksX6_gap_0 12 rfl rfl)
theorem dX6_gap_13 : decode cX6_gap 13 = .ok (.invokestatic 49, 3) := dk_184 0 49 (dk_at dksX6_gap_0 13 rfl rfl)
theorem dX6_gap_16 : decode cX6_gap 16 = .ok (.ifCond .ne 6, 3) := dk_154 0 6 (dk_at dksX6_gap_0 16 rfl rfl)
theorem dX6_gap_19 : decode cX6_gap 19 = .ok (.bipush (-2), 2) := dk_16 254 (dk_at dksX6_gap_0 19 rfl rfl)
theorem dX6_gap_21 : decode cX6_gap 21 = .ok (.ireturn, 1) := dk_172 (dk_at dksX6_gap_0 21 rfl rfl)
theorem dX6_gap_22 : decode cX6_gap 22 = .ok (.aload_n 0, 1) := dk_42 (dk_at dksX6_gap_0 22 rfl rfl)
theorem dX6_gap_23 : decode cX6_gap 23 = .ok (.aload_n 0, 1) := dk_42 (dk_at dksX6_gap_0 23 rfl rfl)
theorem dX6_gap_24 : decode cX6_gap 24 = .ok (.invokevirtual 83, 3) := dk_182 0 83 (dk_at dksX6_gap_1 0 rfl rfl)
theorem dX6_gap_27 : decode cX6_gap 27 = .ok (.invokevirtual 86, 3) := dk_182 0 86 (dk_at dksX6_gap_1 3 rfl rfl)
theorem dX6_gap_30 : decode cX6_gap 30 = .ok (.istore 4, 2) := dk_54 4 (dk_at dksX6_gap_1 6 rfl rfl)
theorem dX6_gap_32 : decode cX6_gap 32 = .ok (.iload 4, 2) := dk_21 4 (dk_at dksX6_gap_1 8 rfl rfl)
theorem dX6_gap_34 : decode cX6_gap 34 = .ok (.invokestatic 68, 3) := dk_184 0 68 (dk_at dksX6_gap_1 10 rfl rfl)
theorem dX6_gap_37 : decode cX6_gap 37 = .ok (.istore 5, 2) := dk_54 5 (dk_at dksX6_gap_1 13 rfl rfl)
theorem dX6_gap_39 : decode cX6_gap 39 = .ok (.iload_n 3, 1) := dk_29 (dk_at dksX6_gap_1 15 rfl rfl)
theorem dX6_gap_40 : decode cX6_gap 40 = .ok (.iconst (-1), 1) := dk_2 (dk_at dksX6_gap_1 16 rfl rfl)
theorem dX6_gap_41 : decode cX6_gap 41 = .ok (.if_icmp .ne 6, 3) := dk_160 0 6 (dk_at dksX6_gap_1 17 rfl rfl)
theorem dX6_gap_44 : decode cX6_gap 44 = .ok (.iload 5, 2) := dk_21 5 (dk_at dksX6_gap_1 20 rfl rfl)
theorem dX6_gap_46 : decode cX6_gap 46 = .ok (.ireturn, 1) := dk_172 (dk_at dksX6_gap_1 22 rfl rfl)
theorem dX6_gap_47 : decode cX6_gap 47 = .ok (.iload_n 2, 1) := dk_28 (dk_at dksX6_gap_1 23 rfl rfl)
theorem dX6_gap_48 : decode cX6_gap 48 = .ok (.ifCond .ne 7, 3) := dk_154 0 7 (dk_at dksX6_gap_2 0 rfl rfl)
theorem dX6_gap_51 : decode cX6_gap 51 = .ok (.iconst 1, 1) := dk_4 (dk_at dksX6_gap_2 3 rfl rfl)
theorem dX6_gap_52 : decode cX6_gap 52 = .ok (.goto 19, 3) := dk_167 0 19 (dk_at dksX6_gap_2 4 rfl rfl)
theorem dX6_gap_55 : decode cX6_gap 55 = .ok (.iload_n 2, 1) := dk_28 (dk_at dksX6_gap_2 7 rfl rfl)
theorem dX6_gap_56 : decode cX6_gap 56 = .ok (.iconst 1, 1) := dk_4 (dk_at dksX6_gap_2 8 rfl rfl)
theorem dX6_gap_57 : decode cX6_gap 57 = .ok (.if_icmp .ne 7, 3) := dk_160 0 7 (dk_at dksX6_gap_2 9 rfl rfl)
theorem dX6_gap_60 : decode cX6_gap 60 = .ok (.iconst (-1), 1) := dk_2 (dk_at dksX6_gap_2 12 rfl rfl)
theorem dX6_gap_61 : decode cX6_gap 61 = .ok (.goto 10, 3) := dk_167 0 10 (dk_at dksX6_gap_2 13 rfl rfl)
theorem dX6_gap_64 : decode cX6_gap 64 = .ok (.aload_n 0, 1) := dk_42 (dk_at dksX6_gap_2 16 rfl rfl)
theorem dX6_gap_65 : decode cX6_gap 65 = .ok (.iload 4, 2) := dk_21 4 (dk_at dksX6_gap_2 17 rfl rfl)
theorem dX6_gap_67 : decode cX6_gap 67 = .ok (.iload_n 1, 1) := dk_27 (dk_at dksX6_gap_2 19 rfl rfl)
theorem dX6_gap_68 : decode cX6_gap 68 = .ok (.invokevirtual 89, 3) := dk_182 0 89 (dk_at dksX6_gap_2 20 rfl rfl)
theorem dX6_gap_71 : decode cX6_gap 71 = .ok (.istore 6, 2) := dk_54 6 (dk_at dksX6_gap_3 0 rfl rfl)
theorem dX6_gap_73 : decode cX6_gap 73 = .ok (.iload_n 3, 1) := dk_29 (dk_at dksX6_gap_3 2 rfl rfl)
theorem dX6_gap_74 : decode cX6_gap 74 = .ok (.iconst 0, 1) := dk_3 (dk_at dksX6_gap_3 3 rfl rfl)
theorem dX6_gap_75 : decode cX6_gap 75 = .ok (.iload 5, 2) := dk_21 5 (dk_at dksX6_gap_3 4 rfl rfl)
theorem dX6_gap_77 : decode cX6_gap 77 = .ok (.iconst 1, 1) := dk_4 (dk_at dksX6_gap_3 6 rfl rfl)
theorem dX6_gap_78 : decode cX6_gap 78 = .ok (.isub, 1) := dk_100 (dk_at dksX6_gap_3 7 rfl rfl)
theorem dX6_gap_79 : decode cX6_gap 79 = .ok (.invokestatic 49, 3) := dk_184 0 49 (dk_at dksX6_gap_3 8 rfl rfl)
theorem dX6_gap_82 : decode cX6_gap 82 = .ok (.ifCond .eq 16, 3) := dk_153 0 16 (dk_at dksX6_gap_3 11 rfl rfl)
theorem dX6_gap_85 : decode cX6_gap 85 = .ok (.aload_n 0, 1) := dk_42 (dk_at dksX6_gap_3 14 rfl rfl)
theorem dX6_gap_86 : decode cX6_gap 86 = .ok (.iload 4, 2) := dk_21 4 (dk_at dksX6_gap_3 15 rfl rfl)
theorem dX6_gap_88 : decode cX6_gap 88 = .ok (.iload_n 1, 1) := dk_27 (dk_at dksX6_gap_3 17 rfl rfl)
theorem dX6_gap_89 : decode cX6_gap 89 = .ok (.iload 6, 2) := dk_21 6 (dk_at dksX6_gap_3 18 rfl rfl)
theorem dX6_gap_91 : decode cX6_gap 91 = .ok (.iload_n 3, 1) := dk_29 (dk_at dksX6_gap_3 20 rfl rfl)
theorem dX6_gap_92 : decode cX6_gap 92 = .ok (.invokevirtual 72, 3) := dk_182 0 72 (dk_at dksX6_gap_3 21 rfl rfl)
theorem dX6_gap_95 : decode cX6_gap 95 = .ok (.goto 5, 3) := dk_167 0 5 (dk_at dksX6_gap_4 0 rfl rfl)
theorem dX6_gap_98 : decode cX6_gap 98 = .ok (.bipush (-6), 2) := dk_16 250 (dk_at dksX6_gap_4 3 rfl rfl)
theorem dX6_gap_100 : decode cX6_gap 100 = .ok (.ireturn, 1) := dk_172 (dk_at dksX6_gap_4 5 rfl rfl)
abbrev cX6_isStand : ByteArray := prog_16_method_5_code
def yX6_isStand : MethodName := ⟨RX6, "isStand", "(I)Z"⟩
def dkwX6_isStand_1 : List UInt8 := [172]
abbrev dktX6_isStand_1 : List UInt8 := dkwX6_isStand_1 ++ []
def dkwX6_isStand_0 : List UInt8 := [42, 27, 182, 0, 53, 153, 0, 18, 42, 180, 0, 7, 4, 27, 96, 46, 158, 0, 7, 4, 167, 0, 4, 3]
abbrev dktX6_isStand_0 : List UInt8 := dkwX6_isStand_0 ++ dktX6_isStand_1
theorem dksX6_isStand_0 : cX6_isStand.data.toList.drop 0 = dktX6_isStand_0 := by decide +kernel
theorem dksX6_isStand_1 : cX6_isStand.data.toList.drop 24 = dktX6_isStand_1 := dk_seg dksX6_isStand_0 24 rfl rfl
theorem dX6_isStand_0 : decode cX6_isStand 0 = .ok (.aload_n 0, 1) := dk_42 (dk_at dksX6_isStand_0 0 rfl rfl)
theorem dX6_isStand_1 : decode cX6_isStand 1 = .ok (.iload_n 1, 1) := dk_27 (dk_at dksX6_isStand_0 1 rfl rfl)
theorem dX6_isStand_2 : decode cX6_isStand 2 = .ok (.invokevirtual 53, 3) := dk_182 0 53 (dk_at dksX6_isStand_0 2 rfl rfl)
theorem dX6_isStand_5 : decode cX6_isStand 5 = .ok (.ifCond .eq 18, 3) := dk_153 0 18 (dk_at dksX6_isStand_0 5 rfl rfl)
theorem dX6_isStand_8 : decode cX6_isStand 8 = .ok (.aload_n 0, 1) := dk_42 (dk_at dksX6_isStand_0 8 rfl rfl)
theorem dX6_isStand_9 : decode cX6_isStand 9 = .ok (.getfield 7, 3) := dk_180 0 7 (dk_at dksX6_isStand_0 9 rfl rfl)
theorem dX6_isStand_12 : decode cX6_isStand 12 = .ok (.iconst 1, 1) := dk_4 (dk_at dksX6_isStand_0 12 rfl rfl)
theorem dX6_isStand_13 : decode cX6_isStand 13 = .ok (.iload_n 1, 1) := dk_27 (dk_at dksX6_isStand_0 13 rfl rfl)
theorem dX6_isStand_14 : decode cX6_isStand 14 = .ok (.iadd, 1) := dk_96 (dk_at dksX6_isStand_0 14 rfl rfl)
theorem dX6_isStand_15 : decode cX6_isStand 15 = .ok (.iaload, 1) := dk_46 (dk_at dksX6_isStand_0 15 rfl rfl)
theorem dX6_isStand_16 : decode cX6_isStand 16 = .ok (.ifCond .le 7, 3) := dk_158 0 7 (dk_at dksX6_isStand_0 16 rfl rfl)
theorem dX6_isStand_19 : decode cX6_isStand 19 = .ok (.iconst 1, 1) := dk_4 (dk_at dksX6_isStand_0 19 rfl rfl)
theorem dX6_isStand_20 : decode cX6_isStand 20 = .ok (.goto 4, 3) := dk_167 0 4 (dk_at dksX6_isStand_0 20 rfl rfl)
theorem dX6_isStand_23 : decode cX6_isStand 23 = .ok (.iconst 0, 1) := dk_3 (dk_at dksX6_isStand_0 23 rfl rfl)
theorem dX6_isStand_24 : decode cX6_isStand 24 = .ok (.ireturn, 1) := dk_172 (dk_at dksX6_isStand_1 0 rfl rfl)
abbrev cX6_now : ByteArray := prog_16_method_10_code
def yX6_now : MethodName := ⟨RX6, "now", "()I"⟩
def dkwX6_now_2 : List UInt8 := [27, 172]
abbrev dktX6_now_2 : List UInt8 := dkwX6_now_2 ++ []
def dkwX6_now_1 : List UInt8 := [180, 0, 20, 28, 46, 29, 4, 164, 0, 7, 5, 167, 0, 4, 29, 104, 96, 60, 132, 2, 1, 167, 255, 216]
abbrev dktX6_now_1 : List UInt8 := dkwX6_now_1 ++ dktX6_now_2
def dkwX6_now_0 : List UInt8 := [3, 60, 3, 61, 28, 42, 182, 0, 45, 162, 0, 38, 42, 180, 0, 7, 4, 28, 96, 46, 62, 27, 42]
abbrev dktX6_now_0 : List UInt8 := dkwX6_now_0 ++ dktX6_now_1
theorem dksX6_now_0 : cX6_now.data.toList.drop 0 = dktX6_now_0 := by decide +kernel
theorem dksX6_now_1 : cX6_now.data.toList.drop 23 = dktX6_now_1 := dk_seg dksX6_now_0 23 rfl rfl
theorem dksX6_now_2 : cX6_now.data.toList.drop 47 = dktX6_now_2 := dk_seg dksX6_now_1 24 rfl rfl
theorem dX6_now_0 : decode cX6_now 0 = .ok (.iconst 0, 1) := dk_3 (dk_at dksX6_now_0 0 rfl rfl)
theorem dX6_now_1 : decode cX6_now 1 = .ok (.istore_n 1, 1) := dk_60 (dk_at dksX6_now_0 1 rfl rfl)
theorem dX6_now_2 : decode cX6_now 2 = .ok (.iconst 0, 1) := dk_3 (dk_at dksX6_now_0 2 rfl rfl)
theorem dX6_now_3 : decode cX6_now 3 = .ok (.istore_n 2, 1) := dk_61 (dk_at dksX6_now_0 3 rfl rfl)
theorem dX6_now_4 : decode cX6_now 4 = .ok (.iload_n 2, 1) := dk_28 (dk_at dksX6_now_0 4 rfl rfl)
theorem dX6_now_5 : decode cX6_now 5 = .ok (.aload_n 0, 1) := dk_42 (dk_at dksX6_now_0 5 rfl rfl)
theorem dX6_now_6 : decode cX6_now 6 = .ok (.invokevirtual 45, 3) := dk_182 0 45 (dk_at dksX6_now_0 6 rfl rfl)
theorem dX6_now_9 : decode cX6_now 9 = .ok (.if_icmp .ge 38, 3) := dk_162 0 38 (dk_at dksX6_now_0 9 rfl rfl)
theorem dX6_now_12 : decode cX6_now 12 = .ok (.aload_n 0, 1) := dk_42 (dk_at dksX6_now_0 12 rfl rfl)
theorem dX6_now_13 : decode cX6_now 13 = .ok (.getfield 7, 3) := dk_180 0 7 (dk_at dksX6_now_0 13 rfl rfl)
theorem dX6_now_16 : decode cX6_now 16 = .ok (.iconst 1, 1) := dk_4 (dk_at dksX6_now_0 16 rfl rfl)
theorem dX6_now_17 : decode cX6_now 17 = .ok (.iload_n 2, 1) := dk_28 (dk_at dksX6_now_0 17 rfl rfl)
theorem dX6_now_18 : decode cX6_now 18 = .ok (.iadd, 1) := dk_96 (dk_at dksX6_now_0 18 rfl rfl)
theorem dX6_now_19 : decode cX6_now 19 = .ok (.iaload, 1) := dk_46 (dk_at dksX6_now_0 19 rfl rfl)
theorem dX6_now_20 : decode cX6_now 20 = .ok (.istore_n 3, 1) := dk_62 (dk_at dksX6_now_0 20 rfl rfl)
theorem dX6_now_21 : decode cX6_now 21 = .ok (.iload_n 1, 1) := dk_27 (dk_at dksX6_now_0 21 rfl rfl)
theorem dX6_now_22 : decode cX6_now 22 = .ok (.aload_n 0, 1) := dk_42 (dk_at dksX6_now_0 22 rfl rfl)
theorem dX6_now_23 : decode cX6_now 23 = .ok (.getfield 20, 3) := dk_180 0 20 (dk_at dksX6_now_1 0 rfl rfl)
theorem dX6_now_26 : decode cX6_now 26 = .ok (.iload_n 2, 1) := dk_28 (dk_at dksX6_now_1 3 rfl rfl)
theorem dX6_now_27 : decode cX6_now 27 = .ok (.iaload, 1) := dk_46 (dk_at dksX6_now_1 4 rfl rfl)
theorem dX6_now_28 : decode cX6_now 28 = .ok (.iload_n 3, 1) := dk_29 (dk_at dksX6_now_1 5 rfl rfl)
theorem dX6_now_29 : decode cX6_now 29 = .ok (.iconst 1, 1) := dk_4 (dk_at dksX6_now_1 6 rfl rfl)
theorem dX6_now_30 : decode cX6_now 30 = .ok (.if_icmp .le 7, 3) := dk_164 0 7 (dk_at dksX6_now_1 7 rfl rfl)
theorem dX6_now_33 : decode cX6_now 33 = .ok (.iconst 2, 1) := dk_5 (dk_at dksX6_now_1 10 rfl rfl)
theorem dX6_now_34 : decode cX6_now 34 = .ok (.goto 4, 3) := dk_167 0 4 (dk_at dksX6_now_1 11 rfl rfl)
theorem dX6_now_37 : decode cX6_now 37 = .ok (.iload_n 3, 1) := dk_29 (dk_at dksX6_now_1 14 rfl rfl)
theorem dX6_now_38 : decode cX6_now 38 = .ok (.imul, 1) := dk_104 (dk_at dksX6_now_1 15 rfl rfl)
theorem dX6_now_39 : decode cX6_now 39 = .ok (.iadd, 1) := dk_96 (dk_at dksX6_now_1 16 rfl rfl)
theorem dX6_now_40 : decode cX6_now 40 = .ok (.istore_n 1, 1) := dk_60 (dk_at dksX6_now_1 17 rfl rfl)
theorem dX6_now_41 : decode cX6_now 41 = .ok (.iinc 2 1, 3) := dk_132 2 1 (dk_at dksX6_now_1 18 rfl rfl)
theorem dX6_now_44 : decode cX6_now 44 = .ok (.goto (-40), 3) := dk_167 255 216 (dk_at dksX6_now_1 21 rfl rfl)
theorem dX6_now_47 : decode cX6_now 47 = .ok (.iload_n 1, 1) := dk_27 (dk_at dksX6_now_2 0 rfl rfl)
theorem dX6_now_48 : decode cX6_now 48 = .ok (.ireturn, 1) := dk_172 (dk_at dksX6_now_2 1 rfl rfl)
abbrev cX6_standsOf : ByteArray := prog_16_method_11_code
def yX6_standsOf : MethodName := ⟨RX6, "standsOf", "(I)I"⟩
def dkwX6_standsOf_1 : List UInt8 := [158, 0, 9, 4, 29, 120, 167, 0, 4, 3, 128, 61, 132, 3, 1, 167, 255, 222, 28, 172]
abbrev dktX6_standsOf_1 : List UInt8 := dkwX6_standsOf_1 ++ []
def dkwX6_standsOf_0 : List UInt8 := [3, 61, 3, 62, 29, 42, 182, 0, 45, 162, 0, 32, 28, 27, 42, 180, 0, 20, 29, 46, 108, 6, 112]
abbrev dktX6_standsOf_0 : List UInt8 := dkwX6_standsOf_0 ++ dktX6_standsOf_1
theorem dksX6_standsOf_0 : cX6_standsOf.data.toList.drop 0 = dktX6_standsOf_0 := by decide +kernel
theorem dksX6_standsOf_1 : cX6_standsOf.data.toList.drop 23 = dktX6_standsOf_1 := dk_seg dksX6_standsOf_0 23 rfl rfl
theorem dX6_standsOf_0 : decode cX6_standsOf 0 = .ok (.iconst 0, 1) := dk_3 (dk_at dksX6_standsOf_0 0 rfl rfl)
theorem dX6_standsOf_1 : decode cX6_standsOf 1 = .ok (.istore_n 2, 1) := dk_61 (dk_at dksX6_standsOf_0 1 rfl rfl)
theorem dX6_standsOf_2 : decode cX6_standsOf 2 = .ok (.iconst 0, 1) := dk_3 (dk_at dksX6_standsOf_0 2 rfl rfl)
theorem dX6_standsOf_3 : decode cX6_standsOf 3 = .ok (.istore_n 3, 1) := dk_62 (dk_at dksX6_standsOf_0 3 rfl rfl)
theorem dX6_standsOf_4 : decode cX6_standsOf 4 = .ok (.iload_n 3, 1) := dk_29 (dk_at dksX6_standsOf_0 4 rfl rfl)
theorem dX6_standsOf_5 : decode cX6_standsOf 5 = .ok (.aload_n 0, 1) := dk_42 (dk_at dksX6_standsOf_0 5 rfl rfl)
theorem dX6_standsOf_6 : decode cX6_standsOf 6 = .ok (.invokevirtual 45, 3) := dk_182 0 45 (dk_at dksX6_standsOf_0 6 rfl rfl)
theorem dX6_standsOf_9 : decode cX6_standsOf 9 = .ok (.if_icmp .ge 32, 3) := dk_162 0 32 (dk_at dksX6_standsOf_0 9 rfl rfl)
theorem dX6_standsOf_12 : decode cX6_standsOf 12 = .ok (.iload_n 2, 1) := dk_28 (dk_at dksX6_standsOf_0 12 rfl rfl)
theorem dX6_standsOf_13 : decode cX6_standsOf 13 = .ok (.iload_n 1, 1) := dk_27 (dk_at dksX6_standsOf_0 13 rfl rfl)
theorem dX6_standsOf_14 : decode cX6_standsOf 14 = .ok (.aload_n 0, 1) := dk_42 (dk_at dksX6_standsOf_0 14 rfl rfl)
theorem dX6_standsOf_15 : decode cX6_standsOf 15 = .ok (.getfield 20, 3) := dk_180 0 20 (dk_at dksX6_standsOf_0 15 rfl rfl)
theorem dX6_standsOf_18 : decode cX6_standsOf 18 = .ok (.iload_n 3, 1) := dk_29 (dk_at dksX6_standsOf_0 18 rfl rfl)
theorem dX6_standsOf_19 : decode cX6_standsOf 19 = .ok (.iaload, 1) := dk_46 (dk_at dksX6_standsOf_0 19 rfl rfl)
theorem dX6_standsOf_20 : decode cX6_standsOf 20 = .ok (.idiv, 1) := dk_108 (dk_at dksX6_standsOf_0 20 rfl rfl)
theorem dX6_standsOf_21 : decode cX6_standsOf 21 = .ok (.iconst 3, 1) := dk_6 (dk_at dksX6_standsOf_0 21 rfl rfl)
theorem dX6_standsOf_22 : decode cX6_standsOf 22 = .ok (.irem, 1) := dk_112 (dk_at dksX6_standsOf_0 22 rfl rfl)
theorem dX6_standsOf_23 : decode cX6_standsOf 23 = .ok (.ifCond .le 9, 3) := dk_158 0 9 (dk_at dksX6_standsOf_1 0 rfl rfl)
theorem dX6_standsOf_26 : decode cX6_standsOf 26 = .ok (.iconst 1, 1) := dk_4 (dk_at dksX6_standsOf_1 3 rfl rfl)
theorem dX6_standsOf_27 : decode cX6_standsOf 27 = .ok (.iload_n 3, 1) := dk_29 (dk_at dksX6_standsOf_1 4 rfl rfl)
theorem dX6_standsOf_28 : decode cX6_standsOf 28 = .ok (.ishl, 1) := dk_120 (dk_at dksX6_standsOf_1 5 rfl rfl)
theorem dX6_standsOf_29 : decode cX6_standsOf 29 = .ok (.goto 4, 3) := dk_167 0 4 (dk_at dksX6_standsOf_1 6 rfl rfl)
theorem dX6_standsOf_32 : decode cX6_standsOf 32 = .ok (.iconst 0, 1) := dk_3 (dk_at dksX6_standsOf_1 9 rfl rfl)
theorem dX6_standsOf_33 : decode cX6_standsOf 33 = .ok (.ior, 1) := dk_128 (dk_at dksX6_standsOf_1 10 rfl rfl)
theorem dX6_standsOf_34 : decode cX6_standsOf 34 = .ok (.istore_n 2, 1) := dk_61 (dk_at dksX6_standsOf_1 11 rfl rfl)
theorem dX6_standsOf_35 : decode cX6_standsOf 35 = .ok (.iinc 3 1, 3) := dk_132 3 1 (dk_at dksX6_standsOf_1 12 rfl rfl)
theorem dX6_standsOf_38 : decode cX6_standsOf 38 = .ok (.goto (-34), 3) := dk_167 255 222 (dk_at dksX6_standsOf_1 15 rfl rfl)
theorem dX6_standsOf_41 : decode cX6_standsOf 41 = .ok (.iload_n 2, 1) := dk_28 (dk_at dksX6_standsOf_1 18 rfl rfl)
theorem dX6_standsOf_42 : decode cX6_standsOf 42 = .ok (.ireturn, 1) := dk_172 (dk_at dksX6_standsOf_1 19 rfl rfl)
abbrev cX6_size : ByteArray := prog_16_method_9_code
def yX6_size : MethodName := ⟨RX6, "size", "(I)I"⟩
def dkwX6_size_1 : List UInt8 := [27, 172]
abbrev dktX6_size_1 : List UInt8 := dkwX6_size_1 ++ []
def dkwX6_size_0 : List UInt8 := [3, 60, 3, 61, 28, 16, 10, 162, 0, 17, 27, 26, 28, 122, 4, 126, 96, 60, 132, 2, 1, 167, 255, 239]
abbrev dktX6_size_0 : List UInt8 := dkwX6_size_0 ++ dktX6_size_1
theorem dksX6_size_0 : cX6_size.data.toList.drop 0 = dktX6_size_0 := by decide +kernel
theorem dksX6_size_1 : cX6_size.data.toList.drop 24 = dktX6_size_1 := dk_seg dksX6_size_0 24 rfl rfl
theorem dX6_size_0 : decode cX6_size 0 = .ok (.iconst 0, 1) := dk_3 (dk_at dksX6_size_0 0 rfl rfl)
theorem dX6_size_1 : decode cX6_size 1 = .ok (.istore_n 1, 1) := dk_60 (dk_at dksX6_size_0 1 rfl rfl)
theorem dX6_size_2 : decode cX6_size 2 = .ok (.iconst 0, 1) := dk_3 (dk_at dksX6_size_0 2 rfl rfl)
theorem dX6_size_3 : decode cX6_size 3 = .ok (.istore_n 2, 1) := dk_61 (dk_at dksX6_size_0 3 rfl rfl)
theorem dX6_size_4 : decode cX6_size 4 = .ok (.iload_n 2, 1) := dk_28 (dk_at dksX6_size_0 4 rfl rfl)
theorem dX6_size_5 : decode cX6_size 5 = .ok (.bipush 10, 2) := dk_16 10 (dk_at dksX6_size_0 5 rfl rfl)
theorem dX6_size_7 : decode cX6_size 7 = .ok (.if_icmp .ge 17, 3) := dk_162 0 17 (dk_at dksX6_size_0 7 rfl rfl)
theorem dX6_size_10 : decode cX6_size 10 = .ok (.iload_n 1, 1) := dk_27 (dk_at dksX6_size_0 10 rfl rfl)
theorem dX6_size_11 : decode cX6_size 11 = .ok (.iload_n 0, 1) := dk_26 (dk_at dksX6_size_0 11 rfl rfl)
theorem dX6_size_12 : decode cX6_size 12 = .ok (.iload_n 2, 1) := dk_28 (dk_at dksX6_size_0 12 rfl rfl)
theorem dX6_size_13 : decode cX6_size 13 = .ok (.ishr, 1) := dk_122 (dk_at dksX6_size_0 13 rfl rfl)
theorem dX6_size_14 : decode cX6_size 14 = .ok (.iconst 1, 1) := dk_4 (dk_at dksX6_size_0 14 rfl rfl)
theorem dX6_size_15 : decode cX6_size 15 = .ok (.iand, 1) := dk_126 (dk_at dksX6_size_0 15 rfl rfl)
theorem dX6_size_16 : decode cX6_size 16 = .ok (.iadd, 1) := dk_96 (dk_at dksX6_size_0 16 rfl rfl)
theorem dX6_size_17 : decode cX6_size 17 = .ok (.istore_n 1, 1) := dk_60 (dk_at dksX6_size_0 17 rfl rfl)
theorem dX6_size_18 : decode cX6_size 18 = .ok (.iinc 2 1, 3) := dk_132 2 1 (dk_at dksX6_size_0 18 rfl rfl)
theorem dX6_size_21 : decode cX6_size 21 = .ok (.goto (-17), 3) := dk_167 255 239 (dk_at dksX6_size_0 21 rfl rfl)
theorem dX6_size_24 : decode cX6_size 24 = .ok (.iload_n 1, 1) := dk_27 (dk_at dksX6_size_1 0 rfl rfl)
theorem dX6_size_25 : decode cX6_size 25 = .ok (.ireturn, 1) := dk_172 (dk_at dksX6_size_1 1 rfl rfl)
abbrev cX6_viewWay : ByteArray := prog_16_method_18_code
def yX6_viewWay : MethodName := ⟨RX6, "viewWay", "(II)I"⟩
def dkwX6_viewWay_0 : List UInt8 := [42, 27, 28, 4, 28, 2, 182, 0, 76, 157, 0, 7, 4, 167, 0, 4, 2, 172]
abbrev dktX6_viewWay_0 : List UInt8 := dkwX6_viewWay_0 ++ []
theorem dksX6_viewWay_0 : cX6_viewWay.data.toList.drop 0 = dktX6_viewWay_0 := by decide +kernel
theorem dX6_viewWay_0 : decode cX6_viewWay 0 = .ok (.aload_n 0, 1) := dk_42 (dk_at dksX6_viewWay_0 0 rfl rfl)
theorem dX6_viewWay_1 : decode cX6_viewWay 1 = .ok (.iload_n 1, 1) := dk_27 (dk_at dksX6_viewWay_0 1 rfl rfl)
theorem dX6_viewWay_2 : decode cX6_viewWay 2 = .ok (.iload_n 2, 1) := dk_28 (dk_at dksX6_viewWay_0 2 rfl rfl)
theorem dX6_viewWay_3 : decode cX6_viewWay 3 = .ok (.iconst 1, 1) := dk_4 (dk_at dksX6_viewWay_0 3 rfl rfl)
theorem dX6_viewWay_4 : decode cX6_viewWay 4 = .ok (.iload_n 2, 1) := dk_28 (dk_at dksX6_viewWay_0 4 rfl rfl)
theorem dX6_viewWay_5 : decode cX6_viewWay 5 = .ok (.iconst (-1), 1) := dk_2 (dk_at dksX6_viewWay_0 5 rfl rfl)
theorem dX6_viewWay_6 : decode cX6_viewWay 6 = .ok (.invokevirtual 76, 3) := dk_182 0 76 (dk_at dksX6_viewWay_0 6 rfl rfl)
theorem dX6_viewWay_9 : decode cX6_viewWay 9 = .ok (.ifCond .gt 7, 3) := dk_157 0 7 (dk_at dksX6_viewWay_0 9 rfl rfl)
theorem dX6_viewWay_12 : decode cX6_viewWay 12 = .ok (.iconst 1, 1) := dk_4 (dk_at dksX6_viewWay_0 12 rfl rfl)
theorem dX6_viewWay_13 : decode cX6_viewWay 13 = .ok (.goto 4, 3) := dk_167 0 4 (dk_at dksX6_viewWay_0 13 rfl rfl)
theorem dX6_viewWay_16 : decode cX6_viewWay 16 = .ok (.iconst (-1), 1) := dk_2 (dk_at dksX6_viewWay_0 16 rfl rfl)
theorem dX6_viewWay_17 : decode cX6_viewWay 17 = .ok (.ireturn, 1) := dk_172 (dk_at dksX6_viewWay_0 17 rfl rfl)
abbrev cX6_held : ByteArray := prog_16_method_17_code
def yX6_held : MethodName := ⟨RX6, "held", "(IIIII)I"⟩
def dkwX6_held_2 : List UInt8 := [172, 132, 7, 1, 167, 255, 215, 3, 172]
abbrev dktX6_held_2 : List UInt8 := dkwX6_held_2 ++ []
def dkwX6_held_1 : List UInt8 := [182, 0, 72, 42, 27, 21, 4, 21, 5, 21, 7, 182, 0, 72, 100, 54, 8, 21, 8, 153, 0, 6, 21, 8]
abbrev dktX6_held_1 : List UInt8 := dkwX6_held_1 ++ dktX6_held_2
def dkwX6_held_0 : List UInt8 := [27, 184, 0, 68, 54, 6, 3, 54, 7, 21, 7, 21, 6, 162, 0, 40, 42, 27, 28, 29, 21, 7]
abbrev dktX6_held_0 : List UInt8 := dkwX6_held_0 ++ dktX6_held_1
theorem dksX6_held_0 : cX6_held.data.toList.drop 0 = dktX6_held_0 := by decide +kernel
theorem dksX6_held_1 : cX6_held.data.toList.drop 22 = dktX6_held_1 := dk_seg dksX6_held_0 22 rfl rfl
theorem dksX6_held_2 : cX6_held.data.toList.drop 46 = dktX6_held_2 := dk_seg dksX6_held_1 24 rfl rfl
theorem dX6_held_0 : decode cX6_held 0 = .ok (.iload_n 1, 1) := dk_27 (dk_at dksX6_held_0 0 rfl rfl)
theorem dX6_held_1 : decode cX6_held 1 = .ok (.invokestatic 68, 3) := dk_184 0 68 (dk_at dksX6_held_0 1 rfl rfl)
theorem dX6_held_4 : decode cX6_held 4 = .ok (.istore 6, 2) := dk_54 6 (dk_at dksX6_held_0 4 rfl rfl)
theorem dX6_held_6 : decode cX6_held 6 = .ok (.iconst 0, 1) := dk_3 (dk_at dksX6_held_0 6 rfl rfl)
theorem dX6_held_7 : decode cX6_held 7 = .ok (.istore 7, 2) := dk_54 7 (dk_at dksX6_held_0 7 rfl rfl)
theorem dX6_held_9 : decode cX6_held 9 = .ok (.iload 7, 2) := dk_21 7 (dk_at dksX6_held_0 9 rfl rfl)
theorem dX6_held_11 : decode cX6_held 11 = .ok (.iload 6, 2) := dk_21 6 (dk_at dksX6_held_0 11 rfl rfl)
theorem dX6_held_13 : decode cX6_held 13 = .ok (.if_icmp .ge 40, 3) := dk_162 0 40 (dk_at dksX6_held_0 13 rfl rfl)
theorem dX6_held_16 : decode cX6_held 16 = .ok (.aload_n 0, 1) := dk_42 (dk_at dksX6_held_0 16 rfl rfl)
theorem dX6_held_17 : decode cX6_held 17 = .ok (.iload_n 1, 1) := dk_27 (dk_at dksX6_held_0 17 rfl rfl)
theorem dX6_held_18 : decode cX6_held 18 = .ok (.iload_n 2, 1) := dk_28 (dk_at dksX6_held_0 18 rfl rfl)
theorem dX6_held_19 : decode cX6_held 19 = .ok (.iload_n 3, 1) := dk_29 (dk_at dksX6_held_0 19 rfl rfl)
theorem dX6_held_20 : decode cX6_held 20 = .ok (.iload 7, 2) := dk_21 7 (dk_at dksX6_held_0 20 rfl rfl)
theorem dX6_held_22 : decode cX6_held 22 = .ok (.invokevirtual 72, 3) := dk_182 0 72 (dk_at dksX6_held_1 0 rfl rfl)
theorem dX6_held_25 : decode cX6_held 25 = .ok (.aload_n 0, 1) := dk_42 (dk_at dksX6_held_1 3 rfl rfl)
theorem dX6_held_26 : decode cX6_held 26 = .ok (.iload_n 1, 1) := dk_27 (dk_at dksX6_held_1 4 rfl rfl)
theorem dX6_held_27 : decode cX6_held 27 = .ok (.iload 4, 2) := dk_21 4 (dk_at dksX6_held_1 5 rfl rfl)
theorem dX6_held_29 : decode cX6_held 29 = .ok (.iload 5, 2) := dk_21 5 (dk_at dksX6_held_1 7 rfl rfl)
theorem dX6_held_31 : decode cX6_held 31 = .ok (.iload 7, 2) := dk_21 7 (dk_at dksX6_held_1 9 rfl rfl)
theorem dX6_held_33 : decode cX6_held 33 = .ok (.invokevirtual 72, 3) := dk_182 0 72 (dk_at dksX6_held_1 11 rfl rfl)
theorem dX6_held_36 : decode cX6_held 36 = .ok (.isub, 1) := dk_100 (dk_at dksX6_held_1 14 rfl rfl)
theorem dX6_held_37 : decode cX6_held 37 = .ok (.istore 8, 2) := dk_54 8 (dk_at dksX6_held_1 15 rfl rfl)
theorem dX6_held_39 : decode cX6_held 39 = .ok (.iload 8, 2) := dk_21 8 (dk_at dksX6_held_1 17 rfl rfl)
theorem dX6_held_41 : decode cX6_held 41 = .ok (.ifCond .eq 6, 3) := dk_153 0 6 (dk_at dksX6_held_1 19 rfl rfl)
theorem dX6_held_44 : decode cX6_held 44 = .ok (.iload 8, 2) := dk_21 8 (dk_at dksX6_held_1 22 rfl rfl)
theorem dX6_held_46 : decode cX6_held 46 = .ok (.ireturn, 1) := dk_172 (dk_at dksX6_held_2 0 rfl rfl)
theorem dX6_held_47 : decode cX6_held 47 = .ok (.iinc 7 1, 3) := dk_132 7 1 (dk_at dksX6_held_2 1 rfl rfl)
theorem dX6_held_50 : decode cX6_held 50 = .ok (.goto (-41), 3) := dk_167 255 215 (dk_at dksX6_held_2 4 rfl rfl)
theorem dX6_held_53 : decode cX6_held 53 = .ok (.iconst 0, 1) := dk_3 (dk_at dksX6_held_2 7 rfl rfl)
theorem dX6_held_54 : decode cX6_held 54 = .ok (.ireturn, 1) := dk_172 (dk_at dksX6_held_2 8 rfl rfl)
abbrev cX6_gapAt : ByteArray := prog_16_method_16_code
def yX6_gapAt : MethodName := ⟨RX6, "gapAt", "(IIII)I"⟩
def dkwX6_gapAt_1 : List UInt8 := [182, 0, 64, 104, 182, 0, 60, 54, 5, 132, 6, 1, 167, 255, 228, 42, 27, 21, 5, 29, 182, 0, 64, 172]
abbrev dktX6_gapAt_1 : List UInt8 := dkwX6_gapAt_1 ++ []
def dkwX6_gapAt_0 : List UInt8 := [28, 54, 5, 3, 54, 6, 21, 6, 21, 4, 162, 0, 27, 42, 21, 5, 29, 42, 27, 21, 5, 29]
abbrev dktX6_gapAt_0 : List UInt8 := dkwX6_gapAt_0 ++ dktX6_gapAt_1
theorem dksX6_gapAt_0 : cX6_gapAt.data.toList.drop 0 = dktX6_gapAt_0 := by decide +kernel
theorem dksX6_gapAt_1 : cX6_gapAt.data.toList.drop 22 = dktX6_gapAt_1 := dk_seg dksX6_gapAt_0 22 rfl rfl
theorem dX6_gapAt_0 : decode cX6_gapAt 0 = .ok (.iload_n 2, 1) := dk_28 (dk_at dksX6_gapAt_0 0 rfl rfl)
theorem dX6_gapAt_1 : decode cX6_gapAt 1 = .ok (.istore 5, 2) := dk_54 5 (dk_at dksX6_gapAt_0 1 rfl rfl)
theorem dX6_gapAt_3 : decode cX6_gapAt 3 = .ok (.iconst 0, 1) := dk_3 (dk_at dksX6_gapAt_0 3 rfl rfl)
theorem dX6_gapAt_4 : decode cX6_gapAt 4 = .ok (.istore 6, 2) := dk_54 6 (dk_at dksX6_gapAt_0 4 rfl rfl)
theorem dX6_gapAt_6 : decode cX6_gapAt 6 = .ok (.iload 6, 2) := dk_21 6 (dk_at dksX6_gapAt_0 6 rfl rfl)
theorem dX6_gapAt_8 : decode cX6_gapAt 8 = .ok (.iload 4, 2) := dk_21 4 (dk_at dksX6_gapAt_0 8 rfl rfl)
theorem dX6_gapAt_10 : decode cX6_gapAt 10 = .ok (.if_icmp .ge 27, 3) := dk_162 0 27 (dk_at dksX6_gapAt_0 10 rfl rfl)
theorem dX6_gapAt_13 : decode cX6_gapAt 13 = .ok (.aload_n 0, 1) := dk_42 (dk_at dksX6_gapAt_0 13 rfl rfl)
theorem dX6_gapAt_14 : decode cX6_gapAt 14 = .ok (.iload 5, 2) := dk_21 5 (dk_at dksX6_gapAt_0 14 rfl rfl)
theorem dX6_gapAt_16 : decode cX6_gapAt 16 = .ok (.iload_n 3, 1) := dk_29 (dk_at dksX6_gapAt_0 16 rfl rfl)
theorem dX6_gapAt_17 : decode cX6_gapAt 17 = .ok (.aload_n 0, 1) := dk_42 (dk_at dksX6_gapAt_0 17 rfl rfl)
theorem dX6_gapAt_18 : decode cX6_gapAt 18 = .ok (.iload_n 1, 1) := dk_27 (dk_at dksX6_gapAt_0 18 rfl rfl)
theorem dX6_gapAt_19 : decode cX6_gapAt 19 = .ok (.iload 5, 2) := dk_21 5 (dk_at dksX6_gapAt_0 19 rfl rfl)
theorem dX6_gapAt_21 : decode cX6_gapAt 21 = .ok (.iload_n 3, 1) := dk_29 (dk_at dksX6_gapAt_0 21 rfl rfl)
theorem dX6_gapAt_22 : decode cX6_gapAt 22 = .ok (.invokevirtual 64, 3) := dk_182 0 64 (dk_at dksX6_gapAt_1 0 rfl rfl)
theorem dX6_gapAt_25 : decode cX6_gapAt 25 = .ok (.imul, 1) := dk_104 (dk_at dksX6_gapAt_1 3 rfl rfl)
theorem dX6_gapAt_26 : decode cX6_gapAt 26 = .ok (.invokevirtual 60, 3) := dk_182 0 60 (dk_at dksX6_gapAt_1 4 rfl rfl)
theorem dX6_gapAt_29 : decode cX6_gapAt 29 = .ok (.istore 5, 2) := dk_54 5 (dk_at dksX6_gapAt_1 7 rfl rfl)
theorem dX6_gapAt_31 : decode cX6_gapAt 31 = .ok (.iinc 6 1, 3) := dk_132 6 1 (dk_at dksX6_gapAt_1 9 rfl rfl)
theorem dX6_gapAt_34 : decode cX6_gapAt 34 = .ok (.goto (-28), 3) := dk_167 255 228 (dk_at dksX6_gapAt_1 12 rfl rfl)
theorem dX6_gapAt_37 : decode cX6_gapAt 37 = .ok (.aload_n 0, 1) := dk_42 (dk_at dksX6_gapAt_1 15 rfl rfl)
theorem dX6_gapAt_38 : decode cX6_gapAt 38 = .ok (.iload_n 1, 1) := dk_27 (dk_at dksX6_gapAt_1 16 rfl rfl)
theorem dX6_gapAt_39 : decode cX6_gapAt 39 = .ok (.iload 5, 2) := dk_21 5 (dk_at dksX6_gapAt_1 17 rfl rfl)
theorem dX6_gapAt_41 : decode cX6_gapAt 41 = .ok (.iload_n 3, 1) := dk_29 (dk_at dksX6_gapAt_1 19 rfl rfl)
theorem dX6_gapAt_42 : decode cX6_gapAt 42 = .ok (.invokevirtual 64, 3) := dk_182 0 64 (dk_at dksX6_gapAt_1 20 rfl rfl)
theorem dX6_gapAt_45 : decode cX6_gapAt 45 = .ok (.ireturn, 1) := dk_172 (dk_at dksX6_gapAt_1 23 rfl rfl)
abbrev cX6_far : ByteArray := prog_16_method_15_code
def yX6_far : MethodName := ⟨RX6, "far", "(III)I"⟩
def dkwX6_far_1 : List UInt8 := [182, 0, 60, 54, 5, 132, 4, 1, 167, 255, 235, 21, 4, 172]
abbrev dktX6_far_1 : List UInt8 := dkwX6_far_1 ++ []
def dkwX6_far_0 : List UInt8 := [4, 54, 4, 42, 28, 29, 182, 0, 60, 54, 5, 27, 21, 5, 122, 4, 126, 154, 0, 18, 42, 21, 5, 29]
abbrev dktX6_far_0 : List UInt8 := dkwX6_far_0 ++ dktX6_far_1
theorem dksX6_far_0 : cX6_far.data.toList.drop 0 = dktX6_far_0 := by decide +kernel
theorem dksX6_far_1 : cX6_far.data.toList.drop 24 = dktX6_far_1 := dk_seg dksX6_far_0 24 rfl rfl
theorem dX6_far_0 : decode cX6_far 0 = .ok (.iconst 1, 1) := dk_4 (dk_at dksX6_far_0 0 rfl rfl)
theorem dX6_far_1 : decode cX6_far 1 = .ok (.istore 4, 2) := dk_54 4 (dk_at dksX6_far_0 1 rfl rfl)
theorem dX6_far_3 : decode cX6_far 3 = .ok (.aload_n 0, 1) := dk_42 (dk_at dksX6_far_0 3 rfl rfl)
theorem dX6_far_4 : decode cX6_far 4 = .ok (.iload_n 2, 1) := dk_28 (dk_at dksX6_far_0 4 rfl rfl)
theorem dX6_far_5 : decode cX6_far 5 = .ok (.iload_n 3, 1) := dk_29 (dk_at dksX6_far_0 5 rfl rfl)
theorem dX6_far_6 : decode cX6_far 6 = .ok (.invokevirtual 60, 3) := dk_182 0 60 (dk_at dksX6_far_0 6 rfl rfl)
theorem dX6_far_9 : decode cX6_far 9 = .ok (.istore 5, 2) := dk_54 5 (dk_at dksX6_far_0 9 rfl rfl)
theorem dX6_far_11 : decode cX6_far 11 = .ok (.iload_n 1, 1) := dk_27 (dk_at dksX6_far_0 11 rfl rfl)
theorem dX6_far_12 : decode cX6_far 12 = .ok (.iload 5, 2) := dk_21 5 (dk_at dksX6_far_0 12 rfl rfl)
theorem dX6_far_14 : decode cX6_far 14 = .ok (.ishr, 1) := dk_122 (dk_at dksX6_far_0 14 rfl rfl)
theorem dX6_far_15 : decode cX6_far 15 = .ok (.iconst 1, 1) := dk_4 (dk_at dksX6_far_0 15 rfl rfl)
theorem dX6_far_16 : decode cX6_far 16 = .ok (.iand, 1) := dk_126 (dk_at dksX6_far_0 16 rfl rfl)
theorem dX6_far_17 : decode cX6_far 17 = .ok (.ifCond .ne 18, 3) := dk_154 0 18 (dk_at dksX6_far_0 17 rfl rfl)
theorem dX6_far_20 : decode cX6_far 20 = .ok (.aload_n 0, 1) := dk_42 (dk_at dksX6_far_0 20 rfl rfl)
theorem dX6_far_21 : decode cX6_far 21 = .ok (.iload 5, 2) := dk_21 5 (dk_at dksX6_far_0 21 rfl rfl)
theorem dX6_far_23 : decode cX6_far 23 = .ok (.iload_n 3, 1) := dk_29 (dk_at dksX6_far_0 23 rfl rfl)
theorem dX6_far_24 : decode cX6_far 24 = .ok (.invokevirtual 60, 3) := dk_182 0 60 (dk_at dksX6_far_1 0 rfl rfl)
theorem dX6_far_27 : decode cX6_far 27 = .ok (.istore 5, 2) := dk_54 5 (dk_at dksX6_far_1 3 rfl rfl)
theorem dX6_far_29 : decode cX6_far 29 = .ok (.iinc 4 1, 3) := dk_132 4 1 (dk_at dksX6_far_1 5 rfl rfl)
theorem dX6_far_32 : decode cX6_far 32 = .ok (.goto (-21), 3) := dk_167 255 235 (dk_at dksX6_far_1 8 rfl rfl)
theorem dX6_far_35 : decode cX6_far 35 = .ok (.iload 4, 2) := dk_21 4 (dk_at dksX6_far_1 11 rfl rfl)
theorem dX6_far_37 : decode cX6_far 37 = .ok (.ireturn, 1) := dk_172 (dk_at dksX6_far_1 13 rfl rfl)
abbrev cX6_beside : ByteArray := prog_16_method_14_code
def yX6_beside : MethodName := ⟨RX6, "beside", "(II)I"⟩
def dkwX6_beside_0 : List UInt8 := [27, 28, 96, 42, 182, 0, 45, 96, 42, 182, 0, 45, 112, 172]
abbrev dktX6_beside_0 : List UInt8 := dkwX6_beside_0 ++ []
theorem dksX6_beside_0 : cX6_beside.data.toList.drop 0 = dktX6_beside_0 := by decide +kernel
theorem dX6_beside_0 : decode cX6_beside 0 = .ok (.iload_n 1, 1) := dk_27 (dk_at dksX6_beside_0 0 rfl rfl)
theorem dX6_beside_1 : decode cX6_beside 1 = .ok (.iload_n 2, 1) := dk_28 (dk_at dksX6_beside_0 1 rfl rfl)
theorem dX6_beside_2 : decode cX6_beside 2 = .ok (.iadd, 1) := dk_96 (dk_at dksX6_beside_0 2 rfl rfl)
theorem dX6_beside_3 : decode cX6_beside 3 = .ok (.aload_n 0, 1) := dk_42 (dk_at dksX6_beside_0 3 rfl rfl)
theorem dX6_beside_4 : decode cX6_beside 4 = .ok (.invokevirtual 45, 3) := dk_182 0 45 (dk_at dksX6_beside_0 4 rfl rfl)
theorem dX6_beside_7 : decode cX6_beside 7 = .ok (.iadd, 1) := dk_96 (dk_at dksX6_beside_0 7 rfl rfl)
theorem dX6_beside_8 : decode cX6_beside 8 = .ok (.aload_n 0, 1) := dk_42 (dk_at dksX6_beside_0 8 rfl rfl)
theorem dX6_beside_9 : decode cX6_beside 9 = .ok (.invokevirtual 45, 3) := dk_182 0 45 (dk_at dksX6_beside_0 9 rfl rfl)
theorem dX6_beside_12 : decode cX6_beside 12 = .ok (.irem, 1) := dk_112 (dk_at dksX6_beside_0 12 rfl rfl)
theorem dX6_beside_13 : decode cX6_beside 13 = .ok (.ireturn, 1) := dk_172 (dk_at dksX6_beside_0 13 rfl rfl)
abbrev cX6_shape : ByteArray := prog_16_method_26_code
def yX6_shape : MethodName := ⟨RX6, "shape", "(I)I"⟩
def dkwX6_shape_5 : List UInt8 := [182, 0, 108, 172, 16, 254, 172]
abbrev dktX6_shape_5 : List UInt8 := dkwX6_shape_5 ++ []
def dkwX6_shape_4 : List UInt8 := [154, 0, 7, 4, 167, 0, 4, 3, 172, 42, 28, 182, 0, 102, 172, 42, 28, 182, 0, 105, 172, 42, 28]
abbrev dktX6_shape_4 : List UInt8 := dkwX6_shape_4 ++ dktX6_shape_5
def dkwX6_shape_3 : List UInt8 := [167, 0, 4, 3, 172, 28, 153, 0, 23, 42, 28, 182, 0, 96, 154, 0, 15, 42, 28, 182, 0, 99]
abbrev dktX6_shape_3 : List UInt8 := dkwX6_shape_3 ++ dktX6_shape_4
def dkwX6_shape_2 : List UInt8 := [42, 28, 182, 0, 96, 153, 0, 7, 4, 167, 0, 4, 3, 172, 42, 28, 182, 0, 99, 153, 0, 7, 4]
abbrev dktX6_shape_2 : List UInt8 := dkwX6_shape_2 ++ dktX6_shape_3
def dkwX6_shape_1 : List UInt8 := [170, 0, 0, 0, 0, 110, 0, 0, 0, 0, 0, 0, 0, 5, 0, 0, 0, 38, 0, 0, 0, 52, 0, 0, 0, 66, 0, 0, 0, 92, 0, 0, 0, 98, 0, 0, 0, 104]
abbrev dktX6_shape_1 : List UInt8 := dkwX6_shape_1 ++ dktX6_shape_2
def dkwX6_shape_0 : List UInt8 := [42, 42, 182, 0, 83, 182, 0, 86, 61, 27]
abbrev dktX6_shape_0 : List UInt8 := dkwX6_shape_0 ++ dktX6_shape_1
theorem dksX6_shape_0 : cX6_shape.data.toList.drop 0 = dktX6_shape_0 := by decide +kernel
theorem dksX6_shape_1 : cX6_shape.data.toList.drop 10 = dktX6_shape_1 := dk_seg dksX6_shape_0 10 rfl rfl
theorem dksX6_shape_2 : cX6_shape.data.toList.drop 48 = dktX6_shape_2 := dk_seg dksX6_shape_1 38 rfl rfl
theorem dksX6_shape_3 : cX6_shape.data.toList.drop 71 = dktX6_shape_3 := dk_seg dksX6_shape_2 23 rfl rfl
theorem dksX6_shape_4 : cX6_shape.data.toList.drop 93 = dktX6_shape_4 := dk_seg dksX6_shape_3 22 rfl rfl
theorem dksX6_shape_5 : cX6_shape.data.toList.drop 116 = dktX6_shape_5 := dk_seg dksX6_shape_4 23 rfl rfl
theorem dX6_shape_0 : decode cX6_shape 0 = .ok (.aload_n 0, 1) := dk_42 (dk_at dksX6_shape_0 0 rfl rfl)
theorem dX6_shape_1 : decode cX6_shape 1 = .ok (.aload_n 0, 1) := dk_42 (dk_at dksX6_shape_0 1 rfl rfl)
theorem dX6_shape_2 : decode cX6_shape 2 = .ok (.invokevirtual 83, 3) := dk_182 0 83 (dk_at dksX6_shape_0 2 rfl rfl)
theorem dX6_shape_5 : decode cX6_shape 5 = .ok (.invokevirtual 86, 3) := dk_182 0 86 (dk_at dksX6_shape_0 5 rfl rfl)
theorem dX6_shape_8 : decode cX6_shape 8 = .ok (.istore_n 2, 1) := dk_61 (dk_at dksX6_shape_0 8 rfl rfl)
theorem dX6_shape_9 : decode cX6_shape 9 = .ok (.iload_n 1, 1) := dk_27 (dk_at dksX6_shape_0 9 rfl rfl)
theorem dX6_shape_10 : decode cX6_shape 10 = .ok (.tableswitch 110 0 5 #[38, 52, 66, 92, 98, 104], 38) := by decide +kernel
theorem dX6_shape_48 : decode cX6_shape 48 = .ok (.aload_n 0, 1) := dk_42 (dk_at dksX6_shape_2 0 rfl rfl)
theorem dX6_shape_49 : decode cX6_shape 49 = .ok (.iload_n 2, 1) := dk_28 (dk_at dksX6_shape_2 1 rfl rfl)
theorem dX6_shape_50 : decode cX6_shape 50 = .ok (.invokevirtual 96, 3) := dk_182 0 96 (dk_at dksX6_shape_2 2 rfl rfl)
theorem dX6_shape_53 : decode cX6_shape 53 = .ok (.ifCond .eq 7, 3) := dk_153 0 7 (dk_at dksX6_shape_2 5 rfl rfl)
theorem dX6_shape_56 : decode cX6_shape 56 = .ok (.iconst 1, 1) := dk_4 (dk_at dksX6_shape_2 8 rfl rfl)
theorem dX6_shape_57 : decode cX6_shape 57 = .ok (.goto 4, 3) := dk_167 0 4 (dk_at dksX6_shape_2 9 rfl rfl)
theorem dX6_shape_60 : decode cX6_shape 60 = .ok (.iconst 0, 1) := dk_3 (dk_at dksX6_shape_2 12 rfl rfl)
theorem dX6_shape_61 : decode cX6_shape 61 = .ok (.ireturn, 1) := dk_172 (dk_at dksX6_shape_2 13 rfl rfl)
theorem dX6_shape_62 : decode cX6_shape 62 = .ok (.aload_n 0, 1) := dk_42 (dk_at dksX6_shape_2 14 rfl rfl)
theorem dX6_shape_63 : decode cX6_shape 63 = .ok (.iload_n 2, 1) := dk_28 (dk_at dksX6_shape_2 15 rfl rfl)
theorem dX6_shape_64 : decode cX6_shape 64 = .ok (.invokevirtual 99, 3) := dk_182 0 99 (dk_at dksX6_shape_2 16 rfl rfl)
theorem dX6_shape_67 : decode cX6_shape 67 = .ok (.ifCond .eq 7, 3) := dk_153 0 7 (dk_at dksX6_shape_2 19 rfl rfl)
theorem dX6_shape_70 : decode cX6_shape 70 = .ok (.iconst 1, 1) := dk_4 (dk_at dksX6_shape_2 22 rfl rfl)
theorem dX6_shape_71 : decode cX6_shape 71 = .ok (.goto 4, 3) := dk_167 0 4 (dk_at dksX6_shape_3 0 rfl rfl)
theorem dX6_shape_74 : decode cX6_shape 74 = .ok (.iconst 0, 1) := dk_3 (dk_at dksX6_shape_3 3 rfl rfl)
theorem dX6_shape_75 : decode cX6_shape 75 = .ok (.ireturn, 1) := dk_172 (dk_at dksX6_shape_3 4 rfl rfl)
theorem dX6_shape_76 : decode cX6_shape 76 = .ok (.iload_n 2, 1) := dk_28 (dk_at dksX6_shape_3 5 rfl rfl)
theorem dX6_shape_77 : decode cX6_shape 77 = .ok (.ifCond .eq 23, 3) := dk_153 0 23 (dk_at dksX6_shape_3 6 rfl rfl)
theorem dX6_shape_80 : decode cX6_shape 80 = .ok (.aload_n 0, 1) := dk_42 (dk_at dksX6_shape_3 9 rfl rfl)
theorem dX6_shape_81 : decode cX6_shape 81 = .ok (.iload_n 2, 1) := dk_28 (dk_at dksX6_shape_3 10 rfl rfl)
theorem dX6_shape_82 : decode cX6_shape 82 = .ok (.invokevirtual 96, 3) := dk_182 0 96 (dk_at dksX6_shape_3 11 rfl rfl)
theorem dX6_shape_85 : decode cX6_shape 85 = .ok (.ifCond .ne 15, 3) := dk_154 0 15 (dk_at dksX6_shape_3 14 rfl rfl)
theorem dX6_shape_88 : decode cX6_shape 88 = .ok (.aload_n 0, 1) := dk_42 (dk_at dksX6_shape_3 17 rfl rfl)
theorem dX6_shape_89 : decode cX6_shape 89 = .ok (.iload_n 2, 1) := dk_28 (dk_at dksX6_shape_3 18 rfl rfl)
theorem dX6_shape_90 : decode cX6_shape 90 = .ok (.invokevirtual 99, 3) := dk_182 0 99 (dk_at dksX6_shape_3 19 rfl rfl)
theorem dX6_shape_93 : decode cX6_shape 93 = .ok (.ifCond .ne 7, 3) := dk_154 0 7 (dk_at dksX6_shape_4 0 rfl rfl)
theorem dX6_shape_96 : decode cX6_shape 96 = .ok (.iconst 1, 1) := dk_4 (dk_at dksX6_shape_4 3 rfl rfl)
theorem dX6_shape_97 : decode cX6_shape 97 = .ok (.goto 4, 3) := dk_167 0 4 (dk_at dksX6_shape_4 4 rfl rfl)
theorem dX6_shape_100 : decode cX6_shape 100 = .ok (.iconst 0, 1) := dk_3 (dk_at dksX6_shape_4 7 rfl rfl)
theorem dX6_shape_101 : decode cX6_shape 101 = .ok (.ireturn, 1) := dk_172 (dk_at dksX6_shape_4 8 rfl rfl)
theorem dX6_shape_102 : decode cX6_shape 102 = .ok (.aload_n 0, 1) := dk_42 (dk_at dksX6_shape_4 9 rfl rfl)
theorem dX6_shape_103 : decode cX6_shape 103 = .ok (.iload_n 2, 1) := dk_28 (dk_at dksX6_shape_4 10 rfl rfl)
theorem dX6_shape_104 : decode cX6_shape 104 = .ok (.invokevirtual 102, 3) := dk_182 0 102 (dk_at dksX6_shape_4 11 rfl rfl)
theorem dX6_shape_107 : decode cX6_shape 107 = .ok (.ireturn, 1) := dk_172 (dk_at dksX6_shape_4 14 rfl rfl)
theorem dX6_shape_108 : decode cX6_shape 108 = .ok (.aload_n 0, 1) := dk_42 (dk_at dksX6_shape_4 15 rfl rfl)
theorem dX6_shape_109 : decode cX6_shape 109 = .ok (.iload_n 2, 1) := dk_28 (dk_at dksX6_shape_4 16 rfl rfl)
theorem dX6_shape_110 : decode cX6_shape 110 = .ok (.invokevirtual 105, 3) := dk_182 0 105 (dk_at dksX6_shape_4 17 rfl rfl)
theorem dX6_shape_113 : decode cX6_shape 113 = .ok (.ireturn, 1) := dk_172 (dk_at dksX6_shape_4 20 rfl rfl)
theorem dX6_shape_114 : decode cX6_shape 114 = .ok (.aload_n 0, 1) := dk_42 (dk_at dksX6_shape_4 21 rfl rfl)
theorem dX6_shape_115 : decode cX6_shape 115 = .ok (.iload_n 2, 1) := dk_28 (dk_at dksX6_shape_4 22 rfl rfl)
theorem dX6_shape_116 : decode cX6_shape 116 = .ok (.invokevirtual 108, 3) := dk_182 0 108 (dk_at dksX6_shape_5 0 rfl rfl)
theorem dX6_shape_119 : decode cX6_shape 119 = .ok (.ireturn, 1) := dk_172 (dk_at dksX6_shape_5 3 rfl rfl)
theorem dX6_shape_120 : decode cX6_shape 120 = .ok (.bipush (-2), 2) := dk_16 254 (dk_at dksX6_shape_5 4 rfl rfl)
theorem dX6_shape_122 : decode cX6_shape 122 = .ok (.ireturn, 1) := dk_172 (dk_at dksX6_shape_5 6 rfl rfl)
abbrev cX6_isTurned : ByteArray := prog_16_method_21_code
def yX6_isTurned : MethodName := ⟨RX6, "isTurned", "(I)Z"⟩
def dkwX6_isTurned_3 : List UInt8 := [167, 255, 190, 28, 172]
abbrev dktX6_isTurned_3 : List UInt8 := dkwX6_isTurned_3 ++ []
def dkwX6_isTurned_2 : List UInt8 := [21, 4, 4, 182, 0, 76, 154, 0, 7, 4, 167, 0, 4, 3, 61, 132, 4, 1, 167, 255, 207, 132, 3, 1]
abbrev dktX6_isTurned_2 : List UInt8 := dkwX6_isTurned_2 ++ dktX6_isTurned_3
def dkwX6_isTurned_1 : List UInt8 := [154, 0, 33, 27, 29, 184, 0, 92, 153, 0, 29, 27, 21, 4, 184, 0, 92, 153, 0, 20, 42, 27, 29, 4]
abbrev dktX6_isTurned_1 : List UInt8 := dkwX6_isTurned_1 ++ dktX6_isTurned_2
def dkwX6_isTurned_0 : List UInt8 := [3, 61, 3, 62, 29, 42, 182, 0, 45, 162, 0, 64, 3, 54, 4, 21, 4, 29, 162, 0, 49, 28]
abbrev dktX6_isTurned_0 : List UInt8 := dkwX6_isTurned_0 ++ dktX6_isTurned_1
theorem dksX6_isTurned_0 : cX6_isTurned.data.toList.drop 0 = dktX6_isTurned_0 := by decide +kernel
theorem dksX6_isTurned_1 : cX6_isTurned.data.toList.drop 22 = dktX6_isTurned_1 := dk_seg dksX6_isTurned_0 22 rfl rfl
theorem dksX6_isTurned_2 : cX6_isTurned.data.toList.drop 46 = dktX6_isTurned_2 := dk_seg dksX6_isTurned_1 24 rfl rfl
theorem dksX6_isTurned_3 : cX6_isTurned.data.toList.drop 70 = dktX6_isTurned_3 := dk_seg dksX6_isTurned_2 24 rfl rfl
theorem dX6_isTurned_0 : decode cX6_isTurned 0 = .ok (.iconst 0, 1) := dk_3 (dk_at dksX6_isTurned_0 0 rfl rfl)
theorem dX6_isTurned_1 : decode cX6_isTurned 1 = .ok (.istore_n 2, 1) := dk_61 (dk_at dksX6_isTurned_0 1 rfl rfl)
theorem dX6_isTurned_2 : decode cX6_isTurned 2 = .ok (.iconst 0, 1) := dk_3 (dk_at dksX6_isTurned_0 2 rfl rfl)
theorem dX6_isTurned_3 : decode cX6_isTurned 3 = .ok (.istore_n 3, 1) := dk_62 (dk_at dksX6_isTurned_0 3 rfl rfl)
theorem dX6_isTurned_4 : decode cX6_isTurned 4 = .ok (.iload_n 3, 1) := dk_29 (dk_at dksX6_isTurned_0 4 rfl rfl)
theorem dX6_isTurned_5 : decode cX6_isTurned 5 = .ok (.aload_n 0, 1) := dk_42 (dk_at dksX6_isTurned_0 5 rfl rfl)
theorem dX6_isTurned_6 : decode cX6_isTurned 6 = .ok (.invokevirtual 45, 3) := dk_182 0 45 (dk_at dksX6_isTurned_0 6 rfl rfl)
theorem dX6_isTurned_9 : decode cX6_isTurned 9 = .ok (.if_icmp .ge 64, 3) := dk_162 0 64 (dk_at dksX6_isTurned_0 9 rfl rfl)
theorem dX6_isTurned_12 : decode cX6_isTurned 12 = .ok (.iconst 0, 1) := dk_3 (dk_at dksX6_isTurned_0 12 rfl rfl)
theorem dX6_isTurned_13 : decode cX6_isTurned 13 = .ok (.istore 4, 2) := dk_54 4 (dk_at dksX6_isTurned_0 13 rfl rfl)
theorem dX6_isTurned_15 : decode cX6_isTurned 15 = .ok (.iload 4, 2) := dk_21 4 (dk_at dksX6_isTurned_0 15 rfl rfl)
theorem dX6_isTurned_17 : decode cX6_isTurned 17 = .ok (.iload_n 3, 1) := dk_29 (dk_at dksX6_isTurned_0 17 rfl rfl)
theorem dX6_isTurned_18 : decode cX6_isTurned 18 = .ok (.if_icmp .ge 49, 3) := dk_162 0 49 (dk_at dksX6_isTurned_0 18 rfl rfl)
theorem dX6_isTurned_21 : decode cX6_isTurned 21 = .ok (.iload_n 2, 1) := dk_28 (dk_at dksX6_isTurned_0 21 rfl rfl)
theorem dX6_isTurned_22 : decode cX6_isTurned 22 = .ok (.ifCond .ne 33, 3) := dk_154 0 33 (dk_at dksX6_isTurned_1 0 rfl rfl)
theorem dX6_isTurned_25 : decode cX6_isTurned 25 = .ok (.iload_n 1, 1) := dk_27 (dk_at dksX6_isTurned_1 3 rfl rfl)
theorem dX6_isTurned_26 : decode cX6_isTurned 26 = .ok (.iload_n 3, 1) := dk_29 (dk_at dksX6_isTurned_1 4 rfl rfl)
theorem dX6_isTurned_27 : decode cX6_isTurned 27 = .ok (.invokestatic 92, 3) := dk_184 0 92 (dk_at dksX6_isTurned_1 5 rfl rfl)
theorem dX6_isTurned_30 : decode cX6_isTurned 30 = .ok (.ifCond .eq 29, 3) := dk_153 0 29 (dk_at dksX6_isTurned_1 8 rfl rfl)
theorem dX6_isTurned_33 : decode cX6_isTurned 33 = .ok (.iload_n 1, 1) := dk_27 (dk_at dksX6_isTurned_1 11 rfl rfl)
theorem dX6_isTurned_34 : decode cX6_isTurned 34 = .ok (.iload 4, 2) := dk_21 4 (dk_at dksX6_isTurned_1 12 rfl rfl)
theorem dX6_isTurned_36 : decode cX6_isTurned 36 = .ok (.invokestatic 92, 3) := dk_184 0 92 (dk_at dksX6_isTurned_1 14 rfl rfl)
theorem dX6_isTurned_39 : decode cX6_isTurned 39 = .ok (.ifCond .eq 20, 3) := dk_153 0 20 (dk_at dksX6_isTurned_1 17 rfl rfl)
theorem dX6_isTurned_42 : decode cX6_isTurned 42 = .ok (.aload_n 0, 1) := dk_42 (dk_at dksX6_isTurned_1 20 rfl rfl)
theorem dX6_isTurned_43 : decode cX6_isTurned 43 = .ok (.iload_n 1, 1) := dk_27 (dk_at dksX6_isTurned_1 21 rfl rfl)
theorem dX6_isTurned_44 : decode cX6_isTurned 44 = .ok (.iload_n 3, 1) := dk_29 (dk_at dksX6_isTurned_1 22 rfl rfl)
theorem dX6_isTurned_45 : decode cX6_isTurned 45 = .ok (.iconst 1, 1) := dk_4 (dk_at dksX6_isTurned_1 23 rfl rfl)
theorem dX6_isTurned_46 : decode cX6_isTurned 46 = .ok (.iload 4, 2) := dk_21 4 (dk_at dksX6_isTurned_2 0 rfl rfl)
theorem dX6_isTurned_48 : decode cX6_isTurned 48 = .ok (.iconst 1, 1) := dk_4 (dk_at dksX6_isTurned_2 2 rfl rfl)
theorem dX6_isTurned_49 : decode cX6_isTurned 49 = .ok (.invokevirtual 76, 3) := dk_182 0 76 (dk_at dksX6_isTurned_2 3 rfl rfl)
theorem dX6_isTurned_52 : decode cX6_isTurned 52 = .ok (.ifCond .ne 7, 3) := dk_154 0 7 (dk_at dksX6_isTurned_2 6 rfl rfl)
theorem dX6_isTurned_55 : decode cX6_isTurned 55 = .ok (.iconst 1, 1) := dk_4 (dk_at dksX6_isTurned_2 9 rfl rfl)
theorem dX6_isTurned_56 : decode cX6_isTurned 56 = .ok (.goto 4, 3) := dk_167 0 4 (dk_at dksX6_isTurned_2 10 rfl rfl)
theorem dX6_isTurned_59 : decode cX6_isTurned 59 = .ok (.iconst 0, 1) := dk_3 (dk_at dksX6_isTurned_2 13 rfl rfl)
theorem dX6_isTurned_60 : decode cX6_isTurned 60 = .ok (.istore_n 2, 1) := dk_61 (dk_at dksX6_isTurned_2 14 rfl rfl)
theorem dX6_isTurned_61 : decode cX6_isTurned 61 = .ok (.iinc 4 1, 3) := dk_132 4 1 (dk_at dksX6_isTurned_2 15 rfl rfl)
theorem dX6_isTurned_64 : decode cX6_isTurned 64 = .ok (.goto (-49), 3) := dk_167 255 207 (dk_at dksX6_isTurned_2 18 rfl rfl)
theorem dX6_isTurned_67 : decode cX6_isTurned 67 = .ok (.iinc 3 1, 3) := dk_132 3 1 (dk_at dksX6_isTurned_2 21 rfl rfl)
theorem dX6_isTurned_70 : decode cX6_isTurned 70 = .ok (.goto (-66), 3) := dk_167 255 190 (dk_at dksX6_isTurned_3 0 rfl rfl)
theorem dX6_isTurned_73 : decode cX6_isTurned 73 = .ok (.iload_n 2, 1) := dk_28 (dk_at dksX6_isTurned_3 3 rfl rfl)
theorem dX6_isTurned_74 : decode cX6_isTurned 74 = .ok (.ireturn, 1) := dk_172 (dk_at dksX6_isTurned_3 4 rfl rfl)
abbrev cX6_has : ByteArray := prog_16_method_20_code
def yX6_has : MethodName := ⟨RX6, "has", "(II)Z"⟩
def dkwX6_has_0 : List UInt8 := [26, 27, 122, 4, 126, 4, 160, 0, 7, 4, 167, 0, 4, 3, 172]
abbrev dktX6_has_0 : List UInt8 := dkwX6_has_0 ++ []
theorem dksX6_has_0 : cX6_has.data.toList.drop 0 = dktX6_has_0 := by decide +kernel
theorem dX6_has_0 : decode cX6_has 0 = .ok (.iload_n 0, 1) := dk_26 (dk_at dksX6_has_0 0 rfl rfl)
theorem dX6_has_1 : decode cX6_has 1 = .ok (.iload_n 1, 1) := dk_27 (dk_at dksX6_has_0 1 rfl rfl)
theorem dX6_has_2 : decode cX6_has 2 = .ok (.ishr, 1) := dk_122 (dk_at dksX6_has_0 2 rfl rfl)
theorem dX6_has_3 : decode cX6_has 3 = .ok (.iconst 1, 1) := dk_4 (dk_at dksX6_has_0 3 rfl rfl)
theorem dX6_has_4 : decode cX6_has 4 = .ok (.iand, 1) := dk_126 (dk_at dksX6_has_0 4 rfl rfl)
theorem dX6_has_5 : decode cX6_has 5 = .ok (.iconst 1, 1) := dk_4 (dk_at dksX6_has_0 5 rfl rfl)
theorem dX6_has_6 : decode cX6_has 6 = .ok (.if_icmp .ne 7, 3) := dk_160 0 7 (dk_at dksX6_has_0 6 rfl rfl)
theorem dX6_has_9 : decode cX6_has 9 = .ok (.iconst 1, 1) := dk_4 (dk_at dksX6_has_0 9 rfl rfl)
theorem dX6_has_10 : decode cX6_has 10 = .ok (.goto 4, 3) := dk_167 0 4 (dk_at dksX6_has_0 10 rfl rfl)
theorem dX6_has_13 : decode cX6_has 13 = .ok (.iconst 0, 1) := dk_3 (dk_at dksX6_has_0 13 rfl rfl)
theorem dX6_has_14 : decode cX6_has 14 = .ok (.ireturn, 1) := dk_172 (dk_at dksX6_has_0 14 rfl rfl)
abbrev cX6_isMirrored : ByteArray := prog_16_method_22_code
def yX6_isMirrored : MethodName := ⟨RX6, "isMirrored", "(I)Z"⟩
def dkwX6_isMirrored_3 : List UInt8 := [132, 3, 1, 167, 255, 187, 28, 172]
abbrev dktX6_isMirrored_3 : List UInt8 := dkwX6_isMirrored_3 ++ []
def dkwX6_isMirrored_2 : List UInt8 := [4, 21, 4, 2, 182, 0, 76, 154, 0, 7, 4, 167, 0, 4, 3, 61, 132, 4, 1, 167, 255, 204]
abbrev dktX6_isMirrored_2 : List UInt8 := dkwX6_isMirrored_2 ++ dktX6_isMirrored_3
def dkwX6_isMirrored_1 : List UInt8 := [28, 154, 0, 33, 27, 29, 184, 0, 92, 153, 0, 29, 27, 21, 4, 184, 0, 92, 153, 0, 20, 42, 27, 29]
abbrev dktX6_isMirrored_1 : List UInt8 := dkwX6_isMirrored_1 ++ dktX6_isMirrored_2
def dkwX6_isMirrored_0 : List UInt8 := [3, 61, 3, 62, 29, 42, 182, 0, 45, 162, 0, 67, 3, 54, 4, 21, 4, 42, 182, 0, 45, 162, 0, 49]
abbrev dktX6_isMirrored_0 : List UInt8 := dkwX6_isMirrored_0 ++ dktX6_isMirrored_1
theorem dksX6_isMirrored_0 : cX6_isMirrored.data.toList.drop 0 = dktX6_isMirrored_0 := by decide +kernel
theorem dksX6_isMirrored_1 : cX6_isMirrored.data.toList.drop 24 = dktX6_isMirrored_1 := dk_seg dksX6_isMirrored_0 24 rfl rfl
theorem dksX6_isMirrored_2 : cX6_isMirrored.data.toList.drop 48 = dktX6_isMirrored_2 := dk_seg dksX6_isMirrored_1 24 rfl rfl
theorem dksX6_isMirrored_3 : cX6_isMirrored.data.toList.drop 70 = dktX6_isMirrored_3 := dk_seg dksX6_isMirrored_2 22 rfl rfl
theorem dX6_isMirrored_0 : decode cX6_isMirrored 0 = .ok (.iconst 0, 1) := dk_3 (dk_at dksX6_isMirrored_0 0 rfl rfl)
theorem dX6_isMirrored_1 : decode cX6_isMirrored 1 = .ok (.istore_n 2, 1) := dk_61 (dk_at dksX6_isMirrored_0 1 rfl rfl)
theorem dX6_isMirrored_2 : decode cX6_isMirrored 2 = .ok (.iconst 0, 1) := dk_3 (dk_at dksX6_isMirrored_0 2 rfl rfl)
theorem dX6_isMirrored_3 : decode cX6_isMirrored 3 = .ok (.istore_n 3, 1) := dk_62 (dk_at dksX6_isMirrored_0 3 rfl rfl)
theorem dX6_isMirrored_4 : decode cX6_isMirrored 4 = .ok (.iload_n 3, 1) := dk_29 (dk_at dksX6_isMirrored_0 4 rfl rfl)
theorem dX6_isMirrored_5 : decode cX6_isMirrored 5 = .ok (.aload_n 0, 1) := dk_42 (dk_at dksX6_isMirrored_0 5 rfl rfl)
theorem dX6_isMirrored_6 : decode cX6_isMirrored 6 = .ok (.invokevirtual 45, 3) := dk_182 0 45 (dk_at dksX6_isMirrored_0 6 rfl rfl)
theorem dX6_isMirrored_9 : decode cX6_isMirrored 9 = .ok (.if_icmp .ge 67, 3) := dk_162 0 67 (dk_at dksX6_isMirrored_0 9 rfl rfl)
theorem dX6_isMirrored_12 : decode cX6_isMirrored 12 = .ok (.iconst 0, 1) := dk_3 (dk_at dksX6_isMirrored_0 12 rfl rfl)
theorem dX6_isMirrored_13 : decode cX6_isMirrored 13 = .ok (.istore 4, 2) := dk_54 4 (dk_at dksX6_isMirrored_0 13 rfl rfl)
theorem dX6_isMirrored_15 : decode cX6_isMirrored 15 = .ok (.iload 4, 2) := dk_21 4 (dk_at dksX6_isMirrored_0 15 rfl rfl)
theorem dX6_isMirrored_17 : decode cX6_isMirrored 17 = .ok (.aload_n 0, 1) := dk_42 (dk_at dksX6_isMirrored_0 17 rfl rfl)
theorem dX6_isMirrored_18 : decode cX6_isMirrored 18 = .ok (.invokevirtual 45, 3) := dk_182 0 45 (dk_at dksX6_isMirrored_0 18 rfl rfl)
theorem dX6_isMirrored_21 : decode cX6_isMirrored 21 = .ok (.if_icmp .ge 49, 3) := dk_162 0 49 (dk_at dksX6_isMirrored_0 21 rfl rfl)
theorem dX6_isMirrored_24 : decode cX6_isMirrored 24 = .ok (.iload_n 2, 1) := dk_28 (dk_at dksX6_isMirrored_1 0 rfl rfl)
theorem dX6_isMirrored_25 : decode cX6_isMirrored 25 = .ok (.ifCond .ne 33, 3) := dk_154 0 33 (dk_at dksX6_isMirrored_1 1 rfl rfl)
theorem dX6_isMirrored_28 : decode cX6_isMirrored 28 = .ok (.iload_n 1, 1) := dk_27 (dk_at dksX6_isMirrored_1 4 rfl rfl)
theorem dX6_isMirrored_29 : decode cX6_isMirrored 29 = .ok (.iload_n 3, 1) := dk_29 (dk_at dksX6_isMirrored_1 5 rfl rfl)
theorem dX6_isMirrored_30 : decode cX6_isMirrored 30 = .ok (.invokestatic 92, 3) := dk_184 0 92 (dk_at dksX6_isMirrored_1 6 rfl rfl)
theorem dX6_isMirrored_33 : decode cX6_isMirrored 33 = .ok (.ifCond .eq 29, 3) := dk_153 0 29 (dk_at dksX6_isMirrored_1 9 rfl rfl)
theorem dX6_isMirrored_36 : decode cX6_isMirrored 36 = .ok (.iload_n 1, 1) := dk_27 (dk_at dksX6_isMirrored_1 12 rfl rfl)
theorem dX6_isMirrored_37 : decode cX6_isMirrored 37 = .ok (.iload 4, 2) := dk_21 4 (dk_at dksX6_isMirrored_1 13 rfl rfl)
theorem dX6_isMirrored_39 : decode cX6_isMirrored 39 = .ok (.invokestatic 92, 3) := dk_184 0 92 (dk_at dksX6_isMirrored_1 15 rfl rfl)
theorem dX6_isMirrored_42 : decode cX6_isMirrored 42 = .ok (.ifCond .eq 20, 3) := dk_153 0 20 (dk_at dksX6_isMirrored_1 18 rfl rfl)
theorem dX6_isMirrored_45 : decode cX6_isMirrored 45 = .ok (.aload_n 0, 1) := dk_42 (dk_at dksX6_isMirrored_1 21 rfl rfl)
theorem dX6_isMirrored_46 : decode cX6_isMirrored 46 = .ok (.iload_n 1, 1) := dk_27 (dk_at dksX6_isMirrored_1 22 rfl rfl)
theorem dX6_isMirrored_47 : decode cX6_isMirrored 47 = .ok (.iload_n 3, 1) := dk_29 (dk_at dksX6_isMirrored_1 23 rfl rfl)
theorem dX6_isMirrored_48 : decode cX6_isMirrored 48 = .ok (.iconst 1, 1) := dk_4 (dk_at dksX6_isMirrored_2 0 rfl rfl)
theorem dX6_isMirrored_49 : decode cX6_isMirrored 49 = .ok (.iload 4, 2) := dk_21 4 (dk_at dksX6_isMirrored_2 1 rfl rfl)
theorem dX6_isMirrored_51 : decode cX6_isMirrored 51 = .ok (.iconst (-1), 1) := dk_2 (dk_at dksX6_isMirrored_2 3 rfl rfl)
theorem dX6_isMirrored_52 : decode cX6_isMirrored 52 = .ok (.invokevirtual 76, 3) := dk_182 0 76 (dk_at dksX6_isMirrored_2 4 rfl rfl)
theorem dX6_isMirrored_55 : decode cX6_isMirrored 55 = .ok (.ifCond .ne 7, 3) := dk_154 0 7 (dk_at dksX6_isMirrored_2 7 rfl rfl)
theorem dX6_isMirrored_58 : decode cX6_isMirrored 58 = .ok (.iconst 1, 1) := dk_4 (dk_at dksX6_isMirrored_2 10 rfl rfl)
theorem dX6_isMirrored_59 : decode cX6_isMirrored 59 = .ok (.goto 4, 3) := dk_167 0 4 (dk_at dksX6_isMirrored_2 11 rfl rfl)
theorem dX6_isMirrored_62 : decode cX6_isMirrored 62 = .ok (.iconst 0, 1) := dk_3 (dk_at dksX6_isMirrored_2 14 rfl rfl)
theorem dX6_isMirrored_63 : decode cX6_isMirrored 63 = .ok (.istore_n 2, 1) := dk_61 (dk_at dksX6_isMirrored_2 15 rfl rfl)
theorem dX6_isMirrored_64 : decode cX6_isMirrored 64 = .ok (.iinc 4 1, 3) := dk_132 4 1 (dk_at dksX6_isMirrored_2 16 rfl rfl)
theorem dX6_isMirrored_67 : decode cX6_isMirrored 67 = .ok (.goto (-52), 3) := dk_167 255 204 (dk_at dksX6_isMirrored_2 19 rfl rfl)
theorem dX6_isMirrored_70 : decode cX6_isMirrored 70 = .ok (.iinc 3 1, 3) := dk_132 3 1 (dk_at dksX6_isMirrored_3 0 rfl rfl)
theorem dX6_isMirrored_73 : decode cX6_isMirrored 73 = .ok (.goto (-69), 3) := dk_167 255 187 (dk_at dksX6_isMirrored_3 3 rfl rfl)
theorem dX6_isMirrored_76 : decode cX6_isMirrored 76 = .ok (.iload_n 2, 1) := dk_28 (dk_at dksX6_isMirrored_3 6 rfl rfl)
theorem dX6_isMirrored_77 : decode cX6_isMirrored 77 = .ok (.ireturn, 1) := dk_172 (dk_at dksX6_isMirrored_3 7 rfl rfl)
abbrev cX6_even : ByteArray := prog_16_method_23_code
def yX6_even : MethodName := ⟨RX6, "even", "(I)I"⟩
def dkwX6_even_1 : List UInt8 := [4, 29, 2, 182, 0, 76, 154, 0, 7, 4, 167, 0, 4, 3, 96, 61, 132, 3, 1, 167, 255, 217, 28, 172]
abbrev dktX6_even_1 : List UInt8 := dkwX6_even_1 ++ []
def dkwX6_even_0 : List UInt8 := [3, 61, 3, 62, 29, 42, 182, 0, 45, 162, 0, 37, 28, 27, 29, 184, 0, 92, 153, 0, 19, 42, 27, 29]
abbrev dktX6_even_0 : List UInt8 := dkwX6_even_0 ++ dktX6_even_1
theorem dksX6_even_0 : cX6_even.data.toList.drop 0 = dktX6_even_0 := by decide +kernel
theorem dksX6_even_1 : cX6_even.data.toList.drop 24 = dktX6_even_1 := dk_seg dksX6_even_0 24 rfl rfl
theorem dX6_even_0 : decode cX6_even 0 = .ok (.iconst 0, 1) := dk_3 (dk_at dksX6_even_0 0 rfl rfl)
theorem dX6_even_1 : decode cX6_even 1 = .ok (.istore_n 2, 1) := dk_61 (dk_at dksX6_even_0 1 rfl rfl)
theorem dX6_even_2 : decode cX6_even 2 = .ok (.iconst 0, 1) := dk_3 (dk_at dksX6_even_0 2 rfl rfl)
theorem dX6_even_3 : decode cX6_even 3 = .ok (.istore_n 3, 1) := dk_62 (dk_at dksX6_even_0 3 rfl rfl)
theorem dX6_even_4 : decode cX6_even 4 = .ok (.iload_n 3, 1) := dk_29 (dk_at dksX6_even_0 4 rfl rfl)
theorem dX6_even_5 : decode cX6_even 5 = .ok (.aload_n 0, 1) := dk_42 (dk_at dksX6_even_0 5 rfl rfl)
theorem dX6_even_6 : decode cX6_even 6 = .ok (.invokevirtual 45, 3) := dk_182 0 45 (dk_at dksX6_even_0 6 rfl rfl)
theorem dX6_even_9 : decode cX6_even 9 = .ok (.if_icmp .ge 37, 3) := dk_162 0 37 (dk_at dksX6_even_0 9 rfl rfl)
theorem dX6_even_12 : decode cX6_even 12 = .ok (.iload_n 2, 1) := dk_28 (dk_at dksX6_even_0 12 rfl rfl)
theorem dX6_even_13 : decode cX6_even 13 = .ok (.iload_n 1, 1) := dk_27 (dk_at dksX6_even_0 13 rfl rfl)
theorem dX6_even_14 : decode cX6_even 14 = .ok (.iload_n 3, 1) := dk_29 (dk_at dksX6_even_0 14 rfl rfl)
theorem dX6_even_15 : decode cX6_even 15 = .ok (.invokestatic 92, 3) := dk_184 0 92 (dk_at dksX6_even_0 15 rfl rfl)
theorem dX6_even_18 : decode cX6_even 18 = .ok (.ifCond .eq 19, 3) := dk_153 0 19 (dk_at dksX6_even_0 18 rfl rfl)
theorem dX6_even_21 : decode cX6_even 21 = .ok (.aload_n 0, 1) := dk_42 (dk_at dksX6_even_0 21 rfl rfl)
theorem dX6_even_22 : decode cX6_even 22 = .ok (.iload_n 1, 1) := dk_27 (dk_at dksX6_even_0 22 rfl rfl)
theorem dX6_even_23 : decode cX6_even 23 = .ok (.iload_n 3, 1) := dk_29 (dk_at dksX6_even_0 23 rfl rfl)
theorem dX6_even_24 : decode cX6_even 24 = .ok (.iconst 1, 1) := dk_4 (dk_at dksX6_even_1 0 rfl rfl)
theorem dX6_even_25 : decode cX6_even 25 = .ok (.iload_n 3, 1) := dk_29 (dk_at dksX6_even_1 1 rfl rfl)
theorem dX6_even_26 : decode cX6_even 26 = .ok (.iconst (-1), 1) := dk_2 (dk_at dksX6_even_1 2 rfl rfl)
theorem dX6_even_27 : decode cX6_even 27 = .ok (.invokevirtual 76, 3) := dk_182 0 76 (dk_at dksX6_even_1 3 rfl rfl)
theorem dX6_even_30 : decode cX6_even 30 = .ok (.ifCond .ne 7, 3) := dk_154 0 7 (dk_at dksX6_even_1 6 rfl rfl)
theorem dX6_even_33 : decode cX6_even 33 = .ok (.iconst 1, 1) := dk_4 (dk_at dksX6_even_1 9 rfl rfl)
theorem dX6_even_34 : decode cX6_even 34 = .ok (.goto 4, 3) := dk_167 0 4 (dk_at dksX6_even_1 10 rfl rfl)
theorem dX6_even_37 : decode cX6_even 37 = .ok (.iconst 0, 1) := dk_3 (dk_at dksX6_even_1 13 rfl rfl)
theorem dX6_even_38 : decode cX6_even 38 = .ok (.iadd, 1) := dk_96 (dk_at dksX6_even_1 14 rfl rfl)
theorem dX6_even_39 : decode cX6_even 39 = .ok (.istore_n 2, 1) := dk_61 (dk_at dksX6_even_1 15 rfl rfl)
theorem dX6_even_40 : decode cX6_even 40 = .ok (.iinc 3 1, 3) := dk_132 3 1 (dk_at dksX6_even_1 16 rfl rfl)
theorem dX6_even_43 : decode cX6_even 43 = .ok (.goto (-39), 3) := dk_167 255 217 (dk_at dksX6_even_1 19 rfl rfl)
theorem dX6_even_46 : decode cX6_even 46 = .ok (.iload_n 2, 1) := dk_28 (dk_at dksX6_even_1 22 rfl rfl)
theorem dX6_even_47 : decode cX6_even 47 = .ok (.ireturn, 1) := dk_172 (dk_at dksX6_even_1 23 rfl rfl)
abbrev cX6_views : ByteArray := prog_16_method_24_code
def yX6_views : MethodName := ⟨RX6, "views", "(I)I"⟩
def dkwX6_views_4 : List UInt8 := [167, 255, 165, 28, 172]
abbrev dktX6_views_4 : List UInt8 := dkwX6_views_4 ++ []
def dkwX6_views_3 : List UInt8 := [54, 4, 132, 5, 1, 167, 255, 202, 28, 21, 4, 153, 0, 7, 4, 167, 0, 4, 3, 96, 61, 132, 3, 1]
abbrev dktX6_views_3 : List UInt8 := dkwX6_views_3 ++ dktX6_views_4
def dkwX6_views_2 : List UInt8 := [182, 0, 89, 21, 5, 42, 27, 21, 5, 182, 0, 89, 182, 0, 76, 153, 0, 7, 4, 167, 0, 4, 3]
abbrev dktX6_views_2 : List UInt8 := dkwX6_views_2 ++ dktX6_views_3
def dkwX6_views_1 : List UInt8 := [29, 162, 0, 54, 21, 4, 153, 0, 49, 27, 21, 5, 184, 0, 92, 153, 0, 27, 42, 27, 29, 42, 27, 29]
abbrev dktX6_views_1 : List UInt8 := dkwX6_views_1 ++ dktX6_views_2
def dkwX6_views_0 : List UInt8 := [3, 61, 3, 62, 29, 42, 182, 0, 45, 162, 0, 89, 27, 29, 184, 0, 92, 54, 4, 3, 54, 5, 21, 5]
abbrev dktX6_views_0 : List UInt8 := dkwX6_views_0 ++ dktX6_views_1
theorem dksX6_views_0 : cX6_views.data.toList.drop 0 = dktX6_views_0 := by decide +kernel
theorem dksX6_views_1 : cX6_views.data.toList.drop 24 = dktX6_views_1 := dk_seg dksX6_views_0 24 rfl rfl
theorem dksX6_views_2 : cX6_views.data.toList.drop 48 = dktX6_views_2 := dk_seg dksX6_views_1 24 rfl rfl
theorem dksX6_views_3 : cX6_views.data.toList.drop 71 = dktX6_views_3 := dk_seg dksX6_views_2 23 rfl rfl
theorem dksX6_views_4 : cX6_views.data.toList.drop 95 = dktX6_views_4 := dk_seg dksX6_views_3 24 rfl rfl
theorem dX6_views_0 : decode cX6_views 0 = .ok (.iconst 0, 1) := dk_3 (dk_at dksX6_views_0 0 rfl rfl)
theorem dX6_views_1 : decode cX6_views 1 = .ok (.istore_n 2, 1) := dk_61 (dk_at dksX6_views_0 1 rfl rfl)
theorem dX6_views_2 : decode cX6_views 2 = .ok (.iconst 0, 1) := dk_3 (dk_at dksX6_views_0 2 rfl rfl)
theorem dX6_views_3 : decode cX6_views 3 = .ok (.istore_n 3, 1) := dk_62 (dk_at dksX6_views_0 3 rfl rfl)
theorem dX6_views_4 : decode cX6_views 4 = .ok (.iload_n 3, 1) := dk_29 (dk_at dksX6_views_0 4 rfl rfl)
theorem dX6_views_5 : decode cX6_views 5 = .ok (.aload_n 0, 1) := dk_42 (dk_at dksX6_views_0 5 rfl rfl)
theorem dX6_views_6 : decode cX6_views 6 = .ok (.invokevirtual 45, 3) := dk_182 0 45 (dk_at dksX6_views_0 6 rfl rfl)
theorem dX6_views_9 : decode cX6_views 9 = .ok (.if_icmp .ge 89, 3) := dk_162 0 89 (dk_at dksX6_views_0 9 rfl rfl)
theorem dX6_views_12 : decode cX6_views 12 = .ok (.iload_n 1, 1) := dk_27 (dk_at dksX6_views_0 12 rfl rfl)
theorem dX6_views_13 : decode cX6_views 13 = .ok (.iload_n 3, 1) := dk_29 (dk_at dksX6_views_0 13 rfl rfl)
theorem dX6_views_14 : decode cX6_views 14 = .ok (.invokestatic 92, 3) := dk_184 0 92 (dk_at dksX6_views_0 14 rfl rfl)
theorem dX6_views_17 : decode cX6_views 17 = .ok (.istore 4, 2) := dk_54 4 (dk_at dksX6_views_0 17 rfl rfl)
theorem dX6_views_19 : decode cX6_views 19 = .ok (.iconst 0, 1) := dk_3 (dk_at dksX6_views_0 19 rfl rfl)
theorem dX6_views_20 : decode cX6_views 20 = .ok (.istore 5, 2) := dk_54 5 (dk_at dksX6_views_0 20 rfl rfl)
theorem dX6_views_22 : decode cX6_views 22 = .ok (.iload 5, 2) := dk_21 5 (dk_at dksX6_views_0 22 rfl rfl)
theorem dX6_views_24 : decode cX6_views 24 = .ok (.iload_n 3, 1) := dk_29 (dk_at dksX6_views_1 0 rfl rfl)
theorem dX6_views_25 : decode cX6_views 25 = .ok (.if_icmp .ge 54, 3) := dk_162 0 54 (dk_at dksX6_views_1 1 rfl rfl)
theorem dX6_views_28 : decode cX6_views 28 = .ok (.iload 4, 2) := dk_21 4 (dk_at dksX6_views_1 4 rfl rfl)
theorem dX6_views_30 : decode cX6_views 30 = .ok (.ifCond .eq 49, 3) := dk_153 0 49 (dk_at dksX6_views_1 6 rfl rfl)
theorem dX6_views_33 : decode cX6_views 33 = .ok (.iload_n 1, 1) := dk_27 (dk_at dksX6_views_1 9 rfl rfl)
theorem dX6_views_34 : decode cX6_views 34 = .ok (.iload 5, 2) := dk_21 5 (dk_at dksX6_views_1 10 rfl rfl)
theorem dX6_views_36 : decode cX6_views 36 = .ok (.invokestatic 92, 3) := dk_184 0 92 (dk_at dksX6_views_1 12 rfl rfl)
theorem dX6_views_39 : decode cX6_views 39 = .ok (.ifCond .eq 27, 3) := dk_153 0 27 (dk_at dksX6_views_1 15 rfl rfl)
theorem dX6_views_42 : decode cX6_views 42 = .ok (.aload_n 0, 1) := dk_42 (dk_at dksX6_views_1 18 rfl rfl)
theorem dX6_views_43 : decode cX6_views 43 = .ok (.iload_n 1, 1) := dk_27 (dk_at dksX6_views_1 19 rfl rfl)
theorem dX6_views_44 : decode cX6_views 44 = .ok (.iload_n 3, 1) := dk_29 (dk_at dksX6_views_1 20 rfl rfl)
theorem dX6_views_45 : decode cX6_views 45 = .ok (.aload_n 0, 1) := dk_42 (dk_at dksX6_views_1 21 rfl rfl)
theorem dX6_views_46 : decode cX6_views 46 = .ok (.iload_n 1, 1) := dk_27 (dk_at dksX6_views_1 22 rfl rfl)
theorem dX6_views_47 : decode cX6_views 47 = .ok (.iload_n 3, 1) := dk_29 (dk_at dksX6_views_1 23 rfl rfl)
theorem dX6_views_48 : decode cX6_views 48 = .ok (.invokevirtual 89, 3) := dk_182 0 89 (dk_at dksX6_views_2 0 rfl rfl)
theorem dX6_views_51 : decode cX6_views 51 = .ok (.iload 5, 2) := dk_21 5 (dk_at dksX6_views_2 3 rfl rfl)
theorem dX6_views_53 : decode cX6_views 53 = .ok (.aload_n 0, 1) := dk_42 (dk_at dksX6_views_2 5 rfl rfl)
theorem dX6_views_54 : decode cX6_views 54 = .ok (.iload_n 1, 1) := dk_27 (dk_at dksX6_views_2 6 rfl rfl)
theorem dX6_views_55 : decode cX6_views 55 = .ok (.iload 5, 2) := dk_21 5 (dk_at dksX6_views_2 7 rfl rfl)
theorem dX6_views_57 : decode cX6_views 57 = .ok (.invokevirtual 89, 3) := dk_182 0 89 (dk_at dksX6_views_2 9 rfl rfl)
theorem dX6_views_60 : decode cX6_views 60 = .ok (.invokevirtual 76, 3) := dk_182 0 76 (dk_at dksX6_views_2 12 rfl rfl)
theorem dX6_views_63 : decode cX6_views 63 = .ok (.ifCond .eq 7, 3) := dk_153 0 7 (dk_at dksX6_views_2 15 rfl rfl)
theorem dX6_views_66 : decode cX6_views 66 = .ok (.iconst 1, 1) := dk_4 (dk_at dksX6_views_2 18 rfl rfl)
theorem dX6_views_67 : decode cX6_views 67 = .ok (.goto 4, 3) := dk_167 0 4 (dk_at dksX6_views_2 19 rfl rfl)
theorem dX6_views_70 : decode cX6_views 70 = .ok (.iconst 0, 1) := dk_3 (dk_at dksX6_views_2 22 rfl rfl)
theorem dX6_views_71 : decode cX6_views 71 = .ok (.istore 4, 2) := dk_54 4 (dk_at dksX6_views_3 0 rfl rfl)
theorem dX6_views_73 : decode cX6_views 73 = .ok (.iinc 5 1, 3) := dk_132 5 1 (dk_at dksX6_views_3 2 rfl rfl)
theorem dX6_views_76 : decode cX6_views 76 = .ok (.goto (-54), 3) := dk_167 255 202 (dk_at dksX6_views_3 5 rfl rfl)
theorem dX6_views_79 : decode cX6_views 79 = .ok (.iload_n 2, 1) := dk_28 (dk_at dksX6_views_3 8 rfl rfl)
theorem dX6_views_80 : decode cX6_views 80 = .ok (.iload 4, 2) := dk_21 4 (dk_at dksX6_views_3 9 rfl rfl)
theorem dX6_views_82 : decode cX6_views 82 = .ok (.ifCond .eq 7, 3) := dk_153 0 7 (dk_at dksX6_views_3 11 rfl rfl)
theorem dX6_views_85 : decode cX6_views 85 = .ok (.iconst 1, 1) := dk_4 (dk_at dksX6_views_3 14 rfl rfl)
theorem dX6_views_86 : decode cX6_views 86 = .ok (.goto 4, 3) := dk_167 0 4 (dk_at dksX6_views_3 15 rfl rfl)
theorem dX6_views_89 : decode cX6_views 89 = .ok (.iconst 0, 1) := dk_3 (dk_at dksX6_views_3 18 rfl rfl)
theorem dX6_views_90 : decode cX6_views 90 = .ok (.iadd, 1) := dk_96 (dk_at dksX6_views_3 19 rfl rfl)
theorem dX6_views_91 : decode cX6_views 91 = .ok (.istore_n 2, 1) := dk_61 (dk_at dksX6_views_3 20 rfl rfl)
theorem dX6_views_92 : decode cX6_views 92 = .ok (.iinc 3 1, 3) := dk_132 3 1 (dk_at dksX6_views_3 21 rfl rfl)
theorem dX6_views_95 : decode cX6_views 95 = .ok (.goto (-91), 3) := dk_167 255 165 (dk_at dksX6_views_4 0 rfl rfl)
theorem dX6_views_98 : decode cX6_views 98 = .ok (.iload_n 2, 1) := dk_28 (dk_at dksX6_views_4 3 rfl rfl)
theorem dX6_views_99 : decode cX6_views 99 = .ok (.ireturn, 1) := dk_172 (dk_at dksX6_views_4 4 rfl rfl)
abbrev cX6_turnedBy : ByteArray := prog_16_method_25_code
def yX6_turnedBy : MethodName := ⟨RX6, "turnedBy", "(I)I"⟩
def dkwX6_turnedBy_3 : List UInt8 := [153, 0, 5, 28, 172, 132, 2, 1, 167, 255, 187, 42, 182, 0, 45, 172]
abbrev dktX6_turnedBy_3 : List UInt8 := dkwX6_turnedBy_3 ++ []
def dkwX6_turnedBy_2 : List UInt8 := [182, 0, 45, 112, 184, 0, 92, 160, 0, 7, 4, 167, 0, 4, 3, 62, 132, 4, 1, 167, 255, 212, 29]
abbrev dktX6_turnedBy_2 : List UInt8 := dkwX6_turnedBy_2 ++ dktX6_turnedBy_3
def dkwX6_turnedBy_1 : List UInt8 := [42, 182, 0, 45, 162, 0, 41, 29, 153, 0, 29, 27, 21, 4, 184, 0, 92, 27, 21, 4, 28, 96, 42]
abbrev dktX6_turnedBy_1 : List UInt8 := dkwX6_turnedBy_1 ++ dktX6_turnedBy_2
def dkwX6_turnedBy_0 : List UInt8 := [27, 154, 0, 6, 16, 250, 172, 4, 61, 28, 42, 182, 0, 45, 162, 0, 67, 4, 62, 3, 54, 4, 21, 4]
abbrev dktX6_turnedBy_0 : List UInt8 := dkwX6_turnedBy_0 ++ dktX6_turnedBy_1
theorem dksX6_turnedBy_0 : cX6_turnedBy.data.toList.drop 0 = dktX6_turnedBy_0 := by decide +kernel
theorem dksX6_turnedBy_1 : cX6_turnedBy.data.toList.drop 24 = dktX6_turnedBy_1 := dk_seg dksX6_turnedBy_0 24 rfl rfl
theorem dksX6_turnedBy_2 : cX6_turnedBy.data.toList.drop 47 = dktX6_turnedBy_2 := dk_seg dksX6_turnedBy_1 23 rfl rfl
theorem dksX6_turnedBy_3 : cX6_turnedBy.data.toList.drop 70 = dktX6_turnedBy_3 := dk_seg dksX6_turnedBy_2 23 rfl rfl
theorem dX6_turnedBy_0 : decode cX6_turnedBy 0 = .ok (.iload_n 1, 1) := dk_27 (dk_at dksX6_turnedBy_0 0 rfl rfl)
theorem dX6_turnedBy_1 : decode cX6_turnedBy 1 = .ok (.ifCond .ne 6, 3) := dk_154 0 6 (dk_at dksX6_turnedBy_0 1 rfl rfl)
theorem dX6_turnedBy_4 : decode cX6_turnedBy 4 = .ok (.bipush (-6), 2) := dk_16 250 (dk_at dksX6_turnedBy_0 4 rfl rfl)
theorem dX6_turnedBy_6 : decode cX6_turnedBy 6 = .ok (.ireturn, 1) := dk_172 (dk_at dksX6_turnedBy_0 6 rfl rfl)
theorem dX6_turnedBy_7 : decode cX6_turnedBy 7 = .ok (.iconst 1, 1) := dk_4 (dk_at dksX6_turnedBy_0 7 rfl rfl)
theorem dX6_turnedBy_8 : decode cX6_turnedBy 8 = .ok (.istore_n 2, 1) := dk_61 (dk_at dksX6_turnedBy_0 8 rfl rfl)
theorem dX6_turnedBy_9 : decode cX6_turnedBy 9 = .ok (.iload_n 2, 1) := dk_28 (dk_at dksX6_turnedBy_0 9 rfl rfl)
theorem dX6_turnedBy_10 : decode cX6_turnedBy 10 = .ok (.aload_n 0, 1) := dk_42 (dk_at dksX6_turnedBy_0 10 rfl rfl)
theorem dX6_turnedBy_11 : decode cX6_turnedBy 11 = .ok (.invokevirtual 45, 3) := dk_182 0 45 (dk_at dksX6_turnedBy_0 11 rfl rfl)
theorem dX6_turnedBy_14 : decode cX6_turnedBy 14 = .ok (.if_icmp .ge 67, 3) := dk_162 0 67 (dk_at dksX6_turnedBy_0 14 rfl rfl)
theorem dX6_turnedBy_17 : decode cX6_turnedBy 17 = .ok (.iconst 1, 1) := dk_4 (dk_at dksX6_turnedBy_0 17 rfl rfl)
theorem dX6_turnedBy_18 : decode cX6_turnedBy 18 = .ok (.istore_n 3, 1) := dk_62 (dk_at dksX6_turnedBy_0 18 rfl rfl)
theorem dX6_turnedBy_19 : decode cX6_turnedBy 19 = .ok (.iconst 0, 1) := dk_3 (dk_at dksX6_turnedBy_0 19 rfl rfl)
theorem dX6_turnedBy_20 : decode cX6_turnedBy 20 = .ok (.istore 4, 2) := dk_54 4 (dk_at dksX6_turnedBy_0 20 rfl rfl)
theorem dX6_turnedBy_22 : decode cX6_turnedBy 22 = .ok (.iload 4, 2) := dk_21 4 (dk_at dksX6_turnedBy_0 22 rfl rfl)
theorem dX6_turnedBy_24 : decode cX6_turnedBy 24 = .ok (.aload_n 0, 1) := dk_42 (dk_at dksX6_turnedBy_1 0 rfl rfl)
theorem dX6_turnedBy_25 : decode cX6_turnedBy 25 = .ok (.invokevirtual 45, 3) := dk_182 0 45 (dk_at dksX6_turnedBy_1 1 rfl rfl)
theorem dX6_turnedBy_28 : decode cX6_turnedBy 28 = .ok (.if_icmp .ge 41, 3) := dk_162 0 41 (dk_at dksX6_turnedBy_1 4 rfl rfl)
theorem dX6_turnedBy_31 : decode cX6_turnedBy 31 = .ok (.iload_n 3, 1) := dk_29 (dk_at dksX6_turnedBy_1 7 rfl rfl)
theorem dX6_turnedBy_32 : decode cX6_turnedBy 32 = .ok (.ifCond .eq 29, 3) := dk_153 0 29 (dk_at dksX6_turnedBy_1 8 rfl rfl)
theorem dX6_turnedBy_35 : decode cX6_turnedBy 35 = .ok (.iload_n 1, 1) := dk_27 (dk_at dksX6_turnedBy_1 11 rfl rfl)
theorem dX6_turnedBy_36 : decode cX6_turnedBy 36 = .ok (.iload 4, 2) := dk_21 4 (dk_at dksX6_turnedBy_1 12 rfl rfl)
theorem dX6_turnedBy_38 : decode cX6_turnedBy 38 = .ok (.invokestatic 92, 3) := dk_184 0 92 (dk_at dksX6_turnedBy_1 14 rfl rfl)
theorem dX6_turnedBy_41 : decode cX6_turnedBy 41 = .ok (.iload_n 1, 1) := dk_27 (dk_at dksX6_turnedBy_1 17 rfl rfl)
theorem dX6_turnedBy_42 : decode cX6_turnedBy 42 = .ok (.iload 4, 2) := dk_21 4 (dk_at dksX6_turnedBy_1 18 rfl rfl)
theorem dX6_turnedBy_44 : decode cX6_turnedBy 44 = .ok (.iload_n 2, 1) := dk_28 (dk_at dksX6_turnedBy_1 20 rfl rfl)
theorem dX6_turnedBy_45 : decode cX6_turnedBy 45 = .ok (.iadd, 1) := dk_96 (dk_at dksX6_turnedBy_1 21 rfl rfl)
theorem dX6_turnedBy_46 : decode cX6_turnedBy 46 = .ok (.aload_n 0, 1) := dk_42 (dk_at dksX6_turnedBy_1 22 rfl rfl)
theorem dX6_turnedBy_47 : decode cX6_turnedBy 47 = .ok (.invokevirtual 45, 3) := dk_182 0 45 (dk_at dksX6_turnedBy_2 0 rfl rfl)
theorem dX6_turnedBy_50 : decode cX6_turnedBy 50 = .ok (.irem, 1) := dk_112 (dk_at dksX6_turnedBy_2 3 rfl rfl)
theorem dX6_turnedBy_51 : decode cX6_turnedBy 51 = .ok (.invokestatic 92, 3) := dk_184 0 92 (dk_at dksX6_turnedBy_2 4 rfl rfl)
theorem dX6_turnedBy_54 : decode cX6_turnedBy 54 = .ok (.if_icmp .ne 7, 3) := dk_160 0 7 (dk_at dksX6_turnedBy_2 7 rfl rfl)
theorem dX6_turnedBy_57 : decode cX6_turnedBy 57 = .ok (.iconst 1, 1) := dk_4 (dk_at dksX6_turnedBy_2 10 rfl rfl)
theorem dX6_turnedBy_58 : decode cX6_turnedBy 58 = .ok (.goto 4, 3) := dk_167 0 4 (dk_at dksX6_turnedBy_2 11 rfl rfl)
theorem dX6_turnedBy_61 : decode cX6_turnedBy 61 = .ok (.iconst 0, 1) := dk_3 (dk_at dksX6_turnedBy_2 14 rfl rfl)
theorem dX6_turnedBy_62 : decode cX6_turnedBy 62 = .ok (.istore_n 3, 1) := dk_62 (dk_at dksX6_turnedBy_2 15 rfl rfl)
theorem dX6_turnedBy_63 : decode cX6_turnedBy 63 = .ok (.iinc 4 1, 3) := dk_132 4 1 (dk_at dksX6_turnedBy_2 16 rfl rfl)
theorem dX6_turnedBy_66 : decode cX6_turnedBy 66 = .ok (.goto (-44), 3) := dk_167 255 212 (dk_at dksX6_turnedBy_2 19 rfl rfl)
theorem dX6_turnedBy_69 : decode cX6_turnedBy 69 = .ok (.iload_n 3, 1) := dk_29 (dk_at dksX6_turnedBy_2 22 rfl rfl)
theorem dX6_turnedBy_70 : decode cX6_turnedBy 70 = .ok (.ifCond .eq 5, 3) := dk_153 0 5 (dk_at dksX6_turnedBy_3 0 rfl rfl)
theorem dX6_turnedBy_73 : decode cX6_turnedBy 73 = .ok (.iload_n 2, 1) := dk_28 (dk_at dksX6_turnedBy_3 3 rfl rfl)
theorem dX6_turnedBy_74 : decode cX6_turnedBy 74 = .ok (.ireturn, 1) := dk_172 (dk_at dksX6_turnedBy_3 4 rfl rfl)
theorem dX6_turnedBy_75 : decode cX6_turnedBy 75 = .ok (.iinc 2 1, 3) := dk_132 2 1 (dk_at dksX6_turnedBy_3 5 rfl rfl)
theorem dX6_turnedBy_78 : decode cX6_turnedBy 78 = .ok (.goto (-69), 3) := dk_167 255 187 (dk_at dksX6_turnedBy_3 8 rfl rfl)
theorem dX6_turnedBy_81 : decode cX6_turnedBy 81 = .ok (.aload_n 0, 1) := dk_42 (dk_at dksX6_turnedBy_3 11 rfl rfl)
theorem dX6_turnedBy_82 : decode cX6_turnedBy 82 = .ok (.invokevirtual 45, 3) := dk_182 0 45 (dk_at dksX6_turnedBy_3 12 rfl rfl)
theorem dX6_turnedBy_85 : decode cX6_turnedBy 85 = .ok (.ireturn, 1) := dk_172 (dk_at dksX6_turnedBy_3 15 rfl rfl)
abbrev cX6_rule : ByteArray := prog_16_method_27_code
def yX6_rule : MethodName := ⟨RX6, "rule", "(IIIII)I"⟩
def dkwX6_rule_6 : List UInt8 := [180, 0, 7, 16, 11, 92, 46, 4, 96, 79, 42, 180, 0, 7, 16, 11, 46, 4, 100, 172]
abbrev dktX6_rule_6 : List UInt8 := dkwX6_rule_6 ++ []
def dkwX6_rule_5 : List UInt8 := [79, 42, 180, 0, 7, 21, 6, 7, 96, 21, 5, 79, 42, 180, 0, 7, 21, 6, 8, 96, 5, 79, 42]
abbrev dktX6_rule_5 : List UInt8 := dkwX6_rule_5 ++ dktX6_rule_6
def dkwX6_rule_4 : List UInt8 := [4, 96, 28, 79, 42, 180, 0, 7, 21, 6, 5, 96, 29, 79, 42, 180, 0, 7, 21, 6, 6, 96, 21, 4]
abbrev dktX6_rule_4 : List UInt8 := dkwX6_rule_4 ++ dktX6_rule_5
def dkwX6_rule_3 : List UInt8 := [180, 0, 7, 16, 11, 46, 104, 96, 54, 6, 42, 180, 0, 7, 21, 6, 27, 79, 42, 180, 0, 7, 21, 6]
abbrev dktX6_rule_3 : List UInt8 := dkwX6_rule_3 ++ dktX6_rule_4
def dkwX6_rule_2 : List UInt8 := [16, 254, 172, 42, 180, 0, 7, 16, 11, 46, 16, 10, 160, 0, 6, 16, 252, 172, 16, 12, 16, 6, 42]
abbrev dktX6_rule_2 : List UInt8 := dkwX6_rule_2 ++ dktX6_rule_3
def dkwX6_rule_1 : List UInt8 := [153, 0, 24, 21, 4, 4, 16, 10, 184, 0, 49, 153, 0, 13, 21, 5, 3, 5, 184, 0, 49, 154, 0, 6]
abbrev dktX6_rule_1 : List UInt8 := dkwX6_rule_1 ++ dktX6_rule_2
def dkwX6_rule_0 : List UInt8 := [27, 3, 8, 184, 0, 49, 153, 0, 42, 28, 3, 7, 184, 0, 49, 153, 0, 33, 29, 3, 5, 184, 0, 49]
abbrev dktX6_rule_0 : List UInt8 := dkwX6_rule_0 ++ dktX6_rule_1
theorem dksX6_rule_0 : cX6_rule.data.toList.drop 0 = dktX6_rule_0 := by decide +kernel
theorem dksX6_rule_1 : cX6_rule.data.toList.drop 24 = dktX6_rule_1 := dk_seg dksX6_rule_0 24 rfl rfl
theorem dksX6_rule_2 : cX6_rule.data.toList.drop 48 = dktX6_rule_2 := dk_seg dksX6_rule_1 24 rfl rfl
theorem dksX6_rule_3 : cX6_rule.data.toList.drop 71 = dktX6_rule_3 := dk_seg dksX6_rule_2 23 rfl rfl
theorem dksX6_rule_4 : cX6_rule.data.toList.drop 95 = dktX6_rule_4 := dk_seg dksX6_rule_3 24 rfl rfl
theorem dksX6_rule_5 : cX6_rule.data.toList.drop 119 = dktX6_rule_5 := dk_seg dksX6_rule_4 24 rfl rfl
theorem dksX6_rule_6 : cX6_rule.data.toList.drop 142 = dktX6_rule_6 := dk_seg dksX6_rule_5 23 rfl rfl
theorem dX6_rule_0 : decode cX6_rule 0 = .ok (.iload_n 1, 1) := dk_27 (dk_at dksX6_rule_0 0 rfl rfl)
theorem dX6_rule_1 : decode cX6_rule 1 = .ok (.iconst 0, 1) := dk_3 (dk_at dksX6_rule_0 1 rfl rfl)
theorem dX6_rule_2 : decode cX6_rule 2 = .ok (.iconst 5, 1) := dk_8 (dk_at dksX6_rule_0 2 rfl rfl)
theorem dX6_rule_3 : decode cX6_rule 3 = .ok (.invokestatic 49, 3) := dk_184 0 49 (dk_at dksX6_rule_0 3 rfl rfl)
theorem dX6_rule_6 : decode cX6_rule 6 = .ok (.ifCond .eq 42, 3) := dk_153 0 42 (dk_at dksX6_rule_0 6 rfl rfl)
theorem dX6_rule_9 : decode cX6_rule 9 = .ok (.iload_n 2, 1) := dk_28 (dk_at dksX6_rule_0 9 rfl rfl)
theorem dX6_rule_10 : decode cX6_rule 10 = .ok (.iconst 0, 1) := dk_3 (dk_at dksX6_rule_0 10 rfl rfl)
theorem dX6_rule_11 : decode cX6_rule 11 = .ok (.iconst 4, 1) := dk_7 (dk_at dksX6_rule_0 11 rfl rfl)
theorem dX6_rule_12 : decode cX6_rule 12 = .ok (.invokestatic 49, 3) := dk_184 0 49 (dk_at dksX6_rule_0 12 rfl rfl)
theorem dX6_rule_15 : decode cX6_rule 15 = .ok (.ifCond .eq 33, 3) := dk_153 0 33 (dk_at dksX6_rule_0 15 rfl rfl)
theorem dX6_rule_18 : decode cX6_rule 18 = .ok (.iload_n 3, 1) := dk_29 (dk_at dksX6_rule_0 18 rfl rfl)
theorem dX6_rule_19 : decode cX6_rule 19 = .ok (.iconst 0, 1) := dk_3 (dk_at dksX6_rule_0 19 rfl rfl)
theorem dX6_rule_20 : decode cX6_rule 20 = .ok (.iconst 2, 1) := dk_5 (dk_at dksX6_rule_0 20 rfl rfl)
theorem dX6_rule_21 : decode cX6_rule 21 = .ok (.invokestatic 49, 3) := dk_184 0 49 (dk_at dksX6_rule_0 21 rfl rfl)
theorem dX6_rule_24 : decode cX6_rule 24 = .ok (.ifCond .eq 24, 3) := dk_153 0 24 (dk_at dksX6_rule_1 0 rfl rfl)
theorem dX6_rule_27 : decode cX6_rule 27 = .ok (.iload 4, 2) := dk_21 4 (dk_at dksX6_rule_1 3 rfl rfl)
theorem dX6_rule_29 : decode cX6_rule 29 = .ok (.iconst 1, 1) := dk_4 (dk_at dksX6_rule_1 5 rfl rfl)
theorem dX6_rule_30 : decode cX6_rule 30 = .ok (.bipush 10, 2) := dk_16 10 (dk_at dksX6_rule_1 6 rfl rfl)
theorem dX6_rule_32 : decode cX6_rule 32 = .ok (.invokestatic 49, 3) := dk_184 0 49 (dk_at dksX6_rule_1 8 rfl rfl)
theorem dX6_rule_35 : decode cX6_rule 35 = .ok (.ifCond .eq 13, 3) := dk_153 0 13 (dk_at dksX6_rule_1 11 rfl rfl)
theorem dX6_rule_38 : decode cX6_rule 38 = .ok (.iload 5, 2) := dk_21 5 (dk_at dksX6_rule_1 14 rfl rfl)
theorem dX6_rule_40 : decode cX6_rule 40 = .ok (.iconst 0, 1) := dk_3 (dk_at dksX6_rule_1 16 rfl rfl)
theorem dX6_rule_41 : decode cX6_rule 41 = .ok (.iconst 2, 1) := dk_5 (dk_at dksX6_rule_1 17 rfl rfl)
theorem dX6_rule_42 : decode cX6_rule 42 = .ok (.invokestatic 49, 3) := dk_184 0 49 (dk_at dksX6_rule_1 18 rfl rfl)
theorem dX6_rule_45 : decode cX6_rule 45 = .ok (.ifCond .ne 6, 3) := dk_154 0 6 (dk_at dksX6_rule_1 21 rfl rfl)
theorem dX6_rule_48 : decode cX6_rule 48 = .ok (.bipush (-2), 2) := dk_16 254 (dk_at dksX6_rule_2 0 rfl rfl)
theorem dX6_rule_50 : decode cX6_rule 50 = .ok (.ireturn, 1) := dk_172 (dk_at dksX6_rule_2 2 rfl rfl)
theorem dX6_rule_51 : decode cX6_rule 51 = .ok (.aload_n 0, 1) := dk_42 (dk_at dksX6_rule_2 3 rfl rfl)
theorem dX6_rule_52 : decode cX6_rule 52 = .ok (.getfield 7, 3) := dk_180 0 7 (dk_at dksX6_rule_2 4 rfl rfl)
theorem dX6_rule_55 : decode cX6_rule 55 = .ok (.bipush 11, 2) := dk_16 11 (dk_at dksX6_rule_2 7 rfl rfl)
theorem dX6_rule_57 : decode cX6_rule 57 = .ok (.iaload, 1) := dk_46 (dk_at dksX6_rule_2 9 rfl rfl)
theorem dX6_rule_58 : decode cX6_rule 58 = .ok (.bipush 10, 2) := dk_16 10 (dk_at dksX6_rule_2 10 rfl rfl)
theorem dX6_rule_60 : decode cX6_rule 60 = .ok (.if_icmp .ne 6, 3) := dk_160 0 6 (dk_at dksX6_rule_2 12 rfl rfl)
theorem dX6_rule_63 : decode cX6_rule 63 = .ok (.bipush (-4), 2) := dk_16 252 (dk_at dksX6_rule_2 15 rfl rfl)
theorem dX6_rule_65 : decode cX6_rule 65 = .ok (.ireturn, 1) := dk_172 (dk_at dksX6_rule_2 17 rfl rfl)
theorem dX6_rule_66 : decode cX6_rule 66 = .ok (.bipush 12, 2) := dk_16 12 (dk_at dksX6_rule_2 18 rfl rfl)
theorem dX6_rule_68 : decode cX6_rule 68 = .ok (.bipush 6, 2) := dk_16 6 (dk_at dksX6_rule_2 20 rfl rfl)
theorem dX6_rule_70 : decode cX6_rule 70 = .ok (.aload_n 0, 1) := dk_42 (dk_at dksX6_rule_2 22 rfl rfl)
theorem dX6_rule_71 : decode cX6_rule 71 = .ok (.getfield 7, 3) := dk_180 0 7 (dk_at dksX6_rule_3 0 rfl rfl)
theorem dX6_rule_74 : decode cX6_rule 74 = .ok (.bipush 11, 2) := dk_16 11 (dk_at dksX6_rule_3 3 rfl rfl)
theorem dX6_rule_76 : decode cX6_rule 76 = .ok (.iaload, 1) := dk_46 (dk_at dksX6_rule_3 5 rfl rfl)
theorem dX6_rule_77 : decode cX6_rule 77 = .ok (.imul, 1) := dk_104 (dk_at dksX6_rule_3 6 rfl rfl)
theorem dX6_rule_78 : decode cX6_rule 78 = .ok (.iadd, 1) := dk_96 (dk_at dksX6_rule_3 7 rfl rfl)
theorem dX6_rule_79 : decode cX6_rule 79 = .ok (.istore 6, 2) := dk_54 6 (dk_at dksX6_rule_3 8 rfl rfl)
theorem dX6_rule_81 : decode cX6_rule 81 = .ok (.aload_n 0, 1) := dk_42 (dk_at dksX6_rule_3 10 rfl rfl)
theorem dX6_rule_82 : decode cX6_rule 82 = .ok (.getfield 7, 3) := dk_180 0 7 (dk_at dksX6_rule_3 11 rfl rfl)
theorem dX6_rule_85 : decode cX6_rule 85 = .ok (.iload 6, 2) := dk_21 6 (dk_at dksX6_rule_3 14 rfl rfl)
theorem dX6_rule_87 : decode cX6_rule 87 = .ok (.iload_n 1, 1) := dk_27 (dk_at dksX6_rule_3 16 rfl rfl)
theorem dX6_rule_88 : decode cX6_rule 88 = .ok (.iastore, 1) := dk_79 (dk_at dksX6_rule_3 17 rfl rfl)
theorem dX6_rule_89 : decode cX6_rule 89 = .ok (.aload_n 0, 1) := dk_42 (dk_at dksX6_rule_3 18 rfl rfl)
theorem dX6_rule_90 : decode cX6_rule 90 = .ok (.getfield 7, 3) := dk_180 0 7 (dk_at dksX6_rule_3 19 rfl rfl)
theorem dX6_rule_93 : decode cX6_rule 93 = .ok (.iload 6, 2) := dk_21 6 (dk_at dksX6_rule_3 22 rfl rfl)
theorem dX6_rule_95 : decode cX6_rule 95 = .ok (.iconst 1, 1) := dk_4 (dk_at dksX6_rule_4 0 rfl rfl)
theorem dX6_rule_96 : decode cX6_rule 96 = .ok (.iadd, 1) := dk_96 (dk_at dksX6_rule_4 1 rfl rfl)
theorem dX6_rule_97 : decode cX6_rule 97 = .ok (.iload_n 2, 1) := dk_28 (dk_at dksX6_rule_4 2 rfl rfl)
theorem dX6_rule_98 : decode cX6_rule 98 = .ok (.iastore, 1) := dk_79 (dk_at dksX6_rule_4 3 rfl rfl)
theorem dX6_rule_99 : decode cX6_rule 99 = .ok (.aload_n 0, 1) := dk_42 (dk_at dksX6_rule_4 4 rfl rfl)
theorem dX6_rule_100 : decode cX6_rule 100 = .ok (.getfield 7, 3) := dk_180 0 7 (dk_at dksX6_rule_4 5 rfl rfl)
theorem dX6_rule_103 : decode cX6_rule 103 = .ok (.iload 6, 2) := dk_21 6 (dk_at dksX6_rule_4 8 rfl rfl)
theorem dX6_rule_105 : decode cX6_rule 105 = .ok (.iconst 2, 1) := dk_5 (dk_at dksX6_rule_4 10 rfl rfl)
theorem dX6_rule_106 : decode cX6_rule 106 = .ok (.iadd, 1) := dk_96 (dk_at dksX6_rule_4 11 rfl rfl)
theorem dX6_rule_107 : decode cX6_rule 107 = .ok (.iload_n 3, 1) := dk_29 (dk_at dksX6_rule_4 12 rfl rfl)
theorem dX6_rule_108 : decode cX6_rule 108 = .ok (.iastore, 1) := dk_79 (dk_at dksX6_rule_4 13 rfl rfl)
theorem dX6_rule_109 : decode cX6_rule 109 = .ok (.aload_n 0, 1) := dk_42 (dk_at dksX6_rule_4 14 rfl rfl)
theorem dX6_rule_110 : decode cX6_rule 110 = .ok (.getfield 7, 3) := dk_180 0 7 (dk_at dksX6_rule_4 15 rfl rfl)
theorem dX6_rule_113 : decode cX6_rule 113 = .ok (.iload 6, 2) := dk_21 6 (dk_at dksX6_rule_4 18 rfl rfl)
theorem dX6_rule_115 : decode cX6_rule 115 = .ok (.iconst 3, 1) := dk_6 (dk_at dksX6_rule_4 20 rfl rfl)
theorem dX6_rule_116 : decode cX6_rule 116 = .ok (.iadd, 1) := dk_96 (dk_at dksX6_rule_4 21 rfl rfl)
theorem dX6_rule_117 : decode cX6_rule 117 = .ok (.iload 4, 2) := dk_21 4 (dk_at dksX6_rule_4 22 rfl rfl)
theorem dX6_rule_119 : decode cX6_rule 119 = .ok (.iastore, 1) := dk_79 (dk_at dksX6_rule_5 0 rfl rfl)
theorem dX6_rule_120 : decode cX6_rule 120 = .ok (.aload_n 0, 1) := dk_42 (dk_at dksX6_rule_5 1 rfl rfl)
theorem dX6_rule_121 : decode cX6_rule 121 = .ok (.getfield 7, 3) := dk_180 0 7 (dk_at dksX6_rule_5 2 rfl rfl)
theorem dX6_rule_124 : decode cX6_rule 124 = .ok (.iload 6, 2) := dk_21 6 (dk_at dksX6_rule_5 5 rfl rfl)
theorem dX6_rule_126 : decode cX6_rule 126 = .ok (.iconst 4, 1) := dk_7 (dk_at dksX6_rule_5 7 rfl rfl)
theorem dX6_rule_127 : decode cX6_rule 127 = .ok (.iadd, 1) := dk_96 (dk_at dksX6_rule_5 8 rfl rfl)
theorem dX6_rule_128 : decode cX6_rule 128 = .ok (.iload 5, 2) := dk_21 5 (dk_at dksX6_rule_5 9 rfl rfl)
theorem dX6_rule_130 : decode cX6_rule 130 = .ok (.iastore, 1) := dk_79 (dk_at dksX6_rule_5 11 rfl rfl)
theorem dX6_rule_131 : decode cX6_rule 131 = .ok (.aload_n 0, 1) := dk_42 (dk_at dksX6_rule_5 12 rfl rfl)
theorem dX6_rule_132 : decode cX6_rule 132 = .ok (.getfield 7, 3) := dk_180 0 7 (dk_at dksX6_rule_5 13 rfl rfl)
theorem dX6_rule_135 : decode cX6_rule 135 = .ok (.iload 6, 2) := dk_21 6 (dk_at dksX6_rule_5 16 rfl rfl)
theorem dX6_rule_137 : decode cX6_rule 137 = .ok (.iconst 5, 1) := dk_8 (dk_at dksX6_rule_5 18 rfl rfl)
theorem dX6_rule_138 : decode cX6_rule 138 = .ok (.iadd, 1) := dk_96 (dk_at dksX6_rule_5 19 rfl rfl)
theorem dX6_rule_139 : decode cX6_rule 139 = .ok (.iconst 2, 1) := dk_5 (dk_at dksX6_rule_5 20 rfl rfl)
theorem dX6_rule_140 : decode cX6_rule 140 = .ok (.iastore, 1) := dk_79 (dk_at dksX6_rule_5 21 rfl rfl)
theorem dX6_rule_141 : decode cX6_rule 141 = .ok (.aload_n 0, 1) := dk_42 (dk_at dksX6_rule_5 22 rfl rfl)
theorem dX6_rule_142 : decode cX6_rule 142 = .ok (.getfield 7, 3) := dk_180 0 7 (dk_at dksX6_rule_6 0 rfl rfl)
theorem dX6_rule_145 : decode cX6_rule 145 = .ok (.bipush 11, 2) := dk_16 11 (dk_at dksX6_rule_6 3 rfl rfl)
theorem dX6_rule_147 : decode cX6_rule 147 = .ok (.dup2, 1) := dk_92 (dk_at dksX6_rule_6 5 rfl rfl)
theorem dX6_rule_148 : decode cX6_rule 148 = .ok (.iaload, 1) := dk_46 (dk_at dksX6_rule_6 6 rfl rfl)
theorem dX6_rule_149 : decode cX6_rule 149 = .ok (.iconst 1, 1) := dk_4 (dk_at dksX6_rule_6 7 rfl rfl)
theorem dX6_rule_150 : decode cX6_rule 150 = .ok (.iadd, 1) := dk_96 (dk_at dksX6_rule_6 8 rfl rfl)
theorem dX6_rule_151 : decode cX6_rule 151 = .ok (.iastore, 1) := dk_79 (dk_at dksX6_rule_6 9 rfl rfl)
theorem dX6_rule_152 : decode cX6_rule 152 = .ok (.aload_n 0, 1) := dk_42 (dk_at dksX6_rule_6 10 rfl rfl)
theorem dX6_rule_153 : decode cX6_rule 153 = .ok (.getfield 7, 3) := dk_180 0 7 (dk_at dksX6_rule_6 11 rfl rfl)
theorem dX6_rule_156 : decode cX6_rule 156 = .ok (.bipush 11, 2) := dk_16 11 (dk_at dksX6_rule_6 14 rfl rfl)
theorem dX6_rule_158 : decode cX6_rule 158 = .ok (.iaload, 1) := dk_46 (dk_at dksX6_rule_6 16 rfl rfl)
theorem dX6_rule_159 : decode cX6_rule 159 = .ok (.iconst 1, 1) := dk_4 (dk_at dksX6_rule_6 17 rfl rfl)
theorem dX6_rule_160 : decode cX6_rule 160 = .ok (.isub, 1) := dk_100 (dk_at dksX6_rule_6 18 rfl rfl)
theorem dX6_rule_161 : decode cX6_rule 161 = .ok (.ireturn, 1) := dk_172 (dk_at dksX6_rule_6 19 rfl rfl)
abbrev cX6_whom : ByteArray := prog_16_method_28_code
def yX6_whom : MethodName := ⟨RX6, "whom", "(II)I"⟩
def dkwX6_whom_2 : List UInt8 := [96, 8, 96, 28, 79, 29, 172]
abbrev dktX6_whom_2 : List UInt8 := dkwX6_whom_2 ++ []
def dkwX6_whom_1 : List UInt8 := [180, 0, 7, 16, 12, 16, 6, 27, 104, 96, 8, 96, 46, 62, 42, 180, 0, 7, 16, 12, 16, 6, 27, 104]
abbrev dktX6_whom_1 : List UInt8 := dkwX6_whom_1 ++ dktX6_whom_2
def dkwX6_whom_0 : List UInt8 := [42, 27, 182, 0, 111, 154, 0, 5, 2, 172, 28, 3, 5, 184, 0, 49, 154, 0, 6, 16, 254, 172, 42]
abbrev dktX6_whom_0 : List UInt8 := dkwX6_whom_0 ++ dktX6_whom_1
theorem dksX6_whom_0 : cX6_whom.data.toList.drop 0 = dktX6_whom_0 := by decide +kernel
theorem dksX6_whom_1 : cX6_whom.data.toList.drop 23 = dktX6_whom_1 := dk_seg dksX6_whom_0 23 rfl rfl
theorem dksX6_whom_2 : cX6_whom.data.toList.drop 47 = dktX6_whom_2 := dk_seg dksX6_whom_1 24 rfl rfl
theorem dX6_whom_0 : decode cX6_whom 0 = .ok (.aload_n 0, 1) := dk_42 (dk_at dksX6_whom_0 0 rfl rfl)
theorem dX6_whom_1 : decode cX6_whom 1 = .ok (.iload_n 1, 1) := dk_27 (dk_at dksX6_whom_0 1 rfl rfl)
theorem dX6_whom_2 : decode cX6_whom 2 = .ok (.invokevirtual 111, 3) := dk_182 0 111 (dk_at dksX6_whom_0 2 rfl rfl)
theorem dX6_whom_5 : decode cX6_whom 5 = .ok (.ifCond .ne 5, 3) := dk_154 0 5 (dk_at dksX6_whom_0 5 rfl rfl)
theorem dX6_whom_8 : decode cX6_whom 8 = .ok (.iconst (-1), 1) := dk_2 (dk_at dksX6_whom_0 8 rfl rfl)
theorem dX6_whom_9 : decode cX6_whom 9 = .ok (.ireturn, 1) := dk_172 (dk_at dksX6_whom_0 9 rfl rfl)
theorem dX6_whom_10 : decode cX6_whom 10 = .ok (.iload_n 2, 1) := dk_28 (dk_at dksX6_whom_0 10 rfl rfl)
theorem dX6_whom_11 : decode cX6_whom 11 = .ok (.iconst 0, 1) := dk_3 (dk_at dksX6_whom_0 11 rfl rfl)
theorem dX6_whom_12 : decode cX6_whom 12 = .ok (.iconst 2, 1) := dk_5 (dk_at dksX6_whom_0 12 rfl rfl)
theorem dX6_whom_13 : decode cX6_whom 13 = .ok (.invokestatic 49, 3) := dk_184 0 49 (dk_at dksX6_whom_0 13 rfl rfl)
theorem dX6_whom_16 : decode cX6_whom 16 = .ok (.ifCond .ne 6, 3) := dk_154 0 6 (dk_at dksX6_whom_0 16 rfl rfl)
theorem dX6_whom_19 : decode cX6_whom 19 = .ok (.bipush (-2), 2) := dk_16 254 (dk_at dksX6_whom_0 19 rfl rfl)
theorem dX6_whom_21 : decode cX6_whom 21 = .ok (.ireturn, 1) := dk_172 (dk_at dksX6_whom_0 21 rfl rfl)
theorem dX6_whom_22 : decode cX6_whom 22 = .ok (.aload_n 0, 1) := dk_42 (dk_at dksX6_whom_0 22 rfl rfl)
theorem dX6_whom_23 : decode cX6_whom 23 = .ok (.getfield 7, 3) := dk_180 0 7 (dk_at dksX6_whom_1 0 rfl rfl)
theorem dX6_whom_26 : decode cX6_whom 26 = .ok (.bipush 12, 2) := dk_16 12 (dk_at dksX6_whom_1 3 rfl rfl)
theorem dX6_whom_28 : decode cX6_whom 28 = .ok (.bipush 6, 2) := dk_16 6 (dk_at dksX6_whom_1 5 rfl rfl)
theorem dX6_whom_30 : decode cX6_whom 30 = .ok (.iload_n 1, 1) := dk_27 (dk_at dksX6_whom_1 7 rfl rfl)
theorem dX6_whom_31 : decode cX6_whom 31 = .ok (.imul, 1) := dk_104 (dk_at dksX6_whom_1 8 rfl rfl)
theorem dX6_whom_32 : decode cX6_whom 32 = .ok (.iadd, 1) := dk_96 (dk_at dksX6_whom_1 9 rfl rfl)
theorem dX6_whom_33 : decode cX6_whom 33 = .ok (.iconst 5, 1) := dk_8 (dk_at dksX6_whom_1 10 rfl rfl)
theorem dX6_whom_34 : decode cX6_whom 34 = .ok (.iadd, 1) := dk_96 (dk_at dksX6_whom_1 11 rfl rfl)
theorem dX6_whom_35 : decode cX6_whom 35 = .ok (.iaload, 1) := dk_46 (dk_at dksX6_whom_1 12 rfl rfl)
theorem dX6_whom_36 : decode cX6_whom 36 = .ok (.istore_n 3, 1) := dk_62 (dk_at dksX6_whom_1 13 rfl rfl)
theorem dX6_whom_37 : decode cX6_whom 37 = .ok (.aload_n 0, 1) := dk_42 (dk_at dksX6_whom_1 14 rfl rfl)
theorem dX6_whom_38 : decode cX6_whom 38 = .ok (.getfield 7, 3) := dk_180 0 7 (dk_at dksX6_whom_1 15 rfl rfl)
theorem dX6_whom_41 : decode cX6_whom 41 = .ok (.bipush 12, 2) := dk_16 12 (dk_at dksX6_whom_1 18 rfl rfl)
theorem dX6_whom_43 : decode cX6_whom 43 = .ok (.bipush 6, 2) := dk_16 6 (dk_at dksX6_whom_1 20 rfl rfl)
theorem dX6_whom_45 : decode cX6_whom 45 = .ok (.iload_n 1, 1) := dk_27 (dk_at dksX6_whom_1 22 rfl rfl)
theorem dX6_whom_46 : decode cX6_whom 46 = .ok (.imul, 1) := dk_104 (dk_at dksX6_whom_1 23 rfl rfl)
theorem dX6_whom_47 : decode cX6_whom 47 = .ok (.iadd, 1) := dk_96 (dk_at dksX6_whom_2 0 rfl rfl)
theorem dX6_whom_48 : decode cX6_whom 48 = .ok (.iconst 5, 1) := dk_8 (dk_at dksX6_whom_2 1 rfl rfl)
theorem dX6_whom_49 : decode cX6_whom 49 = .ok (.iadd, 1) := dk_96 (dk_at dksX6_whom_2 2 rfl rfl)
theorem dX6_whom_50 : decode cX6_whom 50 = .ok (.iload_n 2, 1) := dk_28 (dk_at dksX6_whom_2 3 rfl rfl)
theorem dX6_whom_51 : decode cX6_whom 51 = .ok (.iastore, 1) := dk_79 (dk_at dksX6_whom_2 4 rfl rfl)
theorem dX6_whom_52 : decode cX6_whom 52 = .ok (.iload_n 3, 1) := dk_29 (dk_at dksX6_whom_2 5 rfl rfl)
theorem dX6_whom_53 : decode cX6_whom 53 = .ok (.ireturn, 1) := dk_172 (dk_at dksX6_whom_2 6 rfl rfl)
abbrev cX6_isRule : ByteArray := prog_16_method_6_code
def yX6_isRule : MethodName := ⟨RX6, "isRule", "(I)Z"⟩
def dkwX6_isRule_0 : List UInt8 := [27, 3, 42, 180, 0, 7, 16, 11, 46, 4, 100, 184, 0, 49, 172]
abbrev dktX6_isRule_0 : List UInt8 := dkwX6_isRule_0 ++ []
theorem dksX6_isRule_0 : cX6_isRule.data.toList.drop 0 = dktX6_isRule_0 := by decide +kernel
theorem dX6_isRule_0 : decode cX6_isRule 0 = .ok (.iload_n 1, 1) := dk_27 (dk_at dksX6_isRule_0 0 rfl rfl)
theorem dX6_isRule_1 : decode cX6_isRule 1 = .ok (.iconst 0, 1) := dk_3 (dk_at dksX6_isRule_0 1 rfl rfl)
theorem dX6_isRule_2 : decode cX6_isRule 2 = .ok (.aload_n 0, 1) := dk_42 (dk_at dksX6_isRule_0 2 rfl rfl)
theorem dX6_isRule_3 : decode cX6_isRule 3 = .ok (.getfield 7, 3) := dk_180 0 7 (dk_at dksX6_isRule_0 3 rfl rfl)
theorem dX6_isRule_6 : decode cX6_isRule 6 = .ok (.bipush 11, 2) := dk_16 11 (dk_at dksX6_isRule_0 6 rfl rfl)
theorem dX6_isRule_8 : decode cX6_isRule 8 = .ok (.iaload, 1) := dk_46 (dk_at dksX6_isRule_0 8 rfl rfl)
theorem dX6_isRule_9 : decode cX6_isRule 9 = .ok (.iconst 1, 1) := dk_4 (dk_at dksX6_isRule_0 9 rfl rfl)
theorem dX6_isRule_10 : decode cX6_isRule 10 = .ok (.isub, 1) := dk_100 (dk_at dksX6_isRule_0 10 rfl rfl)
theorem dX6_isRule_11 : decode cX6_isRule 11 = .ok (.invokestatic 49, 3) := dk_184 0 49 (dk_at dksX6_isRule_0 11 rfl rfl)
theorem dX6_isRule_14 : decode cX6_isRule 14 = .ok (.ireturn, 1) := dk_172 (dk_at dksX6_isRule_0 14 rfl rfl)
abbrev cX6_drop : ByteArray := prog_16_method_29_code
def yX6_drop : MethodName := ⟨RX6, "drop", "(I)I"⟩
def dkwX6_drop_2 : List UInt8 := [42, 180, 0, 7, 16, 11, 92, 46, 4, 100, 79, 42, 180, 0, 7, 16, 11, 46, 172]
abbrev dktX6_drop_2 : List UInt8 := dkwX6_drop_2 ++ []
def dkwX6_drop_1 : List UInt8 := [162, 0, 24, 42, 180, 0, 7, 28, 42, 180, 0, 7, 28, 16, 6, 96, 46, 79, 132, 2, 1, 167, 255, 229]
abbrev dktX6_drop_1 : List UInt8 := dkwX6_drop_1 ++ dktX6_drop_2
def dkwX6_drop_0 : List UInt8 := [42, 27, 182, 0, 111, 154, 0, 5, 2, 172, 16, 12, 16, 6, 27, 104, 96, 61, 28, 16, 6, 96, 16, 72]
abbrev dktX6_drop_0 : List UInt8 := dkwX6_drop_0 ++ dktX6_drop_1
theorem dksX6_drop_0 : cX6_drop.data.toList.drop 0 = dktX6_drop_0 := by decide +kernel
theorem dksX6_drop_1 : cX6_drop.data.toList.drop 24 = dktX6_drop_1 := dk_seg dksX6_drop_0 24 rfl rfl
theorem dksX6_drop_2 : cX6_drop.data.toList.drop 48 = dktX6_drop_2 := dk_seg dksX6_drop_1 24 rfl rfl
theorem dX6_drop_0 : decode cX6_drop 0 = .ok (.aload_n 0, 1) := dk_42 (dk_at dksX6_drop_0 0 rfl rfl)
theorem dX6_drop_1 : decode cX6_drop 1 = .ok (.iload_n 1, 1) := dk_27 (dk_at dksX6_drop_0 1 rfl rfl)
theorem dX6_drop_2 : decode cX6_drop 2 = .ok (.invokevirtual 111, 3) := dk_182 0 111 (dk_at dksX6_drop_0 2 rfl rfl)
theorem dX6_drop_5 : decode cX6_drop 5 = .ok (.ifCond .ne 5, 3) := dk_154 0 5 (dk_at dksX6_drop_0 5 rfl rfl)
theorem dX6_drop_8 : decode cX6_drop 8 = .ok (.iconst (-1), 1) := dk_2 (dk_at dksX6_drop_0 8 rfl rfl)
theorem dX6_drop_9 : decode cX6_drop 9 = .ok (.ireturn, 1) := dk_172 (dk_at dksX6_drop_0 9 rfl rfl)
theorem dX6_drop_10 : decode cX6_drop 10 = .ok (.bipush 12, 2) := dk_16 12 (dk_at dksX6_drop_0 10 rfl rfl)
theorem dX6_drop_12 : decode cX6_drop 12 = .ok (.bipush 6, 2) := dk_16 6 (dk_at dksX6_drop_0 12 rfl rfl)
theorem dX6_drop_14 : decode cX6_drop 14 = .ok (.iload_n 1, 1) := dk_27 (dk_at dksX6_drop_0 14 rfl rfl)
theorem dX6_drop_15 : decode cX6_drop 15 = .ok (.imul, 1) := dk_104 (dk_at dksX6_drop_0 15 rfl rfl)
theorem dX6_drop_16 : decode cX6_drop 16 = .ok (.iadd, 1) := dk_96 (dk_at dksX6_drop_0 16 rfl rfl)
theorem dX6_drop_17 : decode cX6_drop 17 = .ok (.istore_n 2, 1) := dk_61 (dk_at dksX6_drop_0 17 rfl rfl)
theorem dX6_drop_18 : decode cX6_drop 18 = .ok (.iload_n 2, 1) := dk_28 (dk_at dksX6_drop_0 18 rfl rfl)
theorem dX6_drop_19 : decode cX6_drop 19 = .ok (.bipush 6, 2) := dk_16 6 (dk_at dksX6_drop_0 19 rfl rfl)
theorem dX6_drop_21 : decode cX6_drop 21 = .ok (.iadd, 1) := dk_96 (dk_at dksX6_drop_0 21 rfl rfl)
theorem dX6_drop_22 : decode cX6_drop 22 = .ok (.bipush 72, 2) := dk_16 72 (dk_at dksX6_drop_0 22 rfl rfl)
theorem dX6_drop_24 : decode cX6_drop 24 = .ok (.if_icmp .ge 24, 3) := dk_162 0 24 (dk_at dksX6_drop_1 0 rfl rfl)
theorem dX6_drop_27 : decode cX6_drop 27 = .ok (.aload_n 0, 1) := dk_42 (dk_at dksX6_drop_1 3 rfl rfl)
theorem dX6_drop_28 : decode cX6_drop 28 = .ok (.getfield 7, 3) := dk_180 0 7 (dk_at dksX6_drop_1 4 rfl rfl)
theorem dX6_drop_31 : decode cX6_drop 31 = .ok (.iload_n 2, 1) := dk_28 (dk_at dksX6_drop_1 7 rfl rfl)
theorem dX6_drop_32 : decode cX6_drop 32 = .ok (.aload_n 0, 1) := dk_42 (dk_at dksX6_drop_1 8 rfl rfl)
theorem dX6_drop_33 : decode cX6_drop 33 = .ok (.getfield 7, 3) := dk_180 0 7 (dk_at dksX6_drop_1 9 rfl rfl)
theorem dX6_drop_36 : decode cX6_drop 36 = .ok (.iload_n 2, 1) := dk_28 (dk_at dksX6_drop_1 12 rfl rfl)
theorem dX6_drop_37 : decode cX6_drop 37 = .ok (.bipush 6, 2) := dk_16 6 (dk_at dksX6_drop_1 13 rfl rfl)
theorem dX6_drop_39 : decode cX6_drop 39 = .ok (.iadd, 1) := dk_96 (dk_at dksX6_drop_1 15 rfl rfl)
theorem dX6_drop_40 : decode cX6_drop 40 = .ok (.iaload, 1) := dk_46 (dk_at dksX6_drop_1 16 rfl rfl)
theorem dX6_drop_41 : decode cX6_drop 41 = .ok (.iastore, 1) := dk_79 (dk_at dksX6_drop_1 17 rfl rfl)
theorem dX6_drop_42 : decode cX6_drop 42 = .ok (.iinc 2 1, 3) := dk_132 2 1 (dk_at dksX6_drop_1 18 rfl rfl)
theorem dX6_drop_45 : decode cX6_drop 45 = .ok (.goto (-27), 3) := dk_167 255 229 (dk_at dksX6_drop_1 21 rfl rfl)
theorem dX6_drop_48 : decode cX6_drop 48 = .ok (.aload_n 0, 1) := dk_42 (dk_at dksX6_drop_2 0 rfl rfl)
theorem dX6_drop_49 : decode cX6_drop 49 = .ok (.getfield 7, 3) := dk_180 0 7 (dk_at dksX6_drop_2 1 rfl rfl)
theorem dX6_drop_52 : decode cX6_drop 52 = .ok (.bipush 11, 2) := dk_16 11 (dk_at dksX6_drop_2 4 rfl rfl)
theorem dX6_drop_54 : decode cX6_drop 54 = .ok (.dup2, 1) := dk_92 (dk_at dksX6_drop_2 6 rfl rfl)
theorem dX6_drop_55 : decode cX6_drop 55 = .ok (.iaload, 1) := dk_46 (dk_at dksX6_drop_2 7 rfl rfl)
theorem dX6_drop_56 : decode cX6_drop 56 = .ok (.iconst 1, 1) := dk_4 (dk_at dksX6_drop_2 8 rfl rfl)
theorem dX6_drop_57 : decode cX6_drop 57 = .ok (.isub, 1) := dk_100 (dk_at dksX6_drop_2 9 rfl rfl)
theorem dX6_drop_58 : decode cX6_drop 58 = .ok (.iastore, 1) := dk_79 (dk_at dksX6_drop_2 10 rfl rfl)
theorem dX6_drop_59 : decode cX6_drop 59 = .ok (.aload_n 0, 1) := dk_42 (dk_at dksX6_drop_2 11 rfl rfl)
theorem dX6_drop_60 : decode cX6_drop 60 = .ok (.getfield 7, 3) := dk_180 0 7 (dk_at dksX6_drop_2 12 rfl rfl)
theorem dX6_drop_63 : decode cX6_drop 63 = .ok (.bipush 11, 2) := dk_16 11 (dk_at dksX6_drop_2 15 rfl rfl)
theorem dX6_drop_65 : decode cX6_drop 65 = .ok (.iaload, 1) := dk_46 (dk_at dksX6_drop_2 17 rfl rfl)
theorem dX6_drop_66 : decode cX6_drop 66 = .ok (.ireturn, 1) := dk_172 (dk_at dksX6_drop_2 18 rfl rfl)
abbrev cX6_of : ByteArray := prog_16_method_30_code
def yX6_of : MethodName := ⟨RX6, "of", "(II)I"⟩
def dkwX6_of_1 : List UInt8 := [16, 12, 16, 6, 27, 104, 96, 28, 96, 46, 167, 0, 5, 16, 254, 172]
abbrev dktX6_of_1 : List UInt8 := dkwX6_of_1 ++ []
def dkwX6_of_0 : List UInt8 := [42, 27, 182, 0, 111, 154, 0, 5, 2, 172, 28, 3, 8, 184, 0, 49, 153, 0, 20, 42, 180, 0, 7]
abbrev dktX6_of_0 : List UInt8 := dkwX6_of_0 ++ dktX6_of_1
theorem dksX6_of_0 : cX6_of.data.toList.drop 0 = dktX6_of_0 := by decide +kernel
theorem dksX6_of_1 : cX6_of.data.toList.drop 23 = dktX6_of_1 := dk_seg dksX6_of_0 23 rfl rfl
theorem dX6_of_0 : decode cX6_of 0 = .ok (.aload_n 0, 1) := dk_42 (dk_at dksX6_of_0 0 rfl rfl)
theorem dX6_of_1 : decode cX6_of 1 = .ok (.iload_n 1, 1) := dk_27 (dk_at dksX6_of_0 1 rfl rfl)
theorem dX6_of_2 : decode cX6_of 2 = .ok (.invokevirtual 111, 3) := dk_182 0 111 (dk_at dksX6_of_0 2 rfl rfl)
theorem dX6_of_5 : decode cX6_of 5 = .ok (.ifCond .ne 5, 3) := dk_154 0 5 (dk_at dksX6_of_0 5 rfl rfl)
theorem dX6_of_8 : decode cX6_of 8 = .ok (.iconst (-1), 1) := dk_2 (dk_at dksX6_of_0 8 rfl rfl)
theorem dX6_of_9 : decode cX6_of 9 = .ok (.ireturn, 1) := dk_172 (dk_at dksX6_of_0 9 rfl rfl)
theorem dX6_of_10 : decode cX6_of 10 = .ok (.iload_n 2, 1) := dk_28 (dk_at dksX6_of_0 10 rfl rfl)
theorem dX6_of_11 : decode cX6_of 11 = .ok (.iconst 0, 1) := dk_3 (dk_at dksX6_of_0 11 rfl rfl)
theorem dX6_of_12 : decode cX6_of 12 = .ok (.iconst 5, 1) := dk_8 (dk_at dksX6_of_0 12 rfl rfl)
theorem dX6_of_13 : decode cX6_of 13 = .ok (.invokestatic 49, 3) := dk_184 0 49 (dk_at dksX6_of_0 13 rfl rfl)
theorem dX6_of_16 : decode cX6_of 16 = .ok (.ifCond .eq 20, 3) := dk_153 0 20 (dk_at dksX6_of_0 16 rfl rfl)
theorem dX6_of_19 : decode cX6_of 19 = .ok (.aload_n 0, 1) := dk_42 (dk_at dksX6_of_0 19 rfl rfl)
theorem dX6_of_20 : decode cX6_of 20 = .ok (.getfield 7, 3) := dk_180 0 7 (dk_at dksX6_of_0 20 rfl rfl)
theorem dX6_of_23 : decode cX6_of 23 = .ok (.bipush 12, 2) := dk_16 12 (dk_at dksX6_of_1 0 rfl rfl)
theorem dX6_of_25 : decode cX6_of 25 = .ok (.bipush 6, 2) := dk_16 6 (dk_at dksX6_of_1 2 rfl rfl)
theorem dX6_of_27 : decode cX6_of 27 = .ok (.iload_n 1, 1) := dk_27 (dk_at dksX6_of_1 4 rfl rfl)
theorem dX6_of_28 : decode cX6_of 28 = .ok (.imul, 1) := dk_104 (dk_at dksX6_of_1 5 rfl rfl)
theorem dX6_of_29 : decode cX6_of 29 = .ok (.iadd, 1) := dk_96 (dk_at dksX6_of_1 6 rfl rfl)
theorem dX6_of_30 : decode cX6_of 30 = .ok (.iload_n 2, 1) := dk_28 (dk_at dksX6_of_1 7 rfl rfl)
theorem dX6_of_31 : decode cX6_of 31 = .ok (.iadd, 1) := dk_96 (dk_at dksX6_of_1 8 rfl rfl)
theorem dX6_of_32 : decode cX6_of 32 = .ok (.iaload, 1) := dk_46 (dk_at dksX6_of_1 9 rfl rfl)
theorem dX6_of_33 : decode cX6_of 33 = .ok (.goto 5, 3) := dk_167 0 5 (dk_at dksX6_of_1 10 rfl rfl)
theorem dX6_of_36 : decode cX6_of 36 = .ok (.bipush (-2), 2) := dk_16 254 (dk_at dksX6_of_1 13 rfl rfl)
theorem dX6_of_38 : decode cX6_of 38 = .ok (.ireturn, 1) := dk_172 (dk_at dksX6_of_1 15 rfl rfl)
abbrev cX6_does : ByteArray := prog_16_method_35_code
def yX6_does : MethodName := ⟨RX6, "does", "(II)I"⟩
def dkwX6_does_5 : List UInt8 := [27, 42, 21, 4, 182, 0, 122, 182, 0, 125, 172, 16, 254, 172]
abbrev dktX6_does_5 : List UInt8 := dkwX6_does_5 ++ []
def dkwX6_does_4 : List UInt8 := [182, 0, 76, 154, 0, 7, 4, 167, 0, 4, 3, 172, 21, 4, 172, 42, 21, 4, 182, 0, 122, 172, 42, 29]
abbrev dktX6_does_4 : List UInt8 := dkwX6_does_4 ++ dktX6_does_5
def dkwX6_does_3 : List UInt8 := [42, 29, 27, 182, 0, 89, 4, 160, 0, 7, 4, 167, 0, 4, 3, 172, 42, 29, 27, 4, 27, 2]
abbrev dktX6_does_3 : List UInt8 := dkwX6_does_3 ++ dktX6_does_4
def dkwX6_does_2 : List UInt8 := [170, 0, 0, 0, 0, 0, 92, 0, 0, 0, 0, 0, 0, 0, 4, 0, 0, 0, 35, 0, 0, 0, 51, 0, 0, 0, 69, 0, 0, 0, 72, 0, 0, 0, 79]
abbrev dktX6_does_2 : List UInt8 := dkwX6_does_2 ++ dktX6_does_3
def dkwX6_does_1 : List UInt8 := [180, 0, 7, 4, 27, 96, 46, 4, 164, 0, 7, 4, 167, 0, 4, 3, 182, 0, 118, 54, 4, 28]
abbrev dktX6_does_1 : List UInt8 := dkwX6_does_1 ++ dktX6_does_2
def dkwX6_does_0 : List UInt8 := [42, 27, 182, 0, 80, 154, 0, 5, 2, 172, 42, 42, 182, 0, 83, 182, 0, 86, 62, 42, 29, 27, 42]
abbrev dktX6_does_0 : List UInt8 := dkwX6_does_0 ++ dktX6_does_1
theorem dksX6_does_0 : cX6_does.data.toList.drop 0 = dktX6_does_0 := by decide +kernel
theorem dksX6_does_1 : cX6_does.data.toList.drop 23 = dktX6_does_1 := dk_seg dksX6_does_0 23 rfl rfl
theorem dksX6_does_2 : cX6_does.data.toList.drop 45 = dktX6_does_2 := dk_seg dksX6_does_1 22 rfl rfl
theorem dksX6_does_3 : cX6_does.data.toList.drop 80 = dktX6_does_3 := dk_seg dksX6_does_2 35 rfl rfl
theorem dksX6_does_4 : cX6_does.data.toList.drop 102 = dktX6_does_4 := dk_seg dksX6_does_3 22 rfl rfl
theorem dksX6_does_5 : cX6_does.data.toList.drop 126 = dktX6_does_5 := dk_seg dksX6_does_4 24 rfl rfl
theorem dX6_does_0 : decode cX6_does 0 = .ok (.aload_n 0, 1) := dk_42 (dk_at dksX6_does_0 0 rfl rfl)
theorem dX6_does_1 : decode cX6_does 1 = .ok (.iload_n 1, 1) := dk_27 (dk_at dksX6_does_0 1 rfl rfl)
theorem dX6_does_2 : decode cX6_does 2 = .ok (.invokevirtual 80, 3) := dk_182 0 80 (dk_at dksX6_does_0 2 rfl rfl)
theorem dX6_does_5 : decode cX6_does 5 = .ok (.ifCond .ne 5, 3) := dk_154 0 5 (dk_at dksX6_does_0 5 rfl rfl)
theorem dX6_does_8 : decode cX6_does 8 = .ok (.iconst (-1), 1) := dk_2 (dk_at dksX6_does_0 8 rfl rfl)
theorem dX6_does_9 : decode cX6_does 9 = .ok (.ireturn, 1) := dk_172 (dk_at dksX6_does_0 9 rfl rfl)
theorem dX6_does_10 : decode cX6_does 10 = .ok (.aload_n 0, 1) := dk_42 (dk_at dksX6_does_0 10 rfl rfl)
theorem dX6_does_11 : decode cX6_does 11 = .ok (.aload_n 0, 1) := dk_42 (dk_at dksX6_does_0 11 rfl rfl)
theorem dX6_does_12 : decode cX6_does 12 = .ok (.invokevirtual 83, 3) := dk_182 0 83 (dk_at dksX6_does_0 12 rfl rfl)
theorem dX6_does_15 : decode cX6_does 15 = .ok (.invokevirtual 86, 3) := dk_182 0 86 (dk_at dksX6_does_0 15 rfl rfl)
theorem dX6_does_18 : decode cX6_does 18 = .ok (.istore_n 3, 1) := dk_62 (dk_at dksX6_does_0 18 rfl rfl)
theorem dX6_does_19 : decode cX6_does 19 = .ok (.aload_n 0, 1) := dk_42 (dk_at dksX6_does_0 19 rfl rfl)
theorem dX6_does_20 : decode cX6_does 20 = .ok (.iload_n 3, 1) := dk_29 (dk_at dksX6_does_0 20 rfl rfl)
theorem dX6_does_21 : decode cX6_does 21 = .ok (.iload_n 1, 1) := dk_27 (dk_at dksX6_does_0 21 rfl rfl)
theorem dX6_does_22 : decode cX6_does 22 = .ok (.aload_n 0, 1) := dk_42 (dk_at dksX6_does_0 22 rfl rfl)
theorem dX6_does_23 : decode cX6_does 23 = .ok (.getfield 7, 3) := dk_180 0 7 (dk_at dksX6_does_1 0 rfl rfl)
theorem dX6_does_26 : decode cX6_does 26 = .ok (.iconst 1, 1) := dk_4 (dk_at dksX6_does_1 3 rfl rfl)
theorem dX6_does_27 : decode cX6_does 27 = .ok (.iload_n 1, 1) := dk_27 (dk_at dksX6_does_1 4 rfl rfl)
theorem dX6_does_28 : decode cX6_does 28 = .ok (.iadd, 1) := dk_96 (dk_at dksX6_does_1 5 rfl rfl)
theorem dX6_does_29 : decode cX6_does 29 = .ok (.iaload, 1) := dk_46 (dk_at dksX6_does_1 6 rfl rfl)
theorem dX6_does_30 : decode cX6_does 30 = .ok (.iconst 1, 1) := dk_4 (dk_at dksX6_does_1 7 rfl rfl)
theorem dX6_does_31 : decode cX6_does 31 = .ok (.if_icmp .le 7, 3) := dk_164 0 7 (dk_at dksX6_does_1 8 rfl rfl)
theorem dX6_does_34 : decode cX6_does 34 = .ok (.iconst 1, 1) := dk_4 (dk_at dksX6_does_1 11 rfl rfl)
theorem dX6_does_35 : decode cX6_does 35 = .ok (.goto 4, 3) := dk_167 0 4 (dk_at dksX6_does_1 12 rfl rfl)
theorem dX6_does_38 : decode cX6_does 38 = .ok (.iconst 0, 1) := dk_3 (dk_at dksX6_does_1 15 rfl rfl)
theorem dX6_does_39 : decode cX6_does 39 = .ok (.invokevirtual 118, 3) := dk_182 0 118 (dk_at dksX6_does_1 16 rfl rfl)
theorem dX6_does_42 : decode cX6_does 42 = .ok (.istore 4, 2) := dk_54 4 (dk_at dksX6_does_1 19 rfl rfl)
theorem dX6_does_44 : decode cX6_does 44 = .ok (.iload_n 2, 1) := dk_28 (dk_at dksX6_does_1 21 rfl rfl)
theorem dX6_does_45 : decode cX6_does 45 = .ok (.tableswitch 92 0 4 #[35, 51, 69, 72, 79], 35) := by decide +kernel
theorem dX6_does_80 : decode cX6_does 80 = .ok (.aload_n 0, 1) := dk_42 (dk_at dksX6_does_3 0 rfl rfl)
theorem dX6_does_81 : decode cX6_does 81 = .ok (.iload_n 3, 1) := dk_29 (dk_at dksX6_does_3 1 rfl rfl)
theorem dX6_does_82 : decode cX6_does 82 = .ok (.iload_n 1, 1) := dk_27 (dk_at dksX6_does_3 2 rfl rfl)
theorem dX6_does_83 : decode cX6_does 83 = .ok (.invokevirtual 89, 3) := dk_182 0 89 (dk_at dksX6_does_3 3 rfl rfl)
theorem dX6_does_86 : decode cX6_does 86 = .ok (.iconst 1, 1) := dk_4 (dk_at dksX6_does_3 6 rfl rfl)
theorem dX6_does_87 : decode cX6_does 87 = .ok (.if_icmp .ne 7, 3) := dk_160 0 7 (dk_at dksX6_does_3 7 rfl rfl)
theorem dX6_does_90 : decode cX6_does 90 = .ok (.iconst 1, 1) := dk_4 (dk_at dksX6_does_3 10 rfl rfl)
theorem dX6_does_91 : decode cX6_does 91 = .ok (.goto 4, 3) := dk_167 0 4 (dk_at dksX6_does_3 11 rfl rfl)
theorem dX6_does_94 : decode cX6_does 94 = .ok (.iconst 0, 1) := dk_3 (dk_at dksX6_does_3 14 rfl rfl)
theorem dX6_does_95 : decode cX6_does 95 = .ok (.ireturn, 1) := dk_172 (dk_at dksX6_does_3 15 rfl rfl)
theorem dX6_does_96 : decode cX6_does 96 = .ok (.aload_n 0, 1) := dk_42 (dk_at dksX6_does_3 16 rfl rfl)
theorem dX6_does_97 : decode cX6_does 97 = .ok (.iload_n 3, 1) := dk_29 (dk_at dksX6_does_3 17 rfl rfl)
theorem dX6_does_98 : decode cX6_does 98 = .ok (.iload_n 1, 1) := dk_27 (dk_at dksX6_does_3 18 rfl rfl)
theorem dX6_does_99 : decode cX6_does 99 = .ok (.iconst 1, 1) := dk_4 (dk_at dksX6_does_3 19 rfl rfl)
theorem dX6_does_100 : decode cX6_does 100 = .ok (.iload_n 1, 1) := dk_27 (dk_at dksX6_does_3 20 rfl rfl)
theorem dX6_does_101 : decode cX6_does 101 = .ok (.iconst (-1), 1) := dk_2 (dk_at dksX6_does_3 21 rfl rfl)
theorem dX6_does_102 : decode cX6_does 102 = .ok (.invokevirtual 76, 3) := dk_182 0 76 (dk_at dksX6_does_4 0 rfl rfl)
theorem dX6_does_105 : decode cX6_does 105 = .ok (.ifCond .ne 7, 3) := dk_154 0 7 (dk_at dksX6_does_4 3 rfl rfl)
theorem dX6_does_108 : decode cX6_does 108 = .ok (.iconst 1, 1) := dk_4 (dk_at dksX6_does_4 6 rfl rfl)
theorem dX6_does_109 : decode cX6_does 109 = .ok (.goto 4, 3) := dk_167 0 4 (dk_at dksX6_does_4 7 rfl rfl)
theorem dX6_does_112 : decode cX6_does 112 = .ok (.iconst 0, 1) := dk_3 (dk_at dksX6_does_4 10 rfl rfl)
theorem dX6_does_113 : decode cX6_does 113 = .ok (.ireturn, 1) := dk_172 (dk_at dksX6_does_4 11 rfl rfl)
theorem dX6_does_114 : decode cX6_does 114 = .ok (.iload 4, 2) := dk_21 4 (dk_at dksX6_does_4 12 rfl rfl)
theorem dX6_does_116 : decode cX6_does 116 = .ok (.ireturn, 1) := dk_172 (dk_at dksX6_does_4 14 rfl rfl)
theorem dX6_does_117 : decode cX6_does 117 = .ok (.aload_n 0, 1) := dk_42 (dk_at dksX6_does_4 15 rfl rfl)
theorem dX6_does_118 : decode cX6_does 118 = .ok (.iload 4, 2) := dk_21 4 (dk_at dksX6_does_4 16 rfl rfl)
theorem dX6_does_120 : decode cX6_does 120 = .ok (.invokevirtual 122, 3) := dk_182 0 122 (dk_at dksX6_does_4 18 rfl rfl)
theorem dX6_does_123 : decode cX6_does 123 = .ok (.ireturn, 1) := dk_172 (dk_at dksX6_does_4 21 rfl rfl)
theorem dX6_does_124 : decode cX6_does 124 = .ok (.aload_n 0, 1) := dk_42 (dk_at dksX6_does_4 22 rfl rfl)
theorem dX6_does_125 : decode cX6_does 125 = .ok (.iload_n 3, 1) := dk_29 (dk_at dksX6_does_4 23 rfl rfl)
theorem dX6_does_126 : decode cX6_does 126 = .ok (.iload_n 1, 1) := dk_27 (dk_at dksX6_does_5 0 rfl rfl)
theorem dX6_does_127 : decode cX6_does 127 = .ok (.aload_n 0, 1) := dk_42 (dk_at dksX6_does_5 1 rfl rfl)
theorem dX6_does_128 : decode cX6_does 128 = .ok (.iload 4, 2) := dk_21 4 (dk_at dksX6_does_5 2 rfl rfl)
theorem dX6_does_130 : decode cX6_does 130 = .ok (.invokevirtual 122, 3) := dk_182 0 122 (dk_at dksX6_does_5 4 rfl rfl)
theorem dX6_does_133 : decode cX6_does 133 = .ok (.invokevirtual 125, 3) := dk_182 0 125 (dk_at dksX6_does_5 7 rfl rfl)
theorem dX6_does_136 : decode cX6_does 136 = .ok (.ireturn, 1) := dk_172 (dk_at dksX6_does_5 10 rfl rfl)
theorem dX6_does_137 : decode cX6_does 137 = .ok (.bipush (-2), 2) := dk_16 254 (dk_at dksX6_does_5 11 rfl rfl)
theorem dX6_does_139 : decode cX6_does 139 = .ok (.ireturn, 1) := dk_172 (dk_at dksX6_does_5 13 rfl rfl)
abbrev cX6_ruleOf : ByteArray := prog_16_method_32_code
def yX6_ruleOf : MethodName := ⟨RX6, "ruleOf", "(IIZ)I"⟩
def dkwX6_ruleOf_1 : List UInt8 := [153, 0, 6, 21, 4, 172, 132, 4, 1, 167, 255, 226, 16, 250, 172]
abbrev dktX6_ruleOf_1 : List UInt8 := dkwX6_ruleOf_1 ++ []
def dkwX6_ruleOf_0 : List UInt8 := [3, 54, 4, 21, 4, 42, 180, 0, 7, 16, 11, 46, 162, 0, 24, 42, 21, 4, 27, 28, 29, 182, 0, 114]
abbrev dktX6_ruleOf_0 : List UInt8 := dkwX6_ruleOf_0 ++ dktX6_ruleOf_1
theorem dksX6_ruleOf_0 : cX6_ruleOf.data.toList.drop 0 = dktX6_ruleOf_0 := by decide +kernel
theorem dksX6_ruleOf_1 : cX6_ruleOf.data.toList.drop 24 = dktX6_ruleOf_1 := dk_seg dksX6_ruleOf_0 24 rfl rfl
theorem dX6_ruleOf_0 : decode cX6_ruleOf 0 = .ok (.iconst 0, 1) := dk_3 (dk_at dksX6_ruleOf_0 0 rfl rfl)
theorem dX6_ruleOf_1 : decode cX6_ruleOf 1 = .ok (.istore 4, 2) := dk_54 4 (dk_at dksX6_ruleOf_0 1 rfl rfl)
theorem dX6_ruleOf_3 : decode cX6_ruleOf 3 = .ok (.iload 4, 2) := dk_21 4 (dk_at dksX6_ruleOf_0 3 rfl rfl)
theorem dX6_ruleOf_5 : decode cX6_ruleOf 5 = .ok (.aload_n 0, 1) := dk_42 (dk_at dksX6_ruleOf_0 5 rfl rfl)
theorem dX6_ruleOf_6 : decode cX6_ruleOf 6 = .ok (.getfield 7, 3) := dk_180 0 7 (dk_at dksX6_ruleOf_0 6 rfl rfl)
theorem dX6_ruleOf_9 : decode cX6_ruleOf 9 = .ok (.bipush 11, 2) := dk_16 11 (dk_at dksX6_ruleOf_0 9 rfl rfl)
theorem dX6_ruleOf_11 : decode cX6_ruleOf 11 = .ok (.iaload, 1) := dk_46 (dk_at dksX6_ruleOf_0 11 rfl rfl)
theorem dX6_ruleOf_12 : decode cX6_ruleOf 12 = .ok (.if_icmp .ge 24, 3) := dk_162 0 24 (dk_at dksX6_ruleOf_0 12 rfl rfl)
theorem dX6_ruleOf_15 : decode cX6_ruleOf 15 = .ok (.aload_n 0, 1) := dk_42 (dk_at dksX6_ruleOf_0 15 rfl rfl)
theorem dX6_ruleOf_16 : decode cX6_ruleOf 16 = .ok (.iload 4, 2) := dk_21 4 (dk_at dksX6_ruleOf_0 16 rfl rfl)
theorem dX6_ruleOf_18 : decode cX6_ruleOf 18 = .ok (.iload_n 1, 1) := dk_27 (dk_at dksX6_ruleOf_0 18 rfl rfl)
theorem dX6_ruleOf_19 : decode cX6_ruleOf 19 = .ok (.iload_n 2, 1) := dk_28 (dk_at dksX6_ruleOf_0 19 rfl rfl)
theorem dX6_ruleOf_20 : decode cX6_ruleOf 20 = .ok (.iload_n 3, 1) := dk_29 (dk_at dksX6_ruleOf_0 20 rfl rfl)
theorem dX6_ruleOf_21 : decode cX6_ruleOf 21 = .ok (.invokevirtual 114, 3) := dk_182 0 114 (dk_at dksX6_ruleOf_0 21 rfl rfl)
theorem dX6_ruleOf_24 : decode cX6_ruleOf 24 = .ok (.ifCond .eq 6, 3) := dk_153 0 6 (dk_at dksX6_ruleOf_1 0 rfl rfl)
theorem dX6_ruleOf_27 : decode cX6_ruleOf 27 = .ok (.iload 4, 2) := dk_21 4 (dk_at dksX6_ruleOf_1 3 rfl rfl)
theorem dX6_ruleOf_29 : decode cX6_ruleOf 29 = .ok (.ireturn, 1) := dk_172 (dk_at dksX6_ruleOf_1 5 rfl rfl)
theorem dX6_ruleOf_30 : decode cX6_ruleOf 30 = .ok (.iinc 4 1, 3) := dk_132 4 1 (dk_at dksX6_ruleOf_1 6 rfl rfl)
theorem dX6_ruleOf_33 : decode cX6_ruleOf 33 = .ok (.goto (-30), 3) := dk_167 255 226 (dk_at dksX6_ruleOf_1 9 rfl rfl)
theorem dX6_ruleOf_36 : decode cX6_ruleOf 36 = .ok (.bipush (-6), 2) := dk_16 250 (dk_at dksX6_ruleOf_1 12 rfl rfl)
theorem dX6_ruleOf_38 : decode cX6_ruleOf 38 = .ok (.ireturn, 1) := dk_172 (dk_at dksX6_ruleOf_1 14 rfl rfl)
abbrev cX6_fits : ByteArray := prog_16_method_31_code
def yX6_fits : MethodName := ⟨RX6, "fits", "(IIIZ)Z"⟩
def dkwX6_fits_7 : List UInt8 := [167, 0, 22, 21, 7, 42, 180, 0, 7, 21, 5, 6, 96, 46, 164, 0, 7, 4, 167, 0, 4, 3, 172]
abbrev dktX6_fits_7 : List UInt8 := dkwX6_fits_7 ++ []
def dkwX6_fits_6 : List UInt8 := [46, 4, 160, 0, 25, 21, 7, 42, 180, 0, 7, 21, 5, 6, 96, 46, 160, 0, 7, 4, 167, 0, 26, 3]
abbrev dktX6_fits_6 : List UInt8 := dkwX6_fits_6 ++ dktX6_fits_7
def dkwX6_fits_5 : List UInt8 := [21, 5, 6, 96, 46, 162, 0, 7, 4, 167, 0, 61, 3, 167, 0, 57, 42, 180, 0, 7, 21, 5, 5, 96]
abbrev dktX6_fits_5 : List UInt8 := dkwX6_fits_5 ++ dktX6_fits_6
def dkwX6_fits_4 : List UInt8 := [182, 0, 72, 54, 7, 42, 180, 0, 7, 21, 5, 5, 96, 46, 154, 0, 25, 21, 7, 42, 180, 0, 7]
abbrev dktX6_fits_4 : List UInt8 := dkwX6_fits_4 ++ dktX6_fits_5
def dkwX6_fits_3 : List UInt8 := [160, 0, 5, 3, 172, 42, 28, 29, 42, 28, 29, 182, 0, 89, 42, 180, 0, 7, 21, 5, 4, 96, 46]
abbrev dktX6_fits_3 : List UInt8 := dkwX6_fits_3 ++ dktX6_fits_4
def dkwX6_fits_2 : List UInt8 := [21, 6, 162, 0, 25, 42, 180, 0, 7, 21, 5, 8, 96, 46, 21, 4, 153, 0, 7, 3, 167, 0, 4, 4]
abbrev dktX6_fits_2 : List UInt8 := dkwX6_fits_2 ++ dktX6_fits_3
def dkwX6_fits_1 : List UInt8 := [158, 0, 15, 42, 180, 0, 7, 21, 5, 46, 21, 6, 160, 0, 39, 42, 180, 0, 7, 21, 5, 4, 96, 46]
abbrev dktX6_fits_1 : List UInt8 := dkwX6_fits_1 ++ dktX6_fits_2
def dkwX6_fits_0 : List UInt8 := [16, 12, 16, 6, 27, 104, 96, 54, 5, 28, 184, 0, 68, 54, 6, 42, 180, 0, 7, 21, 5, 46]
abbrev dktX6_fits_0 : List UInt8 := dkwX6_fits_0 ++ dktX6_fits_1
theorem dksX6_fits_0 : cX6_fits.data.toList.drop 0 = dktX6_fits_0 := by decide +kernel
theorem dksX6_fits_1 : cX6_fits.data.toList.drop 22 = dktX6_fits_1 := dk_seg dksX6_fits_0 22 rfl rfl
theorem dksX6_fits_2 : cX6_fits.data.toList.drop 46 = dktX6_fits_2 := dk_seg dksX6_fits_1 24 rfl rfl
theorem dksX6_fits_3 : cX6_fits.data.toList.drop 70 = dktX6_fits_3 := dk_seg dksX6_fits_2 24 rfl rfl
theorem dksX6_fits_4 : cX6_fits.data.toList.drop 93 = dktX6_fits_4 := dk_seg dksX6_fits_3 23 rfl rfl
theorem dksX6_fits_5 : cX6_fits.data.toList.drop 116 = dktX6_fits_5 := dk_seg dksX6_fits_4 23 rfl rfl
theorem dksX6_fits_6 : cX6_fits.data.toList.drop 140 = dktX6_fits_6 := dk_seg dksX6_fits_5 24 rfl rfl
theorem dksX6_fits_7 : cX6_fits.data.toList.drop 164 = dktX6_fits_7 := dk_seg dksX6_fits_6 24 rfl rfl
theorem dX6_fits_0 : decode cX6_fits 0 = .ok (.bipush 12, 2) := dk_16 12 (dk_at dksX6_fits_0 0 rfl rfl)
theorem dX6_fits_2 : decode cX6_fits 2 = .ok (.bipush 6, 2) := dk_16 6 (dk_at dksX6_fits_0 2 rfl rfl)
theorem dX6_fits_4 : decode cX6_fits 4 = .ok (.iload_n 1, 1) := dk_27 (dk_at dksX6_fits_0 4 rfl rfl)
theorem dX6_fits_5 : decode cX6_fits 5 = .ok (.imul, 1) := dk_104 (dk_at dksX6_fits_0 5 rfl rfl)
theorem dX6_fits_6 : decode cX6_fits 6 = .ok (.iadd, 1) := dk_96 (dk_at dksX6_fits_0 6 rfl rfl)
theorem dX6_fits_7 : decode cX6_fits 7 = .ok (.istore 5, 2) := dk_54 5 (dk_at dksX6_fits_0 7 rfl rfl)
theorem dX6_fits_9 : decode cX6_fits 9 = .ok (.iload_n 2, 1) := dk_28 (dk_at dksX6_fits_0 9 rfl rfl)
theorem dX6_fits_10 : decode cX6_fits 10 = .ok (.invokestatic 68, 3) := dk_184 0 68 (dk_at dksX6_fits_0 10 rfl rfl)
theorem dX6_fits_13 : decode cX6_fits 13 = .ok (.istore 6, 2) := dk_54 6 (dk_at dksX6_fits_0 13 rfl rfl)
theorem dX6_fits_15 : decode cX6_fits 15 = .ok (.aload_n 0, 1) := dk_42 (dk_at dksX6_fits_0 15 rfl rfl)
theorem dX6_fits_16 : decode cX6_fits 16 = .ok (.getfield 7, 3) := dk_180 0 7 (dk_at dksX6_fits_0 16 rfl rfl)
theorem dX6_fits_19 : decode cX6_fits 19 = .ok (.iload 5, 2) := dk_21 5 (dk_at dksX6_fits_0 19 rfl rfl)
theorem dX6_fits_21 : decode cX6_fits 21 = .ok (.iaload, 1) := dk_46 (dk_at dksX6_fits_0 21 rfl rfl)
theorem dX6_fits_22 : decode cX6_fits 22 = .ok (.ifCond .le 15, 3) := dk_158 0 15 (dk_at dksX6_fits_1 0 rfl rfl)
theorem dX6_fits_25 : decode cX6_fits 25 = .ok (.aload_n 0, 1) := dk_42 (dk_at dksX6_fits_1 3 rfl rfl)
theorem dX6_fits_26 : decode cX6_fits 26 = .ok (.getfield 7, 3) := dk_180 0 7 (dk_at dksX6_fits_1 4 rfl rfl)
theorem dX6_fits_29 : decode cX6_fits 29 = .ok (.iload 5, 2) := dk_21 5 (dk_at dksX6_fits_1 7 rfl rfl)
theorem dX6_fits_31 : decode cX6_fits 31 = .ok (.iaload, 1) := dk_46 (dk_at dksX6_fits_1 9 rfl rfl)
theorem dX6_fits_32 : decode cX6_fits 32 = .ok (.iload 6, 2) := dk_21 6 (dk_at dksX6_fits_1 10 rfl rfl)
theorem dX6_fits_34 : decode cX6_fits 34 = .ok (.if_icmp .ne 39, 3) := dk_160 0 39 (dk_at dksX6_fits_1 12 rfl rfl)
theorem dX6_fits_37 : decode cX6_fits 37 = .ok (.aload_n 0, 1) := dk_42 (dk_at dksX6_fits_1 15 rfl rfl)
theorem dX6_fits_38 : decode cX6_fits 38 = .ok (.getfield 7, 3) := dk_180 0 7 (dk_at dksX6_fits_1 16 rfl rfl)
theorem dX6_fits_41 : decode cX6_fits 41 = .ok (.iload 5, 2) := dk_21 5 (dk_at dksX6_fits_1 19 rfl rfl)
theorem dX6_fits_43 : decode cX6_fits 43 = .ok (.iconst 1, 1) := dk_4 (dk_at dksX6_fits_1 21 rfl rfl)
theorem dX6_fits_44 : decode cX6_fits 44 = .ok (.iadd, 1) := dk_96 (dk_at dksX6_fits_1 22 rfl rfl)
theorem dX6_fits_45 : decode cX6_fits 45 = .ok (.iaload, 1) := dk_46 (dk_at dksX6_fits_1 23 rfl rfl)
theorem dX6_fits_46 : decode cX6_fits 46 = .ok (.iload 6, 2) := dk_21 6 (dk_at dksX6_fits_2 0 rfl rfl)
theorem dX6_fits_48 : decode cX6_fits 48 = .ok (.if_icmp .ge 25, 3) := dk_162 0 25 (dk_at dksX6_fits_2 2 rfl rfl)
theorem dX6_fits_51 : decode cX6_fits 51 = .ok (.aload_n 0, 1) := dk_42 (dk_at dksX6_fits_2 5 rfl rfl)
theorem dX6_fits_52 : decode cX6_fits 52 = .ok (.getfield 7, 3) := dk_180 0 7 (dk_at dksX6_fits_2 6 rfl rfl)
theorem dX6_fits_55 : decode cX6_fits 55 = .ok (.iload 5, 2) := dk_21 5 (dk_at dksX6_fits_2 9 rfl rfl)
theorem dX6_fits_57 : decode cX6_fits 57 = .ok (.iconst 5, 1) := dk_8 (dk_at dksX6_fits_2 11 rfl rfl)
theorem dX6_fits_58 : decode cX6_fits 58 = .ok (.iadd, 1) := dk_96 (dk_at dksX6_fits_2 12 rfl rfl)
theorem dX6_fits_59 : decode cX6_fits 59 = .ok (.iaload, 1) := dk_46 (dk_at dksX6_fits_2 13 rfl rfl)
theorem dX6_fits_60 : decode cX6_fits 60 = .ok (.iload 4, 2) := dk_21 4 (dk_at dksX6_fits_2 14 rfl rfl)
theorem dX6_fits_62 : decode cX6_fits 62 = .ok (.ifCond .eq 7, 3) := dk_153 0 7 (dk_at dksX6_fits_2 16 rfl rfl)
theorem dX6_fits_65 : decode cX6_fits 65 = .ok (.iconst 0, 1) := dk_3 (dk_at dksX6_fits_2 19 rfl rfl)
theorem dX6_fits_66 : decode cX6_fits 66 = .ok (.goto 4, 3) := dk_167 0 4 (dk_at dksX6_fits_2 20 rfl rfl)
theorem dX6_fits_69 : decode cX6_fits 69 = .ok (.iconst 1, 1) := dk_4 (dk_at dksX6_fits_2 23 rfl rfl)
theorem dX6_fits_70 : decode cX6_fits 70 = .ok (.if_icmp .ne 5, 3) := dk_160 0 5 (dk_at dksX6_fits_3 0 rfl rfl)
theorem dX6_fits_73 : decode cX6_fits 73 = .ok (.iconst 0, 1) := dk_3 (dk_at dksX6_fits_3 3 rfl rfl)
theorem dX6_fits_74 : decode cX6_fits 74 = .ok (.ireturn, 1) := dk_172 (dk_at dksX6_fits_3 4 rfl rfl)
theorem dX6_fits_75 : decode cX6_fits 75 = .ok (.aload_n 0, 1) := dk_42 (dk_at dksX6_fits_3 5 rfl rfl)
theorem dX6_fits_76 : decode cX6_fits 76 = .ok (.iload_n 2, 1) := dk_28 (dk_at dksX6_fits_3 6 rfl rfl)
theorem dX6_fits_77 : decode cX6_fits 77 = .ok (.iload_n 3, 1) := dk_29 (dk_at dksX6_fits_3 7 rfl rfl)
theorem dX6_fits_78 : decode cX6_fits 78 = .ok (.aload_n 0, 1) := dk_42 (dk_at dksX6_fits_3 8 rfl rfl)
theorem dX6_fits_79 : decode cX6_fits 79 = .ok (.iload_n 2, 1) := dk_28 (dk_at dksX6_fits_3 9 rfl rfl)
theorem dX6_fits_80 : decode cX6_fits 80 = .ok (.iload_n 3, 1) := dk_29 (dk_at dksX6_fits_3 10 rfl rfl)
theorem dX6_fits_81 : decode cX6_fits 81 = .ok (.invokevirtual 89, 3) := dk_182 0 89 (dk_at dksX6_fits_3 11 rfl rfl)
theorem dX6_fits_84 : decode cX6_fits 84 = .ok (.aload_n 0, 1) := dk_42 (dk_at dksX6_fits_3 14 rfl rfl)
theorem dX6_fits_85 : decode cX6_fits 85 = .ok (.getfield 7, 3) := dk_180 0 7 (dk_at dksX6_fits_3 15 rfl rfl)
theorem dX6_fits_88 : decode cX6_fits 88 = .ok (.iload 5, 2) := dk_21 5 (dk_at dksX6_fits_3 18 rfl rfl)
theorem dX6_fits_90 : decode cX6_fits 90 = .ok (.iconst 1, 1) := dk_4 (dk_at dksX6_fits_3 20 rfl rfl)
theorem dX6_fits_91 : decode cX6_fits 91 = .ok (.iadd, 1) := dk_96 (dk_at dksX6_fits_3 21 rfl rfl)
theorem dX6_fits_92 : decode cX6_fits 92 = .ok (.iaload, 1) := dk_46 (dk_at dksX6_fits_3 22 rfl rfl)
theorem dX6_fits_93 : decode cX6_fits 93 = .ok (.invokevirtual 72, 3) := dk_182 0 72 (dk_at dksX6_fits_4 0 rfl rfl)
theorem dX6_fits_96 : decode cX6_fits 96 = .ok (.istore 7, 2) := dk_54 7 (dk_at dksX6_fits_4 3 rfl rfl)
theorem dX6_fits_98 : decode cX6_fits 98 = .ok (.aload_n 0, 1) := dk_42 (dk_at dksX6_fits_4 5 rfl rfl)
theorem dX6_fits_99 : decode cX6_fits 99 = .ok (.getfield 7, 3) := dk_180 0 7 (dk_at dksX6_fits_4 6 rfl rfl)
theorem dX6_fits_102 : decode cX6_fits 102 = .ok (.iload 5, 2) := dk_21 5 (dk_at dksX6_fits_4 9 rfl rfl)
theorem dX6_fits_104 : decode cX6_fits 104 = .ok (.iconst 2, 1) := dk_5 (dk_at dksX6_fits_4 11 rfl rfl)
theorem dX6_fits_105 : decode cX6_fits 105 = .ok (.iadd, 1) := dk_96 (dk_at dksX6_fits_4 12 rfl rfl)
theorem dX6_fits_106 : decode cX6_fits 106 = .ok (.iaload, 1) := dk_46 (dk_at dksX6_fits_4 13 rfl rfl)
theorem dX6_fits_107 : decode cX6_fits 107 = .ok (.ifCond .ne 25, 3) := dk_154 0 25 (dk_at dksX6_fits_4 14 rfl rfl)
theorem dX6_fits_110 : decode cX6_fits 110 = .ok (.iload 7, 2) := dk_21 7 (dk_at dksX6_fits_4 17 rfl rfl)
theorem dX6_fits_112 : decode cX6_fits 112 = .ok (.aload_n 0, 1) := dk_42 (dk_at dksX6_fits_4 19 rfl rfl)
theorem dX6_fits_113 : decode cX6_fits 113 = .ok (.getfield 7, 3) := dk_180 0 7 (dk_at dksX6_fits_4 20 rfl rfl)
theorem dX6_fits_116 : decode cX6_fits 116 = .ok (.iload 5, 2) := dk_21 5 (dk_at dksX6_fits_5 0 rfl rfl)
theorem dX6_fits_118 : decode cX6_fits 118 = .ok (.iconst 3, 1) := dk_6 (dk_at dksX6_fits_5 2 rfl rfl)
theorem dX6_fits_119 : decode cX6_fits 119 = .ok (.iadd, 1) := dk_96 (dk_at dksX6_fits_5 3 rfl rfl)
theorem dX6_fits_120 : decode cX6_fits 120 = .ok (.iaload, 1) := dk_46 (dk_at dksX6_fits_5 4 rfl rfl)
theorem dX6_fits_121 : decode cX6_fits 121 = .ok (.if_icmp .ge 7, 3) := dk_162 0 7 (dk_at dksX6_fits_5 5 rfl rfl)
theorem dX6_fits_124 : decode cX6_fits 124 = .ok (.iconst 1, 1) := dk_4 (dk_at dksX6_fits_5 8 rfl rfl)
theorem dX6_fits_125 : decode cX6_fits 125 = .ok (.goto 61, 3) := dk_167 0 61 (dk_at dksX6_fits_5 9 rfl rfl)
theorem dX6_fits_128 : decode cX6_fits 128 = .ok (.iconst 0, 1) := dk_3 (dk_at dksX6_fits_5 12 rfl rfl)
theorem dX6_fits_129 : decode cX6_fits 129 = .ok (.goto 57, 3) := dk_167 0 57 (dk_at dksX6_fits_5 13 rfl rfl)
theorem dX6_fits_132 : decode cX6_fits 132 = .ok (.aload_n 0, 1) := dk_42 (dk_at dksX6_fits_5 16 rfl rfl)
theorem dX6_fits_133 : decode cX6_fits 133 = .ok (.getfield 7, 3) := dk_180 0 7 (dk_at dksX6_fits_5 17 rfl rfl)
theorem dX6_fits_136 : decode cX6_fits 136 = .ok (.iload 5, 2) := dk_21 5 (dk_at dksX6_fits_5 20 rfl rfl)
theorem dX6_fits_138 : decode cX6_fits 138 = .ok (.iconst 2, 1) := dk_5 (dk_at dksX6_fits_5 22 rfl rfl)
theorem dX6_fits_139 : decode cX6_fits 139 = .ok (.iadd, 1) := dk_96 (dk_at dksX6_fits_5 23 rfl rfl)
theorem dX6_fits_140 : decode cX6_fits 140 = .ok (.iaload, 1) := dk_46 (dk_at dksX6_fits_6 0 rfl rfl)
theorem dX6_fits_141 : decode cX6_fits 141 = .ok (.iconst 1, 1) := dk_4 (dk_at dksX6_fits_6 1 rfl rfl)
theorem dX6_fits_142 : decode cX6_fits 142 = .ok (.if_icmp .ne 25, 3) := dk_160 0 25 (dk_at dksX6_fits_6 2 rfl rfl)
theorem dX6_fits_145 : decode cX6_fits 145 = .ok (.iload 7, 2) := dk_21 7 (dk_at dksX6_fits_6 5 rfl rfl)
theorem dX6_fits_147 : decode cX6_fits 147 = .ok (.aload_n 0, 1) := dk_42 (dk_at dksX6_fits_6 7 rfl rfl)
theorem dX6_fits_148 : decode cX6_fits 148 = .ok (.getfield 7, 3) := dk_180 0 7 (dk_at dksX6_fits_6 8 rfl rfl)
theorem dX6_fits_151 : decode cX6_fits 151 = .ok (.iload 5, 2) := dk_21 5 (dk_at dksX6_fits_6 11 rfl rfl)
theorem dX6_fits_153 : decode cX6_fits 153 = .ok (.iconst 3, 1) := dk_6 (dk_at dksX6_fits_6 13 rfl rfl)
theorem dX6_fits_154 : decode cX6_fits 154 = .ok (.iadd, 1) := dk_96 (dk_at dksX6_fits_6 14 rfl rfl)
theorem dX6_fits_155 : decode cX6_fits 155 = .ok (.iaload, 1) := dk_46 (dk_at dksX6_fits_6 15 rfl rfl)
theorem dX6_fits_156 : decode cX6_fits 156 = .ok (.if_icmp .ne 7, 3) := dk_160 0 7 (dk_at dksX6_fits_6 16 rfl rfl)
theorem dX6_fits_159 : decode cX6_fits 159 = .ok (.iconst 1, 1) := dk_4 (dk_at dksX6_fits_6 19 rfl rfl)
theorem dX6_fits_160 : decode cX6_fits 160 = .ok (.goto 26, 3) := dk_167 0 26 (dk_at dksX6_fits_6 20 rfl rfl)
theorem dX6_fits_163 : decode cX6_fits 163 = .ok (.iconst 0, 1) := dk_3 (dk_at dksX6_fits_6 23 rfl rfl)
theorem dX6_fits_164 : decode cX6_fits 164 = .ok (.goto 22, 3) := dk_167 0 22 (dk_at dksX6_fits_7 0 rfl rfl)
theorem dX6_fits_167 : decode cX6_fits 167 = .ok (.iload 7, 2) := dk_21 7 (dk_at dksX6_fits_7 3 rfl rfl)
theorem dX6_fits_169 : decode cX6_fits 169 = .ok (.aload_n 0, 1) := dk_42 (dk_at dksX6_fits_7 5 rfl rfl)
theorem dX6_fits_170 : decode cX6_fits 170 = .ok (.getfield 7, 3) := dk_180 0 7 (dk_at dksX6_fits_7 6 rfl rfl)
theorem dX6_fits_173 : decode cX6_fits 173 = .ok (.iload 5, 2) := dk_21 5 (dk_at dksX6_fits_7 9 rfl rfl)
theorem dX6_fits_175 : decode cX6_fits 175 = .ok (.iconst 3, 1) := dk_6 (dk_at dksX6_fits_7 11 rfl rfl)
theorem dX6_fits_176 : decode cX6_fits 176 = .ok (.iadd, 1) := dk_96 (dk_at dksX6_fits_7 12 rfl rfl)
theorem dX6_fits_177 : decode cX6_fits 177 = .ok (.iaload, 1) := dk_46 (dk_at dksX6_fits_7 13 rfl rfl)
theorem dX6_fits_178 : decode cX6_fits 178 = .ok (.if_icmp .le 7, 3) := dk_164 0 7 (dk_at dksX6_fits_7 14 rfl rfl)
theorem dX6_fits_181 : decode cX6_fits 181 = .ok (.iconst 1, 1) := dk_4 (dk_at dksX6_fits_7 17 rfl rfl)
theorem dX6_fits_182 : decode cX6_fits 182 = .ok (.goto 4, 3) := dk_167 0 4 (dk_at dksX6_fits_7 18 rfl rfl)
theorem dX6_fits_185 : decode cX6_fits 185 = .ok (.iconst 0, 1) := dk_3 (dk_at dksX6_fits_7 21 rfl rfl)
theorem dX6_fits_186 : decode cX6_fits 186 = .ok (.ireturn, 1) := dk_172 (dk_at dksX6_fits_7 22 rfl rfl)
abbrev cX6_doneBy : ByteArray := prog_16_method_33_code
def yX6_doneBy : MethodName := ⟨RX6, "doneBy", "(I)I"⟩
def dkwX6_doneBy_0 : List UInt8 := [27, 156, 0, 7, 3, 167, 0, 17, 42, 180, 0, 7, 16, 12, 16, 6, 27, 104, 96, 7, 96, 46, 172]
abbrev dktX6_doneBy_0 : List UInt8 := dkwX6_doneBy_0 ++ []
theorem dksX6_doneBy_0 : cX6_doneBy.data.toList.drop 0 = dktX6_doneBy_0 := by decide +kernel
theorem dX6_doneBy_0 : decode cX6_doneBy 0 = .ok (.iload_n 1, 1) := dk_27 (dk_at dksX6_doneBy_0 0 rfl rfl)
theorem dX6_doneBy_1 : decode cX6_doneBy 1 = .ok (.ifCond .ge 7, 3) := dk_156 0 7 (dk_at dksX6_doneBy_0 1 rfl rfl)
theorem dX6_doneBy_4 : decode cX6_doneBy 4 = .ok (.iconst 0, 1) := dk_3 (dk_at dksX6_doneBy_0 4 rfl rfl)
theorem dX6_doneBy_5 : decode cX6_doneBy 5 = .ok (.goto 17, 3) := dk_167 0 17 (dk_at dksX6_doneBy_0 5 rfl rfl)
theorem dX6_doneBy_8 : decode cX6_doneBy 8 = .ok (.aload_n 0, 1) := dk_42 (dk_at dksX6_doneBy_0 8 rfl rfl)
theorem dX6_doneBy_9 : decode cX6_doneBy 9 = .ok (.getfield 7, 3) := dk_180 0 7 (dk_at dksX6_doneBy_0 9 rfl rfl)
theorem dX6_doneBy_12 : decode cX6_doneBy 12 = .ok (.bipush 12, 2) := dk_16 12 (dk_at dksX6_doneBy_0 12 rfl rfl)
theorem dX6_doneBy_14 : decode cX6_doneBy 14 = .ok (.bipush 6, 2) := dk_16 6 (dk_at dksX6_doneBy_0 14 rfl rfl)
theorem dX6_doneBy_16 : decode cX6_doneBy 16 = .ok (.iload_n 1, 1) := dk_27 (dk_at dksX6_doneBy_0 16 rfl rfl)
theorem dX6_doneBy_17 : decode cX6_doneBy 17 = .ok (.imul, 1) := dk_104 (dk_at dksX6_doneBy_0 17 rfl rfl)
theorem dX6_doneBy_18 : decode cX6_doneBy 18 = .ok (.iadd, 1) := dk_96 (dk_at dksX6_doneBy_0 18 rfl rfl)
theorem dX6_doneBy_19 : decode cX6_doneBy 19 = .ok (.iconst 4, 1) := dk_7 (dk_at dksX6_doneBy_0 19 rfl rfl)
theorem dX6_doneBy_20 : decode cX6_doneBy 20 = .ok (.iadd, 1) := dk_96 (dk_at dksX6_doneBy_0 20 rfl rfl)
theorem dX6_doneBy_21 : decode cX6_doneBy 21 = .ok (.iaload, 1) := dk_46 (dk_at dksX6_doneBy_0 21 rfl rfl)
theorem dX6_doneBy_22 : decode cX6_doneBy 22 = .ok (.ireturn, 1) := dk_172 (dk_at dksX6_doneBy_0 22 rfl rfl)
abbrev cX6_behind : ByteArray := prog_16_method_34_code
def yX6_behind : MethodName := ⟨RX6, "behind", "(III)I"⟩
def dkwX6_behind_1 : List UInt8 := [21, 4, 167, 0, 6, 21, 4, 116, 182, 0, 60, 172]
abbrev dktX6_behind_1 : List UInt8 := dkwX6_behind_1 ++ []
def dkwX6_behind_0 : List UInt8 := [42, 27, 28, 182, 0, 89, 54, 4, 29, 154, 0, 7, 28, 167, 0, 21, 42, 28, 29, 4, 160, 0, 8]
abbrev dktX6_behind_0 : List UInt8 := dkwX6_behind_0 ++ dktX6_behind_1
theorem dksX6_behind_0 : cX6_behind.data.toList.drop 0 = dktX6_behind_0 := by decide +kernel
theorem dksX6_behind_1 : cX6_behind.data.toList.drop 23 = dktX6_behind_1 := dk_seg dksX6_behind_0 23 rfl rfl
theorem dX6_behind_0 : decode cX6_behind 0 = .ok (.aload_n 0, 1) := dk_42 (dk_at dksX6_behind_0 0 rfl rfl)
theorem dX6_behind_1 : decode cX6_behind 1 = .ok (.iload_n 1, 1) := dk_27 (dk_at dksX6_behind_0 1 rfl rfl)
theorem dX6_behind_2 : decode cX6_behind 2 = .ok (.iload_n 2, 1) := dk_28 (dk_at dksX6_behind_0 2 rfl rfl)
theorem dX6_behind_3 : decode cX6_behind 3 = .ok (.invokevirtual 89, 3) := dk_182 0 89 (dk_at dksX6_behind_0 3 rfl rfl)
theorem dX6_behind_6 : decode cX6_behind 6 = .ok (.istore 4, 2) := dk_54 4 (dk_at dksX6_behind_0 6 rfl rfl)
theorem dX6_behind_8 : decode cX6_behind 8 = .ok (.iload_n 3, 1) := dk_29 (dk_at dksX6_behind_0 8 rfl rfl)
theorem dX6_behind_9 : decode cX6_behind 9 = .ok (.ifCond .ne 7, 3) := dk_154 0 7 (dk_at dksX6_behind_0 9 rfl rfl)
theorem dX6_behind_12 : decode cX6_behind 12 = .ok (.iload_n 2, 1) := dk_28 (dk_at dksX6_behind_0 12 rfl rfl)
theorem dX6_behind_13 : decode cX6_behind 13 = .ok (.goto 21, 3) := dk_167 0 21 (dk_at dksX6_behind_0 13 rfl rfl)
theorem dX6_behind_16 : decode cX6_behind 16 = .ok (.aload_n 0, 1) := dk_42 (dk_at dksX6_behind_0 16 rfl rfl)
theorem dX6_behind_17 : decode cX6_behind 17 = .ok (.iload_n 2, 1) := dk_28 (dk_at dksX6_behind_0 17 rfl rfl)
theorem dX6_behind_18 : decode cX6_behind 18 = .ok (.iload_n 3, 1) := dk_29 (dk_at dksX6_behind_0 18 rfl rfl)
theorem dX6_behind_19 : decode cX6_behind 19 = .ok (.iconst 1, 1) := dk_4 (dk_at dksX6_behind_0 19 rfl rfl)
theorem dX6_behind_20 : decode cX6_behind 20 = .ok (.if_icmp .ne 8, 3) := dk_160 0 8 (dk_at dksX6_behind_0 20 rfl rfl)
theorem dX6_behind_23 : decode cX6_behind 23 = .ok (.iload 4, 2) := dk_21 4 (dk_at dksX6_behind_1 0 rfl rfl)
theorem dX6_behind_25 : decode cX6_behind 25 = .ok (.goto 6, 3) := dk_167 0 6 (dk_at dksX6_behind_1 2 rfl rfl)
theorem dX6_behind_28 : decode cX6_behind 28 = .ok (.iload 4, 2) := dk_21 4 (dk_at dksX6_behind_1 5 rfl rfl)
theorem dX6_behind_30 : decode cX6_behind 30 = .ok (.ineg, 1) := dk_116 (dk_at dksX6_behind_1 7 rfl rfl)
theorem dX6_behind_31 : decode cX6_behind 31 = .ok (.invokevirtual 60, 3) := dk_182 0 60 (dk_at dksX6_behind_1 8 rfl rfl)
theorem dX6_behind_34 : decode cX6_behind 34 = .ok (.ireturn, 1) := dk_172 (dk_at dksX6_behind_1 11 rfl rfl)
abbrev cX6_step : ByteArray := prog_16_method_36_code
def yX6_step : MethodName := ⟨RX6, "step", "(I)I"⟩
def dkwX6_step_7 : List UInt8 := [182, 0, 86, 184, 0, 68, 172]
abbrev dktX6_step_7 : List UInt8 := dkwX6_step_7 ++ []
def dkwX6_step_6 : List UInt8 := [180, 0, 7, 4, 29, 96, 42, 180, 0, 23, 29, 46, 79, 132, 3, 1, 167, 255, 233, 42, 42, 182, 0, 83]
abbrev dktX6_step_6 : List UInt8 := dkwX6_step_6 ++ dktX6_step_7
def dkwX6_step_5 : List UInt8 := [180, 0, 7, 4, 29, 96, 46, 96, 79, 132, 3, 1, 167, 255, 172, 3, 62, 29, 16, 10, 162, 0, 23, 42]
abbrev dktX6_step_5 : List UInt8 := dkwX6_step_5 ++ dktX6_step_6
def dkwX6_step_4 : List UInt8 := [182, 0, 122, 167, 0, 4, 3, 54, 4, 42, 180, 0, 23, 42, 28, 29, 21, 4, 182, 0, 125, 92, 46, 42]
abbrev dktX6_step_4 : List UInt8 := dkwX6_step_4 ++ dktX6_step_5
def dkwX6_step_3 : List UInt8 := [42, 28, 29, 42, 180, 0, 7, 4, 29, 96, 46, 4, 164, 0, 7, 4, 167, 0, 4, 3, 182, 0, 118]
abbrev dktX6_step_3 : List UInt8 := dkwX6_step_3 ++ dktX6_step_4
def dkwX6_step_2 : List UInt8 := [42, 182, 0, 45, 162, 0, 82, 28, 29, 184, 0, 92, 153, 0, 68, 27, 29, 184, 0, 92, 153, 0, 33, 42]
abbrev dktX6_step_2 : List UInt8 := dkwX6_step_2 ++ dktX6_step_3
def dkwX6_step_1 : List UInt8 := [3, 62, 29, 16, 10, 162, 0, 16, 42, 180, 0, 23, 29, 3, 79, 132, 3, 1, 167, 255, 240, 3, 62, 29]
abbrev dktX6_step_1 : List UInt8 := dkwX6_step_1 ++ dktX6_step_2
def dkwX6_step_0 : List UInt8 := [42, 42, 182, 0, 83, 182, 0, 86, 61, 27, 155, 0, 11, 27, 28, 2, 130, 126, 153, 0, 6, 16, 254, 172]
abbrev dktX6_step_0 : List UInt8 := dkwX6_step_0 ++ dktX6_step_1
theorem dksX6_step_0 : cX6_step.data.toList.drop 0 = dktX6_step_0 := by decide +kernel
theorem dksX6_step_1 : cX6_step.data.toList.drop 24 = dktX6_step_1 := dk_seg dksX6_step_0 24 rfl rfl
theorem dksX6_step_2 : cX6_step.data.toList.drop 48 = dktX6_step_2 := dk_seg dksX6_step_1 24 rfl rfl
theorem dksX6_step_3 : cX6_step.data.toList.drop 72 = dktX6_step_3 := dk_seg dksX6_step_2 24 rfl rfl
theorem dksX6_step_4 : cX6_step.data.toList.drop 95 = dktX6_step_4 := dk_seg dksX6_step_3 23 rfl rfl
theorem dksX6_step_5 : cX6_step.data.toList.drop 119 = dktX6_step_5 := dk_seg dksX6_step_4 24 rfl rfl
theorem dksX6_step_6 : cX6_step.data.toList.drop 143 = dktX6_step_6 := dk_seg dksX6_step_5 24 rfl rfl
theorem dksX6_step_7 : cX6_step.data.toList.drop 167 = dktX6_step_7 := dk_seg dksX6_step_6 24 rfl rfl
theorem dX6_step_0 : decode cX6_step 0 = .ok (.aload_n 0, 1) := dk_42 (dk_at dksX6_step_0 0 rfl rfl)
theorem dX6_step_1 : decode cX6_step 1 = .ok (.aload_n 0, 1) := dk_42 (dk_at dksX6_step_0 1 rfl rfl)
theorem dX6_step_2 : decode cX6_step 2 = .ok (.invokevirtual 83, 3) := dk_182 0 83 (dk_at dksX6_step_0 2 rfl rfl)
theorem dX6_step_5 : decode cX6_step 5 = .ok (.invokevirtual 86, 3) := dk_182 0 86 (dk_at dksX6_step_0 5 rfl rfl)
theorem dX6_step_8 : decode cX6_step 8 = .ok (.istore_n 2, 1) := dk_61 (dk_at dksX6_step_0 8 rfl rfl)
theorem dX6_step_9 : decode cX6_step 9 = .ok (.iload_n 1, 1) := dk_27 (dk_at dksX6_step_0 9 rfl rfl)
theorem dX6_step_10 : decode cX6_step 10 = .ok (.ifCond .lt 11, 3) := dk_155 0 11 (dk_at dksX6_step_0 10 rfl rfl)
theorem dX6_step_13 : decode cX6_step 13 = .ok (.iload_n 1, 1) := dk_27 (dk_at dksX6_step_0 13 rfl rfl)
theorem dX6_step_14 : decode cX6_step 14 = .ok (.iload_n 2, 1) := dk_28 (dk_at dksX6_step_0 14 rfl rfl)
theorem dX6_step_15 : decode cX6_step 15 = .ok (.iconst (-1), 1) := dk_2 (dk_at dksX6_step_0 15 rfl rfl)
theorem dX6_step_16 : decode cX6_step 16 = .ok (.ixor, 1) := dk_130 (dk_at dksX6_step_0 16 rfl rfl)
theorem dX6_step_17 : decode cX6_step 17 = .ok (.iand, 1) := dk_126 (dk_at dksX6_step_0 17 rfl rfl)
theorem dX6_step_18 : decode cX6_step 18 = .ok (.ifCond .eq 6, 3) := dk_153 0 6 (dk_at dksX6_step_0 18 rfl rfl)
theorem dX6_step_21 : decode cX6_step 21 = .ok (.bipush (-2), 2) := dk_16 254 (dk_at dksX6_step_0 21 rfl rfl)
theorem dX6_step_23 : decode cX6_step 23 = .ok (.ireturn, 1) := dk_172 (dk_at dksX6_step_0 23 rfl rfl)
theorem dX6_step_24 : decode cX6_step 24 = .ok (.iconst 0, 1) := dk_3 (dk_at dksX6_step_1 0 rfl rfl)
theorem dX6_step_25 : decode cX6_step 25 = .ok (.istore_n 3, 1) := dk_62 (dk_at dksX6_step_1 1 rfl rfl)
theorem dX6_step_26 : decode cX6_step 26 = .ok (.iload_n 3, 1) := dk_29 (dk_at dksX6_step_1 2 rfl rfl)
theorem dX6_step_27 : decode cX6_step 27 = .ok (.bipush 10, 2) := dk_16 10 (dk_at dksX6_step_1 3 rfl rfl)
theorem dX6_step_29 : decode cX6_step 29 = .ok (.if_icmp .ge 16, 3) := dk_162 0 16 (dk_at dksX6_step_1 5 rfl rfl)
theorem dX6_step_32 : decode cX6_step 32 = .ok (.aload_n 0, 1) := dk_42 (dk_at dksX6_step_1 8 rfl rfl)
theorem dX6_step_33 : decode cX6_step 33 = .ok (.getfield 23, 3) := dk_180 0 23 (dk_at dksX6_step_1 9 rfl rfl)
theorem dX6_step_36 : decode cX6_step 36 = .ok (.iload_n 3, 1) := dk_29 (dk_at dksX6_step_1 12 rfl rfl)
theorem dX6_step_37 : decode cX6_step 37 = .ok (.iconst 0, 1) := dk_3 (dk_at dksX6_step_1 13 rfl rfl)
theorem dX6_step_38 : decode cX6_step 38 = .ok (.iastore, 1) := dk_79 (dk_at dksX6_step_1 14 rfl rfl)
theorem dX6_step_39 : decode cX6_step 39 = .ok (.iinc 3 1, 3) := dk_132 3 1 (dk_at dksX6_step_1 15 rfl rfl)
theorem dX6_step_42 : decode cX6_step 42 = .ok (.goto (-16), 3) := dk_167 255 240 (dk_at dksX6_step_1 18 rfl rfl)
theorem dX6_step_45 : decode cX6_step 45 = .ok (.iconst 0, 1) := dk_3 (dk_at dksX6_step_1 21 rfl rfl)
theorem dX6_step_46 : decode cX6_step 46 = .ok (.istore_n 3, 1) := dk_62 (dk_at dksX6_step_1 22 rfl rfl)
theorem dX6_step_47 : decode cX6_step 47 = .ok (.iload_n 3, 1) := dk_29 (dk_at dksX6_step_1 23 rfl rfl)
theorem dX6_step_48 : decode cX6_step 48 = .ok (.aload_n 0, 1) := dk_42 (dk_at dksX6_step_2 0 rfl rfl)
theorem dX6_step_49 : decode cX6_step 49 = .ok (.invokevirtual 45, 3) := dk_182 0 45 (dk_at dksX6_step_2 1 rfl rfl)
theorem dX6_step_52 : decode cX6_step 52 = .ok (.if_icmp .ge 82, 3) := dk_162 0 82 (dk_at dksX6_step_2 4 rfl rfl)
theorem dX6_step_55 : decode cX6_step 55 = .ok (.iload_n 2, 1) := dk_28 (dk_at dksX6_step_2 7 rfl rfl)
theorem dX6_step_56 : decode cX6_step 56 = .ok (.iload_n 3, 1) := dk_29 (dk_at dksX6_step_2 8 rfl rfl)
theorem dX6_step_57 : decode cX6_step 57 = .ok (.invokestatic 92, 3) := dk_184 0 92 (dk_at dksX6_step_2 9 rfl rfl)
theorem dX6_step_60 : decode cX6_step 60 = .ok (.ifCond .eq 68, 3) := dk_153 0 68 (dk_at dksX6_step_2 12 rfl rfl)
theorem dX6_step_63 : decode cX6_step 63 = .ok (.iload_n 1, 1) := dk_27 (dk_at dksX6_step_2 15 rfl rfl)
theorem dX6_step_64 : decode cX6_step 64 = .ok (.iload_n 3, 1) := dk_29 (dk_at dksX6_step_2 16 rfl rfl)
theorem dX6_step_65 : decode cX6_step 65 = .ok (.invokestatic 92, 3) := dk_184 0 92 (dk_at dksX6_step_2 17 rfl rfl)
theorem dX6_step_68 : decode cX6_step 68 = .ok (.ifCond .eq 33, 3) := dk_153 0 33 (dk_at dksX6_step_2 20 rfl rfl)
theorem dX6_step_71 : decode cX6_step 71 = .ok (.aload_n 0, 1) := dk_42 (dk_at dksX6_step_2 23 rfl rfl)
theorem dX6_step_72 : decode cX6_step 72 = .ok (.aload_n 0, 1) := dk_42 (dk_at dksX6_step_3 0 rfl rfl)
theorem dX6_step_73 : decode cX6_step 73 = .ok (.iload_n 2, 1) := dk_28 (dk_at dksX6_step_3 1 rfl rfl)
theorem dX6_step_74 : decode cX6_step 74 = .ok (.iload_n 3, 1) := dk_29 (dk_at dksX6_step_3 2 rfl rfl)
theorem dX6_step_75 : decode cX6_step 75 = .ok (.aload_n 0, 1) := dk_42 (dk_at dksX6_step_3 3 rfl rfl)
theorem dX6_step_76 : decode cX6_step 76 = .ok (.getfield 7, 3) := dk_180 0 7 (dk_at dksX6_step_3 4 rfl rfl)
theorem dX6_step_79 : decode cX6_step 79 = .ok (.iconst 1, 1) := dk_4 (dk_at dksX6_step_3 7 rfl rfl)
theorem dX6_step_80 : decode cX6_step 80 = .ok (.iload_n 3, 1) := dk_29 (dk_at dksX6_step_3 8 rfl rfl)
theorem dX6_step_81 : decode cX6_step 81 = .ok (.iadd, 1) := dk_96 (dk_at dksX6_step_3 9 rfl rfl)
theorem dX6_step_82 : decode cX6_step 82 = .ok (.iaload, 1) := dk_46 (dk_at dksX6_step_3 10 rfl rfl)
theorem dX6_step_83 : decode cX6_step 83 = .ok (.iconst 1, 1) := dk_4 (dk_at dksX6_step_3 11 rfl rfl)
theorem dX6_step_84 : decode cX6_step 84 = .ok (.if_icmp .le 7, 3) := dk_164 0 7 (dk_at dksX6_step_3 12 rfl rfl)
theorem dX6_step_87 : decode cX6_step 87 = .ok (.iconst 1, 1) := dk_4 (dk_at dksX6_step_3 15 rfl rfl)
theorem dX6_step_88 : decode cX6_step 88 = .ok (.goto 4, 3) := dk_167 0 4 (dk_at dksX6_step_3 16 rfl rfl)
theorem dX6_step_91 : decode cX6_step 91 = .ok (.iconst 0, 1) := dk_3 (dk_at dksX6_step_3 19 rfl rfl)
theorem dX6_step_92 : decode cX6_step 92 = .ok (.invokevirtual 118, 3) := dk_182 0 118 (dk_at dksX6_step_3 20 rfl rfl)
theorem dX6_step_95 : decode cX6_step 95 = .ok (.invokevirtual 122, 3) := dk_182 0 122 (dk_at dksX6_step_4 0 rfl rfl)
theorem dX6_step_98 : decode cX6_step 98 = .ok (.goto 4, 3) := dk_167 0 4 (dk_at dksX6_step_4 3 rfl rfl)
theorem dX6_step_101 : decode cX6_step 101 = .ok (.iconst 0, 1) := dk_3 (dk_at dksX6_step_4 6 rfl rfl)
theorem dX6_step_102 : decode cX6_step 102 = .ok (.istore 4, 2) := dk_54 4 (dk_at dksX6_step_4 7 rfl rfl)
theorem dX6_step_104 : decode cX6_step 104 = .ok (.aload_n 0, 1) := dk_42 (dk_at dksX6_step_4 9 rfl rfl)
theorem dX6_step_105 : decode cX6_step 105 = .ok (.getfield 23, 3) := dk_180 0 23 (dk_at dksX6_step_4 10 rfl rfl)
theorem dX6_step_108 : decode cX6_step 108 = .ok (.aload_n 0, 1) := dk_42 (dk_at dksX6_step_4 13 rfl rfl)
theorem dX6_step_109 : decode cX6_step 109 = .ok (.iload_n 2, 1) := dk_28 (dk_at dksX6_step_4 14 rfl rfl)
theorem dX6_step_110 : decode cX6_step 110 = .ok (.iload_n 3, 1) := dk_29 (dk_at dksX6_step_4 15 rfl rfl)
theorem dX6_step_111 : decode cX6_step 111 = .ok (.iload 4, 2) := dk_21 4 (dk_at dksX6_step_4 16 rfl rfl)
theorem dX6_step_113 : decode cX6_step 113 = .ok (.invokevirtual 125, 3) := dk_182 0 125 (dk_at dksX6_step_4 18 rfl rfl)
theorem dX6_step_116 : decode cX6_step 116 = .ok (.dup2, 1) := dk_92 (dk_at dksX6_step_4 21 rfl rfl)
theorem dX6_step_117 : decode cX6_step 117 = .ok (.iaload, 1) := dk_46 (dk_at dksX6_step_4 22 rfl rfl)
theorem dX6_step_118 : decode cX6_step 118 = .ok (.aload_n 0, 1) := dk_42 (dk_at dksX6_step_4 23 rfl rfl)
theorem dX6_step_119 : decode cX6_step 119 = .ok (.getfield 7, 3) := dk_180 0 7 (dk_at dksX6_step_5 0 rfl rfl)
theorem dX6_step_122 : decode cX6_step 122 = .ok (.iconst 1, 1) := dk_4 (dk_at dksX6_step_5 3 rfl rfl)
theorem dX6_step_123 : decode cX6_step 123 = .ok (.iload_n 3, 1) := dk_29 (dk_at dksX6_step_5 4 rfl rfl)
theorem dX6_step_124 : decode cX6_step 124 = .ok (.iadd, 1) := dk_96 (dk_at dksX6_step_5 5 rfl rfl)
theorem dX6_step_125 : decode cX6_step 125 = .ok (.iaload, 1) := dk_46 (dk_at dksX6_step_5 6 rfl rfl)
theorem dX6_step_126 : decode cX6_step 126 = .ok (.iadd, 1) := dk_96 (dk_at dksX6_step_5 7 rfl rfl)
theorem dX6_step_127 : decode cX6_step 127 = .ok (.iastore, 1) := dk_79 (dk_at dksX6_step_5 8 rfl rfl)
theorem dX6_step_128 : decode cX6_step 128 = .ok (.iinc 3 1, 3) := dk_132 3 1 (dk_at dksX6_step_5 9 rfl rfl)
theorem dX6_step_131 : decode cX6_step 131 = .ok (.goto (-84), 3) := dk_167 255 172 (dk_at dksX6_step_5 12 rfl rfl)
theorem dX6_step_134 : decode cX6_step 134 = .ok (.iconst 0, 1) := dk_3 (dk_at dksX6_step_5 15 rfl rfl)
theorem dX6_step_135 : decode cX6_step 135 = .ok (.istore_n 3, 1) := dk_62 (dk_at dksX6_step_5 16 rfl rfl)
theorem dX6_step_136 : decode cX6_step 136 = .ok (.iload_n 3, 1) := dk_29 (dk_at dksX6_step_5 17 rfl rfl)
theorem dX6_step_137 : decode cX6_step 137 = .ok (.bipush 10, 2) := dk_16 10 (dk_at dksX6_step_5 18 rfl rfl)
theorem dX6_step_139 : decode cX6_step 139 = .ok (.if_icmp .ge 23, 3) := dk_162 0 23 (dk_at dksX6_step_5 20 rfl rfl)
theorem dX6_step_142 : decode cX6_step 142 = .ok (.aload_n 0, 1) := dk_42 (dk_at dksX6_step_5 23 rfl rfl)
theorem dX6_step_143 : decode cX6_step 143 = .ok (.getfield 7, 3) := dk_180 0 7 (dk_at dksX6_step_6 0 rfl rfl)
theorem dX6_step_146 : decode cX6_step 146 = .ok (.iconst 1, 1) := dk_4 (dk_at dksX6_step_6 3 rfl rfl)
theorem dX6_step_147 : decode cX6_step 147 = .ok (.iload_n 3, 1) := dk_29 (dk_at dksX6_step_6 4 rfl rfl)
theorem dX6_step_148 : decode cX6_step 148 = .ok (.iadd, 1) := dk_96 (dk_at dksX6_step_6 5 rfl rfl)
theorem dX6_step_149 : decode cX6_step 149 = .ok (.aload_n 0, 1) := dk_42 (dk_at dksX6_step_6 6 rfl rfl)
theorem dX6_step_150 : decode cX6_step 150 = .ok (.getfield 23, 3) := dk_180 0 23 (dk_at dksX6_step_6 7 rfl rfl)
theorem dX6_step_153 : decode cX6_step 153 = .ok (.iload_n 3, 1) := dk_29 (dk_at dksX6_step_6 10 rfl rfl)
theorem dX6_step_154 : decode cX6_step 154 = .ok (.iaload, 1) := dk_46 (dk_at dksX6_step_6 11 rfl rfl)
theorem dX6_step_155 : decode cX6_step 155 = .ok (.iastore, 1) := dk_79 (dk_at dksX6_step_6 12 rfl rfl)
theorem dX6_step_156 : decode cX6_step 156 = .ok (.iinc 3 1, 3) := dk_132 3 1 (dk_at dksX6_step_6 13 rfl rfl)
theorem dX6_step_159 : decode cX6_step 159 = .ok (.goto (-23), 3) := dk_167 255 233 (dk_at dksX6_step_6 16 rfl rfl)
theorem dX6_step_162 : decode cX6_step 162 = .ok (.aload_n 0, 1) := dk_42 (dk_at dksX6_step_6 19 rfl rfl)
theorem dX6_step_163 : decode cX6_step 163 = .ok (.aload_n 0, 1) := dk_42 (dk_at dksX6_step_6 20 rfl rfl)
theorem dX6_step_164 : decode cX6_step 164 = .ok (.invokevirtual 83, 3) := dk_182 0 83 (dk_at dksX6_step_6 21 rfl rfl)
theorem dX6_step_167 : decode cX6_step 167 = .ok (.invokevirtual 86, 3) := dk_182 0 86 (dk_at dksX6_step_7 0 rfl rfl)
theorem dX6_step_170 : decode cX6_step 170 = .ok (.invokestatic 68, 3) := dk_184 0 68 (dk_at dksX6_step_7 3 rfl rfl)
theorem dX6_step_173 : decode cX6_step 173 = .ok (.ireturn, 1) := dk_172 (dk_at dksX6_step_7 6 rfl rfl)
abbrev cX6_meets : ByteArray := prog_16_method_49_code
def yX6_meets : MethodName := ⟨RX6, "meets", "(II)I"⟩
def dkwX6_meets_4 : List UInt8 := [172, 42, 182, 0, 178, 172]
abbrev dktX6_meets_4 : List UInt8 := dkwX6_meets_4 ++ []
def dkwX6_meets_3 : List UInt8 := [42, 180, 0, 36, 29, 46, 172, 42, 180, 0, 39, 29, 46, 172, 42, 29, 182, 0, 175, 172, 42, 180, 0, 128]
abbrev dktX6_meets_3 : List UInt8 := dkwX6_meets_3 ++ dktX6_meets_4
def dkwX6_meets_2 : List UInt8 := [170, 0, 0, 0, 0, 55, 0, 0, 0, 0, 0, 0, 0, 3, 0, 0, 0, 30, 0, 0, 0, 37, 0, 0, 0, 44, 0, 0, 0, 50]
abbrev dktX6_meets_2 : List UInt8 := dkwX6_meets_2 ++ dktX6_meets_3
def dkwX6_meets_1 : List UInt8 := [29, 154, 0, 6, 16, 253, 172, 42, 27, 3, 182, 0, 171, 28]
abbrev dktX6_meets_1 : List UInt8 := dkwX6_meets_1 ++ dktX6_meets_2
def dkwX6_meets_0 : List UInt8 := [27, 184, 0, 168, 153, 0, 12, 28, 3, 7, 184, 0, 49, 154, 0, 6, 16, 254, 172, 42, 182, 0, 83, 62]
abbrev dktX6_meets_0 : List UInt8 := dkwX6_meets_0 ++ dktX6_meets_1
theorem dksX6_meets_0 : cX6_meets.data.toList.drop 0 = dktX6_meets_0 := by decide +kernel
theorem dksX6_meets_1 : cX6_meets.data.toList.drop 24 = dktX6_meets_1 := dk_seg dksX6_meets_0 24 rfl rfl
theorem dksX6_meets_2 : cX6_meets.data.toList.drop 38 = dktX6_meets_2 := dk_seg dksX6_meets_1 14 rfl rfl
theorem dksX6_meets_3 : cX6_meets.data.toList.drop 68 = dktX6_meets_3 := dk_seg dksX6_meets_2 30 rfl rfl
theorem dksX6_meets_4 : cX6_meets.data.toList.drop 92 = dktX6_meets_4 := dk_seg dksX6_meets_3 24 rfl rfl
theorem dX6_meets_0 : decode cX6_meets 0 = .ok (.iload_n 1, 1) := dk_27 (dk_at dksX6_meets_0 0 rfl rfl)
theorem dX6_meets_1 : decode cX6_meets 1 = .ok (.invokestatic 168, 3) := dk_184 0 168 (dk_at dksX6_meets_0 1 rfl rfl)
theorem dX6_meets_4 : decode cX6_meets 4 = .ok (.ifCond .eq 12, 3) := dk_153 0 12 (dk_at dksX6_meets_0 4 rfl rfl)
theorem dX6_meets_7 : decode cX6_meets 7 = .ok (.iload_n 2, 1) := dk_28 (dk_at dksX6_meets_0 7 rfl rfl)
theorem dX6_meets_8 : decode cX6_meets 8 = .ok (.iconst 0, 1) := dk_3 (dk_at dksX6_meets_0 8 rfl rfl)
theorem dX6_meets_9 : decode cX6_meets 9 = .ok (.iconst 4, 1) := dk_7 (dk_at dksX6_meets_0 9 rfl rfl)
theorem dX6_meets_10 : decode cX6_meets 10 = .ok (.invokestatic 49, 3) := dk_184 0 49 (dk_at dksX6_meets_0 10 rfl rfl)
theorem dX6_meets_13 : decode cX6_meets 13 = .ok (.ifCond .ne 6, 3) := dk_154 0 6 (dk_at dksX6_meets_0 13 rfl rfl)
theorem dX6_meets_16 : decode cX6_meets 16 = .ok (.bipush (-2), 2) := dk_16 254 (dk_at dksX6_meets_0 16 rfl rfl)
theorem dX6_meets_18 : decode cX6_meets 18 = .ok (.ireturn, 1) := dk_172 (dk_at dksX6_meets_0 18 rfl rfl)
theorem dX6_meets_19 : decode cX6_meets 19 = .ok (.aload_n 0, 1) := dk_42 (dk_at dksX6_meets_0 19 rfl rfl)
theorem dX6_meets_20 : decode cX6_meets 20 = .ok (.invokevirtual 83, 3) := dk_182 0 83 (dk_at dksX6_meets_0 20 rfl rfl)
theorem dX6_meets_23 : decode cX6_meets 23 = .ok (.istore_n 3, 1) := dk_62 (dk_at dksX6_meets_0 23 rfl rfl)
theorem dX6_meets_24 : decode cX6_meets 24 = .ok (.iload_n 3, 1) := dk_29 (dk_at dksX6_meets_1 0 rfl rfl)
theorem dX6_meets_25 : decode cX6_meets 25 = .ok (.ifCond .ne 6, 3) := dk_154 0 6 (dk_at dksX6_meets_1 1 rfl rfl)
theorem dX6_meets_28 : decode cX6_meets 28 = .ok (.bipush (-3), 2) := dk_16 253 (dk_at dksX6_meets_1 4 rfl rfl)
theorem dX6_meets_30 : decode cX6_meets 30 = .ok (.ireturn, 1) := dk_172 (dk_at dksX6_meets_1 6 rfl rfl)
theorem dX6_meets_31 : decode cX6_meets 31 = .ok (.aload_n 0, 1) := dk_42 (dk_at dksX6_meets_1 7 rfl rfl)
theorem dX6_meets_32 : decode cX6_meets 32 = .ok (.iload_n 1, 1) := dk_27 (dk_at dksX6_meets_1 8 rfl rfl)
theorem dX6_meets_33 : decode cX6_meets 33 = .ok (.iconst 0, 1) := dk_3 (dk_at dksX6_meets_1 9 rfl rfl)
theorem dX6_meets_34 : decode cX6_meets 34 = .ok (.invokevirtual 171, 3) := dk_182 0 171 (dk_at dksX6_meets_1 10 rfl rfl)
theorem dX6_meets_37 : decode cX6_meets 37 = .ok (.iload_n 2, 1) := dk_28 (dk_at dksX6_meets_1 13 rfl rfl)
theorem dX6_meets_38 : decode cX6_meets 38 = .ok (.tableswitch 55 0 3 #[30, 37, 44, 50], 30) := by decide +kernel
theorem dX6_meets_68 : decode cX6_meets 68 = .ok (.aload_n 0, 1) := dk_42 (dk_at dksX6_meets_3 0 rfl rfl)
theorem dX6_meets_69 : decode cX6_meets 69 = .ok (.getfield 36, 3) := dk_180 0 36 (dk_at dksX6_meets_3 1 rfl rfl)
theorem dX6_meets_72 : decode cX6_meets 72 = .ok (.iload_n 3, 1) := dk_29 (dk_at dksX6_meets_3 4 rfl rfl)
theorem dX6_meets_73 : decode cX6_meets 73 = .ok (.iaload, 1) := dk_46 (dk_at dksX6_meets_3 5 rfl rfl)
theorem dX6_meets_74 : decode cX6_meets 74 = .ok (.ireturn, 1) := dk_172 (dk_at dksX6_meets_3 6 rfl rfl)
theorem dX6_meets_75 : decode cX6_meets 75 = .ok (.aload_n 0, 1) := dk_42 (dk_at dksX6_meets_3 7 rfl rfl)
theorem dX6_meets_76 : decode cX6_meets 76 = .ok (.getfield 39, 3) := dk_180 0 39 (dk_at dksX6_meets_3 8 rfl rfl)
theorem dX6_meets_79 : decode cX6_meets 79 = .ok (.iload_n 3, 1) := dk_29 (dk_at dksX6_meets_3 11 rfl rfl)
theorem dX6_meets_80 : decode cX6_meets 80 = .ok (.iaload, 1) := dk_46 (dk_at dksX6_meets_3 12 rfl rfl)
theorem dX6_meets_81 : decode cX6_meets 81 = .ok (.ireturn, 1) := dk_172 (dk_at dksX6_meets_3 13 rfl rfl)
theorem dX6_meets_82 : decode cX6_meets 82 = .ok (.aload_n 0, 1) := dk_42 (dk_at dksX6_meets_3 14 rfl rfl)
theorem dX6_meets_83 : decode cX6_meets 83 = .ok (.iload_n 3, 1) := dk_29 (dk_at dksX6_meets_3 15 rfl rfl)
theorem dX6_meets_84 : decode cX6_meets 84 = .ok (.invokevirtual 175, 3) := dk_182 0 175 (dk_at dksX6_meets_3 16 rfl rfl)
theorem dX6_meets_87 : decode cX6_meets 87 = .ok (.ireturn, 1) := dk_172 (dk_at dksX6_meets_3 19 rfl rfl)
theorem dX6_meets_88 : decode cX6_meets 88 = .ok (.aload_n 0, 1) := dk_42 (dk_at dksX6_meets_3 20 rfl rfl)
theorem dX6_meets_89 : decode cX6_meets 89 = .ok (.getfield 128, 3) := dk_180 0 128 (dk_at dksX6_meets_3 21 rfl rfl)
theorem dX6_meets_92 : decode cX6_meets 92 = .ok (.ireturn, 1) := dk_172 (dk_at dksX6_meets_4 0 rfl rfl)
theorem dX6_meets_93 : decode cX6_meets 93 = .ok (.aload_n 0, 1) := dk_42 (dk_at dksX6_meets_4 1 rfl rfl)
theorem dX6_meets_94 : decode cX6_meets 94 = .ok (.invokevirtual 178, 3) := dk_182 0 178 (dk_at dksX6_meets_4 2 rfl rfl)
theorem dX6_meets_97 : decode cX6_meets 97 = .ok (.ireturn, 1) := dk_172 (dk_at dksX6_meets_4 5 rfl rfl)
abbrev cX6_isSchedule : ByteArray := prog_16_method_7_code
def yX6_isSchedule : MethodName := ⟨RX6, "isSchedule", "(I)Z"⟩
def dkwX6_isSchedule_0 : List UInt8 := [26, 3, 5, 184, 0, 49, 172]
abbrev dktX6_isSchedule_0 : List UInt8 := dkwX6_isSchedule_0 ++ []
theorem dksX6_isSchedule_0 : cX6_isSchedule.data.toList.drop 0 = dktX6_isSchedule_0 := by decide +kernel
theorem dX6_isSchedule_0 : decode cX6_isSchedule 0 = .ok (.iload_n 0, 1) := dk_26 (dk_at dksX6_isSchedule_0 0 rfl rfl)
theorem dX6_isSchedule_1 : decode cX6_isSchedule 1 = .ok (.iconst 0, 1) := dk_3 (dk_at dksX6_isSchedule_0 1 rfl rfl)
theorem dX6_isSchedule_2 : decode cX6_isSchedule 2 = .ok (.iconst 2, 1) := dk_5 (dk_at dksX6_isSchedule_0 2 rfl rfl)
theorem dX6_isSchedule_3 : decode cX6_isSchedule 3 = .ok (.invokestatic 49, 3) := dk_184 0 49 (dk_at dksX6_isSchedule_0 3 rfl rfl)
theorem dX6_isSchedule_6 : decode cX6_isSchedule 6 = .ok (.ireturn, 1) := dk_172 (dk_at dksX6_isSchedule_0 6 rfl rfl)
abbrev cX6_layNow : ByteArray := prog_16_method_47_code
def yX6_layNow : MethodName := ⟨RX6, "layNow", "(IZ)V"⟩
def dkwX6_layNow_0 : List UInt8 := [42, 28, 182, 0, 161, 42, 42, 182, 0, 83, 182, 0, 148, 42, 27, 182, 0, 165, 177]
abbrev dktX6_layNow_0 : List UInt8 := dkwX6_layNow_0 ++ []
theorem dksX6_layNow_0 : cX6_layNow.data.toList.drop 0 = dktX6_layNow_0 := by decide +kernel
theorem dX6_layNow_0 : decode cX6_layNow 0 = .ok (.aload_n 0, 1) := dk_42 (dk_at dksX6_layNow_0 0 rfl rfl)
theorem dX6_layNow_1 : decode cX6_layNow 1 = .ok (.iload_n 2, 1) := dk_28 (dk_at dksX6_layNow_0 1 rfl rfl)
theorem dX6_layNow_2 : decode cX6_layNow 2 = .ok (.invokevirtual 161, 3) := dk_182 0 161 (dk_at dksX6_layNow_0 2 rfl rfl)
theorem dX6_layNow_5 : decode cX6_layNow 5 = .ok (.aload_n 0, 1) := dk_42 (dk_at dksX6_layNow_0 5 rfl rfl)
theorem dX6_layNow_6 : decode cX6_layNow 6 = .ok (.aload_n 0, 1) := dk_42 (dk_at dksX6_layNow_0 6 rfl rfl)
theorem dX6_layNow_7 : decode cX6_layNow 7 = .ok (.invokevirtual 83, 3) := dk_182 0 83 (dk_at dksX6_layNow_0 7 rfl rfl)
theorem dX6_layNow_10 : decode cX6_layNow 10 = .ok (.invokevirtual 148, 3) := dk_182 0 148 (dk_at dksX6_layNow_0 10 rfl rfl)
theorem dX6_layNow_13 : decode cX6_layNow 13 = .ok (.aload_n 0, 1) := dk_42 (dk_at dksX6_layNow_0 13 rfl rfl)
theorem dX6_layNow_14 : decode cX6_layNow 14 = .ok (.iload_n 1, 1) := dk_27 (dk_at dksX6_layNow_0 14 rfl rfl)
theorem dX6_layNow_15 : decode cX6_layNow 15 = .ok (.invokevirtual 165, 3) := dk_182 0 165 (dk_at dksX6_layNow_0 15 rfl rfl)
theorem dX6_layNow_18 : decode cX6_layNow 18 = .ok (.return_, 1) := dk_177 (dk_at dksX6_layNow_0 18 rfl rfl)
abbrev cX6_begin : ByteArray := prog_16_method_42_code
def yX6_begin : MethodName := ⟨RX6, "begin", "(Z)V"⟩
def dkwX6_begin_1 : List UInt8 := [181, 0, 128, 42, 3, 181, 0, 136, 42, 27, 181, 0, 132, 177]
abbrev dktX6_begin_1 : List UInt8 := dkwX6_begin_1 ++ []
def dkwX6_begin_0 : List UInt8 := [3, 61, 28, 18, 26, 162, 0, 16, 42, 180, 0, 30, 28, 3, 84, 132, 2, 1, 167, 255, 240, 42, 3]
abbrev dktX6_begin_0 : List UInt8 := dkwX6_begin_0 ++ dktX6_begin_1
theorem dksX6_begin_0 : cX6_begin.data.toList.drop 0 = dktX6_begin_0 := by decide +kernel
theorem dksX6_begin_1 : cX6_begin.data.toList.drop 23 = dktX6_begin_1 := dk_seg dksX6_begin_0 23 rfl rfl
theorem dX6_begin_0 : decode cX6_begin 0 = .ok (.iconst 0, 1) := dk_3 (dk_at dksX6_begin_0 0 rfl rfl)
theorem dX6_begin_1 : decode cX6_begin 1 = .ok (.istore_n 2, 1) := dk_61 (dk_at dksX6_begin_0 1 rfl rfl)
theorem dX6_begin_2 : decode cX6_begin 2 = .ok (.iload_n 2, 1) := dk_28 (dk_at dksX6_begin_0 2 rfl rfl)
theorem dX6_begin_3 : decode cX6_begin 3 = .ok (.ldc 26, 2) := dk_18 26 (dk_at dksX6_begin_0 3 rfl rfl)
theorem dX6_begin_5 : decode cX6_begin 5 = .ok (.if_icmp .ge 16, 3) := dk_162 0 16 (dk_at dksX6_begin_0 5 rfl rfl)
theorem dX6_begin_8 : decode cX6_begin 8 = .ok (.aload_n 0, 1) := dk_42 (dk_at dksX6_begin_0 8 rfl rfl)
theorem dX6_begin_9 : decode cX6_begin 9 = .ok (.getfield 30, 3) := dk_180 0 30 (dk_at dksX6_begin_0 9 rfl rfl)
theorem dX6_begin_12 : decode cX6_begin 12 = .ok (.iload_n 2, 1) := dk_28 (dk_at dksX6_begin_0 12 rfl rfl)
theorem dX6_begin_13 : decode cX6_begin 13 = .ok (.iconst 0, 1) := dk_3 (dk_at dksX6_begin_0 13 rfl rfl)
theorem dX6_begin_14 : decode cX6_begin 14 = .ok (.bastore, 1) := dk_84 (dk_at dksX6_begin_0 14 rfl rfl)
theorem dX6_begin_15 : decode cX6_begin 15 = .ok (.iinc 2 1, 3) := dk_132 2 1 (dk_at dksX6_begin_0 15 rfl rfl)
theorem dX6_begin_18 : decode cX6_begin 18 = .ok (.goto (-16), 3) := dk_167 255 240 (dk_at dksX6_begin_0 18 rfl rfl)
theorem dX6_begin_21 : decode cX6_begin 21 = .ok (.aload_n 0, 1) := dk_42 (dk_at dksX6_begin_0 21 rfl rfl)
theorem dX6_begin_22 : decode cX6_begin 22 = .ok (.iconst 0, 1) := dk_3 (dk_at dksX6_begin_0 22 rfl rfl)
theorem dX6_begin_23 : decode cX6_begin 23 = .ok (.putfield 128, 3) := dk_181 0 128 (dk_at dksX6_begin_1 0 rfl rfl)
theorem dX6_begin_26 : decode cX6_begin 26 = .ok (.aload_n 0, 1) := dk_42 (dk_at dksX6_begin_1 3 rfl rfl)
theorem dX6_begin_27 : decode cX6_begin 27 = .ok (.iconst 0, 1) := dk_3 (dk_at dksX6_begin_1 4 rfl rfl)
theorem dX6_begin_28 : decode cX6_begin 28 = .ok (.putfield 136, 3) := dk_181 0 136 (dk_at dksX6_begin_1 5 rfl rfl)
theorem dX6_begin_31 : decode cX6_begin 31 = .ok (.aload_n 0, 1) := dk_42 (dk_at dksX6_begin_1 8 rfl rfl)
theorem dX6_begin_32 : decode cX6_begin 32 = .ok (.iload_n 1, 1) := dk_27 (dk_at dksX6_begin_1 9 rfl rfl)
theorem dX6_begin_33 : decode cX6_begin 33 = .ok (.putfield 132, 3) := dk_181 0 132 (dk_at dksX6_begin_1 10 rfl rfl)
theorem dX6_begin_36 : decode cX6_begin 36 = .ok (.return_, 1) := dk_177 (dk_at dksX6_begin_1 13 rfl rfl)
abbrev cX6_note : ByteArray := prog_16_method_37_code
def yX6_note : MethodName := ⟨RX6, "note", "(I)V"⟩
def dkwX6_note_9 : List UInt8 := [79, 177]
abbrev dktX6_note_9 : List UInt8 := dkwX6_note_9 ++ []
def dkwX6_note_8 : List UInt8 := [132, 4, 1, 167, 255, 115, 42, 180, 0, 33, 27, 28, 184, 0, 68, 5, 162, 0, 7, 3, 167, 0, 4, 29]
abbrev dktX6_note_8 : List UInt8 := dkwX6_note_8 ++ dktX6_note_9
def dkwX6_note_7 : List UInt8 := [155, 0, 18, 28, 184, 0, 68, 4, 164, 0, 10, 4, 21, 5, 120, 167, 0, 4, 3, 128, 181, 0, 136]
abbrev dktX6_note_7 : List UInt8 := dkwX6_note_7 ++ dktX6_note_8
def dkwX6_note_6 : List UInt8 := [4, 182, 0, 60, 160, 0, 7, 4, 167, 0, 4, 5, 104, 96, 62, 42, 89, 180, 0, 136, 21, 5]
abbrev dktX6_note_6 : List UInt8 := dkwX6_note_6 ++ dktX6_note_7
def dkwX6_note_5 : List UInt8 := [29, 42, 180, 0, 20, 21, 4, 46, 21, 6, 21, 4, 160, 0, 7, 3, 167, 0, 20, 21, 6, 42, 21, 4]
abbrev dktX6_note_5 : List UInt8 := dkwX6_note_5 ++ dktX6_note_6
def dkwX6_note_4 : List UInt8 := [167, 0, 4, 3, 182, 0, 118, 54, 5, 42, 28, 21, 4, 42, 21, 5, 182, 0, 122, 182, 0, 125, 54, 6]
abbrev dktX6_note_4 : List UInt8 := dkwX6_note_4 ++ dktX6_note_5
def dkwX6_note_3 : List UInt8 := [42, 180, 0, 132, 154, 0, 22, 27, 42, 180, 0, 20, 21, 4, 46, 108, 6, 112, 5, 160, 0, 7, 4]
abbrev dktX6_note_3 : List UInt8 := dkwX6_note_3 ++ dktX6_note_4
def dkwX6_note_2 : List UInt8 := [54, 4, 21, 4, 42, 182, 0, 45, 162, 0, 138, 28, 21, 4, 184, 0, 92, 153, 0, 123, 42, 28, 21, 4]
abbrev dktX6_note_2 : List UInt8 := dkwX6_note_2 ++ dktX6_note_3
def dkwX6_note_1 : List UInt8 := [180, 0, 128, 27, 79, 42, 89, 180, 0, 128, 4, 96, 181, 0, 128, 42, 27, 182, 0, 86, 61, 3, 62, 3]
abbrev dktX6_note_1 : List UInt8 := dkwX6_note_1 ++ dktX6_note_2
def dkwX6_note_0 : List UInt8 := [42, 180, 0, 30, 27, 51, 153, 0, 4, 177, 42, 180, 0, 30, 27, 4, 84, 42, 180, 0, 27, 42]
abbrev dktX6_note_0 : List UInt8 := dkwX6_note_0 ++ dktX6_note_1
theorem dksX6_note_0 : cX6_note.data.toList.drop 0 = dktX6_note_0 := by decide +kernel
theorem dksX6_note_1 : cX6_note.data.toList.drop 22 = dktX6_note_1 := dk_seg dksX6_note_0 22 rfl rfl
theorem dksX6_note_2 : cX6_note.data.toList.drop 46 = dktX6_note_2 := dk_seg dksX6_note_1 24 rfl rfl
theorem dksX6_note_3 : cX6_note.data.toList.drop 70 = dktX6_note_3 := dk_seg dksX6_note_2 24 rfl rfl
theorem dksX6_note_4 : cX6_note.data.toList.drop 93 = dktX6_note_4 := dk_seg dksX6_note_3 23 rfl rfl
theorem dksX6_note_5 : cX6_note.data.toList.drop 117 = dktX6_note_5 := dk_seg dksX6_note_4 24 rfl rfl
theorem dksX6_note_6 : cX6_note.data.toList.drop 141 = dktX6_note_6 := dk_seg dksX6_note_5 24 rfl rfl
theorem dksX6_note_7 : cX6_note.data.toList.drop 163 = dktX6_note_7 := dk_seg dksX6_note_6 22 rfl rfl
theorem dksX6_note_8 : cX6_note.data.toList.drop 186 = dktX6_note_8 := dk_seg dksX6_note_7 23 rfl rfl
theorem dksX6_note_9 : cX6_note.data.toList.drop 210 = dktX6_note_9 := dk_seg dksX6_note_8 24 rfl rfl
theorem dX6_note_0 : decode cX6_note 0 = .ok (.aload_n 0, 1) := dk_42 (dk_at dksX6_note_0 0 rfl rfl)
theorem dX6_note_1 : decode cX6_note 1 = .ok (.getfield 30, 3) := dk_180 0 30 (dk_at dksX6_note_0 1 rfl rfl)
theorem dX6_note_4 : decode cX6_note 4 = .ok (.iload_n 1, 1) := dk_27 (dk_at dksX6_note_0 4 rfl rfl)
theorem dX6_note_5 : decode cX6_note 5 = .ok (.baload, 1) := dk_51 (dk_at dksX6_note_0 5 rfl rfl)
theorem dX6_note_6 : decode cX6_note 6 = .ok (.ifCond .eq 4, 3) := dk_153 0 4 (dk_at dksX6_note_0 6 rfl rfl)
theorem dX6_note_9 : decode cX6_note 9 = .ok (.return_, 1) := dk_177 (dk_at dksX6_note_0 9 rfl rfl)
theorem dX6_note_10 : decode cX6_note 10 = .ok (.aload_n 0, 1) := dk_42 (dk_at dksX6_note_0 10 rfl rfl)
theorem dX6_note_11 : decode cX6_note 11 = .ok (.getfield 30, 3) := dk_180 0 30 (dk_at dksX6_note_0 11 rfl rfl)
theorem dX6_note_14 : decode cX6_note 14 = .ok (.iload_n 1, 1) := dk_27 (dk_at dksX6_note_0 14 rfl rfl)
theorem dX6_note_15 : decode cX6_note 15 = .ok (.iconst 1, 1) := dk_4 (dk_at dksX6_note_0 15 rfl rfl)
theorem dX6_note_16 : decode cX6_note 16 = .ok (.bastore, 1) := dk_84 (dk_at dksX6_note_0 16 rfl rfl)
theorem dX6_note_17 : decode cX6_note 17 = .ok (.aload_n 0, 1) := dk_42 (dk_at dksX6_note_0 17 rfl rfl)
theorem dX6_note_18 : decode cX6_note 18 = .ok (.getfield 27, 3) := dk_180 0 27 (dk_at dksX6_note_0 18 rfl rfl)
theorem dX6_note_21 : decode cX6_note 21 = .ok (.aload_n 0, 1) := dk_42 (dk_at dksX6_note_0 21 rfl rfl)
theorem dX6_note_22 : decode cX6_note 22 = .ok (.getfield 128, 3) := dk_180 0 128 (dk_at dksX6_note_1 0 rfl rfl)
theorem dX6_note_25 : decode cX6_note 25 = .ok (.iload_n 1, 1) := dk_27 (dk_at dksX6_note_1 3 rfl rfl)
theorem dX6_note_26 : decode cX6_note 26 = .ok (.iastore, 1) := dk_79 (dk_at dksX6_note_1 4 rfl rfl)
theorem dX6_note_27 : decode cX6_note 27 = .ok (.aload_n 0, 1) := dk_42 (dk_at dksX6_note_1 5 rfl rfl)
theorem dX6_note_28 : decode cX6_note 28 = .ok (.dup, 1) := dk_89 (dk_at dksX6_note_1 6 rfl rfl)
theorem dX6_note_29 : decode cX6_note 29 = .ok (.getfield 128, 3) := dk_180 0 128 (dk_at dksX6_note_1 7 rfl rfl)
theorem dX6_note_32 : decode cX6_note 32 = .ok (.iconst 1, 1) := dk_4 (dk_at dksX6_note_1 10 rfl rfl)
theorem dX6_note_33 : decode cX6_note 33 = .ok (.iadd, 1) := dk_96 (dk_at dksX6_note_1 11 rfl rfl)
theorem dX6_note_34 : decode cX6_note 34 = .ok (.putfield 128, 3) := dk_181 0 128 (dk_at dksX6_note_1 12 rfl rfl)
theorem dX6_note_37 : decode cX6_note 37 = .ok (.aload_n 0, 1) := dk_42 (dk_at dksX6_note_1 15 rfl rfl)
theorem dX6_note_38 : decode cX6_note 38 = .ok (.iload_n 1, 1) := dk_27 (dk_at dksX6_note_1 16 rfl rfl)
theorem dX6_note_39 : decode cX6_note 39 = .ok (.invokevirtual 86, 3) := dk_182 0 86 (dk_at dksX6_note_1 17 rfl rfl)
theorem dX6_note_42 : decode cX6_note 42 = .ok (.istore_n 2, 1) := dk_61 (dk_at dksX6_note_1 20 rfl rfl)
theorem dX6_note_43 : decode cX6_note 43 = .ok (.iconst 0, 1) := dk_3 (dk_at dksX6_note_1 21 rfl rfl)
theorem dX6_note_44 : decode cX6_note 44 = .ok (.istore_n 3, 1) := dk_62 (dk_at dksX6_note_1 22 rfl rfl)
theorem dX6_note_45 : decode cX6_note 45 = .ok (.iconst 0, 1) := dk_3 (dk_at dksX6_note_1 23 rfl rfl)
theorem dX6_note_46 : decode cX6_note 46 = .ok (.istore 4, 2) := dk_54 4 (dk_at dksX6_note_2 0 rfl rfl)
theorem dX6_note_48 : decode cX6_note 48 = .ok (.iload 4, 2) := dk_21 4 (dk_at dksX6_note_2 2 rfl rfl)
theorem dX6_note_50 : decode cX6_note 50 = .ok (.aload_n 0, 1) := dk_42 (dk_at dksX6_note_2 4 rfl rfl)
theorem dX6_note_51 : decode cX6_note 51 = .ok (.invokevirtual 45, 3) := dk_182 0 45 (dk_at dksX6_note_2 5 rfl rfl)
theorem dX6_note_54 : decode cX6_note 54 = .ok (.if_icmp .ge 138, 3) := dk_162 0 138 (dk_at dksX6_note_2 8 rfl rfl)
theorem dX6_note_57 : decode cX6_note 57 = .ok (.iload_n 2, 1) := dk_28 (dk_at dksX6_note_2 11 rfl rfl)
theorem dX6_note_58 : decode cX6_note 58 = .ok (.iload 4, 2) := dk_21 4 (dk_at dksX6_note_2 12 rfl rfl)
theorem dX6_note_60 : decode cX6_note 60 = .ok (.invokestatic 92, 3) := dk_184 0 92 (dk_at dksX6_note_2 14 rfl rfl)
theorem dX6_note_63 : decode cX6_note 63 = .ok (.ifCond .eq 123, 3) := dk_153 0 123 (dk_at dksX6_note_2 17 rfl rfl)
theorem dX6_note_66 : decode cX6_note 66 = .ok (.aload_n 0, 1) := dk_42 (dk_at dksX6_note_2 20 rfl rfl)
theorem dX6_note_67 : decode cX6_note 67 = .ok (.iload_n 2, 1) := dk_28 (dk_at dksX6_note_2 21 rfl rfl)
theorem dX6_note_68 : decode cX6_note 68 = .ok (.iload 4, 2) := dk_21 4 (dk_at dksX6_note_2 22 rfl rfl)
theorem dX6_note_70 : decode cX6_note 70 = .ok (.aload_n 0, 1) := dk_42 (dk_at dksX6_note_3 0 rfl rfl)
theorem dX6_note_71 : decode cX6_note 71 = .ok (.getfield 132, 3) := dk_180 0 132 (dk_at dksX6_note_3 1 rfl rfl)
theorem dX6_note_74 : decode cX6_note 74 = .ok (.ifCond .ne 22, 3) := dk_154 0 22 (dk_at dksX6_note_3 4 rfl rfl)
theorem dX6_note_77 : decode cX6_note 77 = .ok (.iload_n 1, 1) := dk_27 (dk_at dksX6_note_3 7 rfl rfl)
theorem dX6_note_78 : decode cX6_note 78 = .ok (.aload_n 0, 1) := dk_42 (dk_at dksX6_note_3 8 rfl rfl)
theorem dX6_note_79 : decode cX6_note 79 = .ok (.getfield 20, 3) := dk_180 0 20 (dk_at dksX6_note_3 9 rfl rfl)
theorem dX6_note_82 : decode cX6_note 82 = .ok (.iload 4, 2) := dk_21 4 (dk_at dksX6_note_3 12 rfl rfl)
theorem dX6_note_84 : decode cX6_note 84 = .ok (.iaload, 1) := dk_46 (dk_at dksX6_note_3 14 rfl rfl)
theorem dX6_note_85 : decode cX6_note 85 = .ok (.idiv, 1) := dk_108 (dk_at dksX6_note_3 15 rfl rfl)
theorem dX6_note_86 : decode cX6_note 86 = .ok (.iconst 3, 1) := dk_6 (dk_at dksX6_note_3 16 rfl rfl)
theorem dX6_note_87 : decode cX6_note 87 = .ok (.irem, 1) := dk_112 (dk_at dksX6_note_3 17 rfl rfl)
theorem dX6_note_88 : decode cX6_note 88 = .ok (.iconst 2, 1) := dk_5 (dk_at dksX6_note_3 18 rfl rfl)
theorem dX6_note_89 : decode cX6_note 89 = .ok (.if_icmp .ne 7, 3) := dk_160 0 7 (dk_at dksX6_note_3 19 rfl rfl)
theorem dX6_note_92 : decode cX6_note 92 = .ok (.iconst 1, 1) := dk_4 (dk_at dksX6_note_3 22 rfl rfl)
theorem dX6_note_93 : decode cX6_note 93 = .ok (.goto 4, 3) := dk_167 0 4 (dk_at dksX6_note_4 0 rfl rfl)
theorem dX6_note_96 : decode cX6_note 96 = .ok (.iconst 0, 1) := dk_3 (dk_at dksX6_note_4 3 rfl rfl)
theorem dX6_note_97 : decode cX6_note 97 = .ok (.invokevirtual 118, 3) := dk_182 0 118 (dk_at dksX6_note_4 4 rfl rfl)
theorem dX6_note_100 : decode cX6_note 100 = .ok (.istore 5, 2) := dk_54 5 (dk_at dksX6_note_4 7 rfl rfl)
theorem dX6_note_102 : decode cX6_note 102 = .ok (.aload_n 0, 1) := dk_42 (dk_at dksX6_note_4 9 rfl rfl)
theorem dX6_note_103 : decode cX6_note 103 = .ok (.iload_n 2, 1) := dk_28 (dk_at dksX6_note_4 10 rfl rfl)
theorem dX6_note_104 : decode cX6_note 104 = .ok (.iload 4, 2) := dk_21 4 (dk_at dksX6_note_4 11 rfl rfl)
theorem dX6_note_106 : decode cX6_note 106 = .ok (.aload_n 0, 1) := dk_42 (dk_at dksX6_note_4 13 rfl rfl)
theorem dX6_note_107 : decode cX6_note 107 = .ok (.iload 5, 2) := dk_21 5 (dk_at dksX6_note_4 14 rfl rfl)
theorem dX6_note_109 : decode cX6_note 109 = .ok (.invokevirtual 122, 3) := dk_182 0 122 (dk_at dksX6_note_4 16 rfl rfl)
theorem dX6_note_112 : decode cX6_note 112 = .ok (.invokevirtual 125, 3) := dk_182 0 125 (dk_at dksX6_note_4 19 rfl rfl)
theorem dX6_note_115 : decode cX6_note 115 = .ok (.istore 6, 2) := dk_54 6 (dk_at dksX6_note_4 22 rfl rfl)
theorem dX6_note_117 : decode cX6_note 117 = .ok (.iload_n 3, 1) := dk_29 (dk_at dksX6_note_5 0 rfl rfl)
theorem dX6_note_118 : decode cX6_note 118 = .ok (.aload_n 0, 1) := dk_42 (dk_at dksX6_note_5 1 rfl rfl)
theorem dX6_note_119 : decode cX6_note 119 = .ok (.getfield 20, 3) := dk_180 0 20 (dk_at dksX6_note_5 2 rfl rfl)
theorem dX6_note_122 : decode cX6_note 122 = .ok (.iload 4, 2) := dk_21 4 (dk_at dksX6_note_5 5 rfl rfl)
theorem dX6_note_124 : decode cX6_note 124 = .ok (.iaload, 1) := dk_46 (dk_at dksX6_note_5 7 rfl rfl)
theorem dX6_note_125 : decode cX6_note 125 = .ok (.iload 6, 2) := dk_21 6 (dk_at dksX6_note_5 8 rfl rfl)
theorem dX6_note_127 : decode cX6_note 127 = .ok (.iload 4, 2) := dk_21 4 (dk_at dksX6_note_5 10 rfl rfl)
theorem dX6_note_129 : decode cX6_note 129 = .ok (.if_icmp .ne 7, 3) := dk_160 0 7 (dk_at dksX6_note_5 12 rfl rfl)
theorem dX6_note_132 : decode cX6_note 132 = .ok (.iconst 0, 1) := dk_3 (dk_at dksX6_note_5 15 rfl rfl)
theorem dX6_note_133 : decode cX6_note 133 = .ok (.goto 20, 3) := dk_167 0 20 (dk_at dksX6_note_5 16 rfl rfl)
theorem dX6_note_136 : decode cX6_note 136 = .ok (.iload 6, 2) := dk_21 6 (dk_at dksX6_note_5 19 rfl rfl)
theorem dX6_note_138 : decode cX6_note 138 = .ok (.aload_n 0, 1) := dk_42 (dk_at dksX6_note_5 21 rfl rfl)
theorem dX6_note_139 : decode cX6_note 139 = .ok (.iload 4, 2) := dk_21 4 (dk_at dksX6_note_5 22 rfl rfl)
theorem dX6_note_141 : decode cX6_note 141 = .ok (.iconst 1, 1) := dk_4 (dk_at dksX6_note_6 0 rfl rfl)
theorem dX6_note_142 : decode cX6_note 142 = .ok (.invokevirtual 60, 3) := dk_182 0 60 (dk_at dksX6_note_6 1 rfl rfl)
theorem dX6_note_145 : decode cX6_note 145 = .ok (.if_icmp .ne 7, 3) := dk_160 0 7 (dk_at dksX6_note_6 4 rfl rfl)
theorem dX6_note_148 : decode cX6_note 148 = .ok (.iconst 1, 1) := dk_4 (dk_at dksX6_note_6 7 rfl rfl)
theorem dX6_note_149 : decode cX6_note 149 = .ok (.goto 4, 3) := dk_167 0 4 (dk_at dksX6_note_6 8 rfl rfl)
theorem dX6_note_152 : decode cX6_note 152 = .ok (.iconst 2, 1) := dk_5 (dk_at dksX6_note_6 11 rfl rfl)
theorem dX6_note_153 : decode cX6_note 153 = .ok (.imul, 1) := dk_104 (dk_at dksX6_note_6 12 rfl rfl)
theorem dX6_note_154 : decode cX6_note 154 = .ok (.iadd, 1) := dk_96 (dk_at dksX6_note_6 13 rfl rfl)
theorem dX6_note_155 : decode cX6_note 155 = .ok (.istore_n 3, 1) := dk_62 (dk_at dksX6_note_6 14 rfl rfl)
theorem dX6_note_156 : decode cX6_note 156 = .ok (.aload_n 0, 1) := dk_42 (dk_at dksX6_note_6 15 rfl rfl)
theorem dX6_note_157 : decode cX6_note 157 = .ok (.dup, 1) := dk_89 (dk_at dksX6_note_6 16 rfl rfl)
theorem dX6_note_158 : decode cX6_note 158 = .ok (.getfield 136, 3) := dk_180 0 136 (dk_at dksX6_note_6 17 rfl rfl)
theorem dX6_note_161 : decode cX6_note 161 = .ok (.iload 5, 2) := dk_21 5 (dk_at dksX6_note_6 20 rfl rfl)
theorem dX6_note_163 : decode cX6_note 163 = .ok (.ifCond .lt 18, 3) := dk_155 0 18 (dk_at dksX6_note_7 0 rfl rfl)
theorem dX6_note_166 : decode cX6_note 166 = .ok (.iload_n 2, 1) := dk_28 (dk_at dksX6_note_7 3 rfl rfl)
theorem dX6_note_167 : decode cX6_note 167 = .ok (.invokestatic 68, 3) := dk_184 0 68 (dk_at dksX6_note_7 4 rfl rfl)
theorem dX6_note_170 : decode cX6_note 170 = .ok (.iconst 1, 1) := dk_4 (dk_at dksX6_note_7 7 rfl rfl)
theorem dX6_note_171 : decode cX6_note 171 = .ok (.if_icmp .le 10, 3) := dk_164 0 10 (dk_at dksX6_note_7 8 rfl rfl)
theorem dX6_note_174 : decode cX6_note 174 = .ok (.iconst 1, 1) := dk_4 (dk_at dksX6_note_7 11 rfl rfl)
theorem dX6_note_175 : decode cX6_note 175 = .ok (.iload 5, 2) := dk_21 5 (dk_at dksX6_note_7 12 rfl rfl)
theorem dX6_note_177 : decode cX6_note 177 = .ok (.ishl, 1) := dk_120 (dk_at dksX6_note_7 14 rfl rfl)
theorem dX6_note_178 : decode cX6_note 178 = .ok (.goto 4, 3) := dk_167 0 4 (dk_at dksX6_note_7 15 rfl rfl)
theorem dX6_note_181 : decode cX6_note 181 = .ok (.iconst 0, 1) := dk_3 (dk_at dksX6_note_7 18 rfl rfl)
theorem dX6_note_182 : decode cX6_note 182 = .ok (.ior, 1) := dk_128 (dk_at dksX6_note_7 19 rfl rfl)
theorem dX6_note_183 : decode cX6_note 183 = .ok (.putfield 136, 3) := dk_181 0 136 (dk_at dksX6_note_7 20 rfl rfl)
theorem dX6_note_186 : decode cX6_note 186 = .ok (.iinc 4 1, 3) := dk_132 4 1 (dk_at dksX6_note_8 0 rfl rfl)
theorem dX6_note_189 : decode cX6_note 189 = .ok (.goto (-141), 3) := dk_167 255 115 (dk_at dksX6_note_8 3 rfl rfl)
theorem dX6_note_192 : decode cX6_note 192 = .ok (.aload_n 0, 1) := dk_42 (dk_at dksX6_note_8 6 rfl rfl)
theorem dX6_note_193 : decode cX6_note 193 = .ok (.getfield 33, 3) := dk_180 0 33 (dk_at dksX6_note_8 7 rfl rfl)
theorem dX6_note_196 : decode cX6_note 196 = .ok (.iload_n 1, 1) := dk_27 (dk_at dksX6_note_8 10 rfl rfl)
theorem dX6_note_197 : decode cX6_note 197 = .ok (.iload_n 2, 1) := dk_28 (dk_at dksX6_note_8 11 rfl rfl)
theorem dX6_note_198 : decode cX6_note 198 = .ok (.invokestatic 68, 3) := dk_184 0 68 (dk_at dksX6_note_8 12 rfl rfl)
theorem dX6_note_201 : decode cX6_note 201 = .ok (.iconst 2, 1) := dk_5 (dk_at dksX6_note_8 15 rfl rfl)
theorem dX6_note_202 : decode cX6_note 202 = .ok (.if_icmp .ge 7, 3) := dk_162 0 7 (dk_at dksX6_note_8 16 rfl rfl)
theorem dX6_note_205 : decode cX6_note 205 = .ok (.iconst 0, 1) := dk_3 (dk_at dksX6_note_8 19 rfl rfl)
theorem dX6_note_206 : decode cX6_note 206 = .ok (.goto 4, 3) := dk_167 0 4 (dk_at dksX6_note_8 20 rfl rfl)
theorem dX6_note_209 : decode cX6_note 209 = .ok (.iload_n 3, 1) := dk_29 (dk_at dksX6_note_8 23 rfl rfl)
theorem dX6_note_210 : decode cX6_note 210 = .ok (.iastore, 1) := dk_79 (dk_at dksX6_note_9 0 rfl rfl)
theorem dX6_note_211 : decode cX6_note 211 = .ok (.return_, 1) := dk_177 (dk_at dksX6_note_9 1 rfl rfl)
abbrev cX6_listAll : ByteArray := prog_16_method_43_code
def yX6_listAll : MethodName := ⟨RX6, "listAll", "(I)V"⟩
def dkwX6_listAll_5 : List UInt8 := [29, 182, 0, 155, 61, 132, 3, 1, 167, 255, 242, 177]
abbrev dktX6_listAll_5 : List UInt8 := dkwX6_listAll_5 ++ []
def dkwX6_listAll_4 : List UInt8 := [29, 42, 180, 0, 36, 29, 46, 79, 132, 2, 1, 167, 255, 151, 4, 61, 4, 62, 28, 153, 0, 16, 42, 27]
abbrev dktX6_listAll_4 : List UInt8 := dkwX6_listAll_4 ++ dktX6_listAll_5
def dkwX6_listAll_3 : List UInt8 := [42, 180, 0, 36, 29, 42, 29, 182, 0, 152, 153, 0, 7, 3, 167, 0, 5, 16, 250, 79, 42, 180, 0, 39]
abbrev dktX6_listAll_3 : List UInt8 := dkwX6_listAll_3 ++ dktX6_listAll_4
def dkwX6_listAll_2 : List UInt8 := [42, 42, 29, 21, 5, 182, 0, 145, 182, 0, 148, 21, 5, 21, 4, 100, 21, 4, 126, 54, 5, 167, 255, 219]
abbrev dktX6_listAll_2 : List UInt8 := dkwX6_listAll_2 ++ dktX6_listAll_3
def dkwX6_listAll_1 : List UInt8 := [21, 4, 116, 21, 4, 126, 54, 5, 21, 5, 153, 0, 38, 27, 21, 5, 21, 4, 184, 0, 142, 153, 0, 14]
abbrev dktX6_listAll_1 : List UInt8 := dkwX6_listAll_1 ++ dktX6_listAll_2
def dkwX6_listAll_0 : List UInt8 := [3, 61, 28, 42, 180, 0, 128, 162, 0, 103, 42, 180, 0, 27, 28, 46, 62, 42, 29, 182, 0, 139, 54, 4]
abbrev dktX6_listAll_0 : List UInt8 := dkwX6_listAll_0 ++ dktX6_listAll_1
theorem dksX6_listAll_0 : cX6_listAll.data.toList.drop 0 = dktX6_listAll_0 := by decide +kernel
theorem dksX6_listAll_1 : cX6_listAll.data.toList.drop 24 = dktX6_listAll_1 := dk_seg dksX6_listAll_0 24 rfl rfl
theorem dksX6_listAll_2 : cX6_listAll.data.toList.drop 48 = dktX6_listAll_2 := dk_seg dksX6_listAll_1 24 rfl rfl
theorem dksX6_listAll_3 : cX6_listAll.data.toList.drop 72 = dktX6_listAll_3 := dk_seg dksX6_listAll_2 24 rfl rfl
theorem dksX6_listAll_4 : cX6_listAll.data.toList.drop 96 = dktX6_listAll_4 := dk_seg dksX6_listAll_3 24 rfl rfl
theorem dksX6_listAll_5 : cX6_listAll.data.toList.drop 120 = dktX6_listAll_5 := dk_seg dksX6_listAll_4 24 rfl rfl
theorem dX6_listAll_0 : decode cX6_listAll 0 = .ok (.iconst 0, 1) := dk_3 (dk_at dksX6_listAll_0 0 rfl rfl)
theorem dX6_listAll_1 : decode cX6_listAll 1 = .ok (.istore_n 2, 1) := dk_61 (dk_at dksX6_listAll_0 1 rfl rfl)
theorem dX6_listAll_2 : decode cX6_listAll 2 = .ok (.iload_n 2, 1) := dk_28 (dk_at dksX6_listAll_0 2 rfl rfl)
theorem dX6_listAll_3 : decode cX6_listAll 3 = .ok (.aload_n 0, 1) := dk_42 (dk_at dksX6_listAll_0 3 rfl rfl)
theorem dX6_listAll_4 : decode cX6_listAll 4 = .ok (.getfield 128, 3) := dk_180 0 128 (dk_at dksX6_listAll_0 4 rfl rfl)
theorem dX6_listAll_7 : decode cX6_listAll 7 = .ok (.if_icmp .ge 103, 3) := dk_162 0 103 (dk_at dksX6_listAll_0 7 rfl rfl)
theorem dX6_listAll_10 : decode cX6_listAll 10 = .ok (.aload_n 0, 1) := dk_42 (dk_at dksX6_listAll_0 10 rfl rfl)
theorem dX6_listAll_11 : decode cX6_listAll 11 = .ok (.getfield 27, 3) := dk_180 0 27 (dk_at dksX6_listAll_0 11 rfl rfl)
theorem dX6_listAll_14 : decode cX6_listAll 14 = .ok (.iload_n 2, 1) := dk_28 (dk_at dksX6_listAll_0 14 rfl rfl)
theorem dX6_listAll_15 : decode cX6_listAll 15 = .ok (.iaload, 1) := dk_46 (dk_at dksX6_listAll_0 15 rfl rfl)
theorem dX6_listAll_16 : decode cX6_listAll 16 = .ok (.istore_n 3, 1) := dk_62 (dk_at dksX6_listAll_0 16 rfl rfl)
theorem dX6_listAll_17 : decode cX6_listAll 17 = .ok (.aload_n 0, 1) := dk_42 (dk_at dksX6_listAll_0 17 rfl rfl)
theorem dX6_listAll_18 : decode cX6_listAll 18 = .ok (.iload_n 3, 1) := dk_29 (dk_at dksX6_listAll_0 18 rfl rfl)
theorem dX6_listAll_19 : decode cX6_listAll 19 = .ok (.invokevirtual 139, 3) := dk_182 0 139 (dk_at dksX6_listAll_0 19 rfl rfl)
theorem dX6_listAll_22 : decode cX6_listAll 22 = .ok (.istore 4, 2) := dk_54 4 (dk_at dksX6_listAll_0 22 rfl rfl)
theorem dX6_listAll_24 : decode cX6_listAll 24 = .ok (.iload 4, 2) := dk_21 4 (dk_at dksX6_listAll_1 0 rfl rfl)
theorem dX6_listAll_26 : decode cX6_listAll 26 = .ok (.ineg, 1) := dk_116 (dk_at dksX6_listAll_1 2 rfl rfl)
theorem dX6_listAll_27 : decode cX6_listAll 27 = .ok (.iload 4, 2) := dk_21 4 (dk_at dksX6_listAll_1 3 rfl rfl)
theorem dX6_listAll_29 : decode cX6_listAll 29 = .ok (.iand, 1) := dk_126 (dk_at dksX6_listAll_1 5 rfl rfl)
theorem dX6_listAll_30 : decode cX6_listAll 30 = .ok (.istore 5, 2) := dk_54 5 (dk_at dksX6_listAll_1 6 rfl rfl)
theorem dX6_listAll_32 : decode cX6_listAll 32 = .ok (.iload 5, 2) := dk_21 5 (dk_at dksX6_listAll_1 8 rfl rfl)
theorem dX6_listAll_34 : decode cX6_listAll 34 = .ok (.ifCond .eq 38, 3) := dk_153 0 38 (dk_at dksX6_listAll_1 10 rfl rfl)
theorem dX6_listAll_37 : decode cX6_listAll 37 = .ok (.iload_n 1, 1) := dk_27 (dk_at dksX6_listAll_1 13 rfl rfl)
theorem dX6_listAll_38 : decode cX6_listAll 38 = .ok (.iload 5, 2) := dk_21 5 (dk_at dksX6_listAll_1 14 rfl rfl)
theorem dX6_listAll_40 : decode cX6_listAll 40 = .ok (.iload 4, 2) := dk_21 4 (dk_at dksX6_listAll_1 16 rfl rfl)
theorem dX6_listAll_42 : decode cX6_listAll 42 = .ok (.invokestatic 142, 3) := dk_184 0 142 (dk_at dksX6_listAll_1 18 rfl rfl)
theorem dX6_listAll_45 : decode cX6_listAll 45 = .ok (.ifCond .eq 14, 3) := dk_153 0 14 (dk_at dksX6_listAll_1 21 rfl rfl)
theorem dX6_listAll_48 : decode cX6_listAll 48 = .ok (.aload_n 0, 1) := dk_42 (dk_at dksX6_listAll_2 0 rfl rfl)
theorem dX6_listAll_49 : decode cX6_listAll 49 = .ok (.aload_n 0, 1) := dk_42 (dk_at dksX6_listAll_2 1 rfl rfl)
theorem dX6_listAll_50 : decode cX6_listAll 50 = .ok (.iload_n 3, 1) := dk_29 (dk_at dksX6_listAll_2 2 rfl rfl)
theorem dX6_listAll_51 : decode cX6_listAll 51 = .ok (.iload 5, 2) := dk_21 5 (dk_at dksX6_listAll_2 3 rfl rfl)
theorem dX6_listAll_53 : decode cX6_listAll 53 = .ok (.invokevirtual 145, 3) := dk_182 0 145 (dk_at dksX6_listAll_2 5 rfl rfl)
theorem dX6_listAll_56 : decode cX6_listAll 56 = .ok (.invokevirtual 148, 3) := dk_182 0 148 (dk_at dksX6_listAll_2 8 rfl rfl)
theorem dX6_listAll_59 : decode cX6_listAll 59 = .ok (.iload 5, 2) := dk_21 5 (dk_at dksX6_listAll_2 11 rfl rfl)
theorem dX6_listAll_61 : decode cX6_listAll 61 = .ok (.iload 4, 2) := dk_21 4 (dk_at dksX6_listAll_2 13 rfl rfl)
theorem dX6_listAll_63 : decode cX6_listAll 63 = .ok (.isub, 1) := dk_100 (dk_at dksX6_listAll_2 15 rfl rfl)
theorem dX6_listAll_64 : decode cX6_listAll 64 = .ok (.iload 4, 2) := dk_21 4 (dk_at dksX6_listAll_2 16 rfl rfl)
theorem dX6_listAll_66 : decode cX6_listAll 66 = .ok (.iand, 1) := dk_126 (dk_at dksX6_listAll_2 18 rfl rfl)
theorem dX6_listAll_67 : decode cX6_listAll 67 = .ok (.istore 5, 2) := dk_54 5 (dk_at dksX6_listAll_2 19 rfl rfl)
theorem dX6_listAll_69 : decode cX6_listAll 69 = .ok (.goto (-37), 3) := dk_167 255 219 (dk_at dksX6_listAll_2 21 rfl rfl)
theorem dX6_listAll_72 : decode cX6_listAll 72 = .ok (.aload_n 0, 1) := dk_42 (dk_at dksX6_listAll_3 0 rfl rfl)
theorem dX6_listAll_73 : decode cX6_listAll 73 = .ok (.getfield 36, 3) := dk_180 0 36 (dk_at dksX6_listAll_3 1 rfl rfl)
theorem dX6_listAll_76 : decode cX6_listAll 76 = .ok (.iload_n 3, 1) := dk_29 (dk_at dksX6_listAll_3 4 rfl rfl)
theorem dX6_listAll_77 : decode cX6_listAll 77 = .ok (.aload_n 0, 1) := dk_42 (dk_at dksX6_listAll_3 5 rfl rfl)
theorem dX6_listAll_78 : decode cX6_listAll 78 = .ok (.iload_n 3, 1) := dk_29 (dk_at dksX6_listAll_3 6 rfl rfl)
theorem dX6_listAll_79 : decode cX6_listAll 79 = .ok (.invokevirtual 152, 3) := dk_182 0 152 (dk_at dksX6_listAll_3 7 rfl rfl)
theorem dX6_listAll_82 : decode cX6_listAll 82 = .ok (.ifCond .eq 7, 3) := dk_153 0 7 (dk_at dksX6_listAll_3 10 rfl rfl)
theorem dX6_listAll_85 : decode cX6_listAll 85 = .ok (.iconst 0, 1) := dk_3 (dk_at dksX6_listAll_3 13 rfl rfl)
theorem dX6_listAll_86 : decode cX6_listAll 86 = .ok (.goto 5, 3) := dk_167 0 5 (dk_at dksX6_listAll_3 14 rfl rfl)
theorem dX6_listAll_89 : decode cX6_listAll 89 = .ok (.bipush (-6), 2) := dk_16 250 (dk_at dksX6_listAll_3 17 rfl rfl)
theorem dX6_listAll_91 : decode cX6_listAll 91 = .ok (.iastore, 1) := dk_79 (dk_at dksX6_listAll_3 19 rfl rfl)
theorem dX6_listAll_92 : decode cX6_listAll 92 = .ok (.aload_n 0, 1) := dk_42 (dk_at dksX6_listAll_3 20 rfl rfl)
theorem dX6_listAll_93 : decode cX6_listAll 93 = .ok (.getfield 39, 3) := dk_180 0 39 (dk_at dksX6_listAll_3 21 rfl rfl)
theorem dX6_listAll_96 : decode cX6_listAll 96 = .ok (.iload_n 3, 1) := dk_29 (dk_at dksX6_listAll_4 0 rfl rfl)
theorem dX6_listAll_97 : decode cX6_listAll 97 = .ok (.aload_n 0, 1) := dk_42 (dk_at dksX6_listAll_4 1 rfl rfl)
theorem dX6_listAll_98 : decode cX6_listAll 98 = .ok (.getfield 36, 3) := dk_180 0 36 (dk_at dksX6_listAll_4 2 rfl rfl)
theorem dX6_listAll_101 : decode cX6_listAll 101 = .ok (.iload_n 3, 1) := dk_29 (dk_at dksX6_listAll_4 5 rfl rfl)
theorem dX6_listAll_102 : decode cX6_listAll 102 = .ok (.iaload, 1) := dk_46 (dk_at dksX6_listAll_4 6 rfl rfl)
theorem dX6_listAll_103 : decode cX6_listAll 103 = .ok (.iastore, 1) := dk_79 (dk_at dksX6_listAll_4 7 rfl rfl)
theorem dX6_listAll_104 : decode cX6_listAll 104 = .ok (.iinc 2 1, 3) := dk_132 2 1 (dk_at dksX6_listAll_4 8 rfl rfl)
theorem dX6_listAll_107 : decode cX6_listAll 107 = .ok (.goto (-105), 3) := dk_167 255 151 (dk_at dksX6_listAll_4 11 rfl rfl)
theorem dX6_listAll_110 : decode cX6_listAll 110 = .ok (.iconst 1, 1) := dk_4 (dk_at dksX6_listAll_4 14 rfl rfl)
theorem dX6_listAll_111 : decode cX6_listAll 111 = .ok (.istore_n 2, 1) := dk_61 (dk_at dksX6_listAll_4 15 rfl rfl)
theorem dX6_listAll_112 : decode cX6_listAll 112 = .ok (.iconst 1, 1) := dk_4 (dk_at dksX6_listAll_4 16 rfl rfl)
theorem dX6_listAll_113 : decode cX6_listAll 113 = .ok (.istore_n 3, 1) := dk_62 (dk_at dksX6_listAll_4 17 rfl rfl)
theorem dX6_listAll_114 : decode cX6_listAll 114 = .ok (.iload_n 2, 1) := dk_28 (dk_at dksX6_listAll_4 18 rfl rfl)
theorem dX6_listAll_115 : decode cX6_listAll 115 = .ok (.ifCond .eq 16, 3) := dk_153 0 16 (dk_at dksX6_listAll_4 19 rfl rfl)
theorem dX6_listAll_118 : decode cX6_listAll 118 = .ok (.aload_n 0, 1) := dk_42 (dk_at dksX6_listAll_4 22 rfl rfl)
theorem dX6_listAll_119 : decode cX6_listAll 119 = .ok (.iload_n 1, 1) := dk_27 (dk_at dksX6_listAll_4 23 rfl rfl)
theorem dX6_listAll_120 : decode cX6_listAll 120 = .ok (.iload_n 3, 1) := dk_29 (dk_at dksX6_listAll_5 0 rfl rfl)
theorem dX6_listAll_121 : decode cX6_listAll 121 = .ok (.invokevirtual 155, 3) := dk_182 0 155 (dk_at dksX6_listAll_5 1 rfl rfl)
theorem dX6_listAll_124 : decode cX6_listAll 124 = .ok (.istore_n 2, 1) := dk_61 (dk_at dksX6_listAll_5 4 rfl rfl)
theorem dX6_listAll_125 : decode cX6_listAll 125 = .ok (.iinc 3 1, 3) := dk_132 3 1 (dk_at dksX6_listAll_5 5 rfl rfl)
theorem dX6_listAll_128 : decode cX6_listAll 128 = .ok (.goto (-14), 3) := dk_167 255 242 (dk_at dksX6_listAll_5 8 rfl rfl)
theorem dX6_listAll_131 : decode cX6_listAll 131 = .ok (.return_, 1) := dk_177 (dk_at dksX6_listAll_5 11 rfl rfl)
abbrev cX6_movers : ByteArray := prog_16_method_38_code
def yX6_movers : MethodName := ⟨RX6, "movers", "(I)I"⟩
def dkwX6_movers_0 : List UInt8 := [42, 42, 180, 0, 33, 27, 46, 182, 0, 86, 172]
abbrev dktX6_movers_0 : List UInt8 := dkwX6_movers_0 ++ []
theorem dksX6_movers_0 : cX6_movers.data.toList.drop 0 = dktX6_movers_0 := by decide +kernel
theorem dX6_movers_0 : decode cX6_movers 0 = .ok (.aload_n 0, 1) := dk_42 (dk_at dksX6_movers_0 0 rfl rfl)
theorem dX6_movers_1 : decode cX6_movers 1 = .ok (.aload_n 0, 1) := dk_42 (dk_at dksX6_movers_0 1 rfl rfl)
theorem dX6_movers_2 : decode cX6_movers 2 = .ok (.getfield 33, 3) := dk_180 0 33 (dk_at dksX6_movers_0 2 rfl rfl)
theorem dX6_movers_5 : decode cX6_movers 5 = .ok (.iload_n 1, 1) := dk_27 (dk_at dksX6_movers_0 5 rfl rfl)
theorem dX6_movers_6 : decode cX6_movers 6 = .ok (.iaload, 1) := dk_46 (dk_at dksX6_movers_0 6 rfl rfl)
theorem dX6_movers_7 : decode cX6_movers 7 = .ok (.invokevirtual 86, 3) := dk_182 0 86 (dk_at dksX6_movers_0 7 rfl rfl)
theorem dX6_movers_10 : decode cX6_movers 10 = .ok (.ireturn, 1) := dk_172 (dk_at dksX6_movers_0 10 rfl rfl)
abbrev cX6_mayBe : ByteArray := prog_16_method_40_code
def yX6_mayBe : MethodName := ⟨RX6, "mayBe", "(III)Z"⟩
def dkwX6_mayBe_1 : List UInt8 := [159, 0, 8, 27, 28, 160, 0, 7, 4, 167, 0, 4, 3, 172]
abbrev dktX6_mayBe_1 : List UInt8 := dkwX6_mayBe_1 ++ []
def dkwX6_mayBe_0 : List UInt8 := [26, 154, 0, 19, 27, 27, 4, 100, 126, 154, 0, 7, 4, 167, 0, 22, 3, 167, 0, 18, 26, 5]
abbrev dktX6_mayBe_0 : List UInt8 := dkwX6_mayBe_0 ++ dktX6_mayBe_1
theorem dksX6_mayBe_0 : cX6_mayBe.data.toList.drop 0 = dktX6_mayBe_0 := by decide +kernel
theorem dksX6_mayBe_1 : cX6_mayBe.data.toList.drop 22 = dktX6_mayBe_1 := dk_seg dksX6_mayBe_0 22 rfl rfl
theorem dX6_mayBe_0 : decode cX6_mayBe 0 = .ok (.iload_n 0, 1) := dk_26 (dk_at dksX6_mayBe_0 0 rfl rfl)
theorem dX6_mayBe_1 : decode cX6_mayBe 1 = .ok (.ifCond .ne 19, 3) := dk_154 0 19 (dk_at dksX6_mayBe_0 1 rfl rfl)
theorem dX6_mayBe_4 : decode cX6_mayBe 4 = .ok (.iload_n 1, 1) := dk_27 (dk_at dksX6_mayBe_0 4 rfl rfl)
theorem dX6_mayBe_5 : decode cX6_mayBe 5 = .ok (.iload_n 1, 1) := dk_27 (dk_at dksX6_mayBe_0 5 rfl rfl)
theorem dX6_mayBe_6 : decode cX6_mayBe 6 = .ok (.iconst 1, 1) := dk_4 (dk_at dksX6_mayBe_0 6 rfl rfl)
theorem dX6_mayBe_7 : decode cX6_mayBe 7 = .ok (.isub, 1) := dk_100 (dk_at dksX6_mayBe_0 7 rfl rfl)
theorem dX6_mayBe_8 : decode cX6_mayBe 8 = .ok (.iand, 1) := dk_126 (dk_at dksX6_mayBe_0 8 rfl rfl)
theorem dX6_mayBe_9 : decode cX6_mayBe 9 = .ok (.ifCond .ne 7, 3) := dk_154 0 7 (dk_at dksX6_mayBe_0 9 rfl rfl)
theorem dX6_mayBe_12 : decode cX6_mayBe 12 = .ok (.iconst 1, 1) := dk_4 (dk_at dksX6_mayBe_0 12 rfl rfl)
theorem dX6_mayBe_13 : decode cX6_mayBe 13 = .ok (.goto 22, 3) := dk_167 0 22 (dk_at dksX6_mayBe_0 13 rfl rfl)
theorem dX6_mayBe_16 : decode cX6_mayBe 16 = .ok (.iconst 0, 1) := dk_3 (dk_at dksX6_mayBe_0 16 rfl rfl)
theorem dX6_mayBe_17 : decode cX6_mayBe 17 = .ok (.goto 18, 3) := dk_167 0 18 (dk_at dksX6_mayBe_0 17 rfl rfl)
theorem dX6_mayBe_20 : decode cX6_mayBe 20 = .ok (.iload_n 0, 1) := dk_26 (dk_at dksX6_mayBe_0 20 rfl rfl)
theorem dX6_mayBe_21 : decode cX6_mayBe 21 = .ok (.iconst 2, 1) := dk_5 (dk_at dksX6_mayBe_0 21 rfl rfl)
theorem dX6_mayBe_22 : decode cX6_mayBe 22 = .ok (.if_icmp .eq 8, 3) := dk_159 0 8 (dk_at dksX6_mayBe_1 0 rfl rfl)
theorem dX6_mayBe_25 : decode cX6_mayBe 25 = .ok (.iload_n 1, 1) := dk_27 (dk_at dksX6_mayBe_1 3 rfl rfl)
theorem dX6_mayBe_26 : decode cX6_mayBe 26 = .ok (.iload_n 2, 1) := dk_28 (dk_at dksX6_mayBe_1 4 rfl rfl)
theorem dX6_mayBe_27 : decode cX6_mayBe 27 = .ok (.if_icmp .ne 7, 3) := dk_160 0 7 (dk_at dksX6_mayBe_1 5 rfl rfl)
theorem dX6_mayBe_30 : decode cX6_mayBe 30 = .ok (.iconst 1, 1) := dk_4 (dk_at dksX6_mayBe_1 8 rfl rfl)
theorem dX6_mayBe_31 : decode cX6_mayBe 31 = .ok (.goto 4, 3) := dk_167 0 4 (dk_at dksX6_mayBe_1 9 rfl rfl)
theorem dX6_mayBe_34 : decode cX6_mayBe 34 = .ok (.iconst 0, 1) := dk_3 (dk_at dksX6_mayBe_1 12 rfl rfl)
theorem dX6_mayBe_35 : decode cX6_mayBe 35 = .ok (.ireturn, 1) := dk_172 (dk_at dksX6_mayBe_1 13 rfl rfl)
abbrev cX6_behindStep : ByteArray := prog_16_method_39_code
def yX6_behindStep : MethodName := ⟨RX6, "behindStep", "(II)I"⟩
def dkwX6_behindStep_7 : List UInt8 := [104, 96, 62, 132, 4, 1, 167, 255, 226, 29, 172]
abbrev dktX6_behindStep_7 : List UInt8 := dkwX6_behindStep_7 ++ []
def dkwX6_behindStep_6 : List UInt8 := [21, 4, 42, 182, 0, 45, 162, 0, 27, 29, 42, 180, 0, 20, 21, 4, 46, 42, 180, 0, 42, 21, 4, 46]
abbrev dktX6_behindStep_6 : List UInt8 := dkwX6_behindStep_6 ++ dktX6_behindStep_7
def dkwX6_behindStep_5 : List UInt8 := [21, 6, 46, 158, 0, 7, 5, 167, 0, 5, 21, 4, 79, 132, 3, 1, 167, 255, 149, 3, 62, 3, 54, 4]
abbrev dktX6_behindStep_5 : List UInt8 := dkwX6_behindStep_5 ++ dktX6_behindStep_6
def dkwX6_behindStep_4 : List UInt8 := [160, 0, 7, 4, 167, 0, 4, 2, 182, 0, 60, 54, 6, 42, 180, 0, 42, 21, 6, 42, 180, 0, 42]
abbrev dktX6_behindStep_4 : List UInt8 := dkwX6_behindStep_4 ++ dktX6_behindStep_5
def dkwX6_behindStep_3 : List UInt8 := [6, 112, 167, 0, 4, 3, 54, 5, 21, 5, 154, 0, 7, 29, 167, 0, 19, 42, 29, 21, 5, 4]
abbrev dktX6_behindStep_3 : List UInt8 := dkwX6_behindStep_3 ++ dktX6_behindStep_4
def dkwX6_behindStep_2 : List UInt8 := [158, 0, 82, 28, 29, 184, 0, 92, 153, 0, 21, 42, 180, 0, 33, 27, 46, 42, 180, 0, 20, 29, 46, 108]
abbrev dktX6_behindStep_2 : List UInt8 := dkwX6_behindStep_2 ++ dktX6_behindStep_3
def dkwX6_behindStep_1 : List UInt8 := [62, 29, 42, 182, 0, 45, 162, 0, 105, 27, 42, 180, 0, 20, 29, 46, 108, 6, 112, 54, 4, 21, 4]
abbrev dktX6_behindStep_1 : List UInt8 := dkwX6_behindStep_1 ++ dktX6_behindStep_2
def dkwX6_behindStep_0 : List UInt8 := [3, 62, 29, 42, 182, 0, 45, 162, 0, 16, 42, 180, 0, 42, 29, 3, 79, 132, 3, 1, 167, 255, 238, 3]
abbrev dktX6_behindStep_0 : List UInt8 := dkwX6_behindStep_0 ++ dktX6_behindStep_1
theorem dksX6_behindStep_0 : cX6_behindStep.data.toList.drop 0 = dktX6_behindStep_0 := by decide +kernel
theorem dksX6_behindStep_1 : cX6_behindStep.data.toList.drop 24 = dktX6_behindStep_1 := dk_seg dksX6_behindStep_0 24 rfl rfl
theorem dksX6_behindStep_2 : cX6_behindStep.data.toList.drop 47 = dktX6_behindStep_2 := dk_seg dksX6_behindStep_1 23 rfl rfl
theorem dksX6_behindStep_3 : cX6_behindStep.data.toList.drop 71 = dktX6_behindStep_3 := dk_seg dksX6_behindStep_2 24 rfl rfl
theorem dksX6_behindStep_4 : cX6_behindStep.data.toList.drop 93 = dktX6_behindStep_4 := dk_seg dksX6_behindStep_3 22 rfl rfl
theorem dksX6_behindStep_5 : cX6_behindStep.data.toList.drop 116 = dktX6_behindStep_5 := dk_seg dksX6_behindStep_4 23 rfl rfl
theorem dksX6_behindStep_6 : cX6_behindStep.data.toList.drop 140 = dktX6_behindStep_6 := dk_seg dksX6_behindStep_5 24 rfl rfl
theorem dksX6_behindStep_7 : cX6_behindStep.data.toList.drop 164 = dktX6_behindStep_7 := dk_seg dksX6_behindStep_6 24 rfl rfl
theorem dX6_behindStep_0 : decode cX6_behindStep 0 = .ok (.iconst 0, 1) := dk_3 (dk_at dksX6_behindStep_0 0 rfl rfl)
theorem dX6_behindStep_1 : decode cX6_behindStep 1 = .ok (.istore_n 3, 1) := dk_62 (dk_at dksX6_behindStep_0 1 rfl rfl)
theorem dX6_behindStep_2 : decode cX6_behindStep 2 = .ok (.iload_n 3, 1) := dk_29 (dk_at dksX6_behindStep_0 2 rfl rfl)
theorem dX6_behindStep_3 : decode cX6_behindStep 3 = .ok (.aload_n 0, 1) := dk_42 (dk_at dksX6_behindStep_0 3 rfl rfl)
theorem dX6_behindStep_4 : decode cX6_behindStep 4 = .ok (.invokevirtual 45, 3) := dk_182 0 45 (dk_at dksX6_behindStep_0 4 rfl rfl)
theorem dX6_behindStep_7 : decode cX6_behindStep 7 = .ok (.if_icmp .ge 16, 3) := dk_162 0 16 (dk_at dksX6_behindStep_0 7 rfl rfl)
theorem dX6_behindStep_10 : decode cX6_behindStep 10 = .ok (.aload_n 0, 1) := dk_42 (dk_at dksX6_behindStep_0 10 rfl rfl)
theorem dX6_behindStep_11 : decode cX6_behindStep 11 = .ok (.getfield 42, 3) := dk_180 0 42 (dk_at dksX6_behindStep_0 11 rfl rfl)
theorem dX6_behindStep_14 : decode cX6_behindStep 14 = .ok (.iload_n 3, 1) := dk_29 (dk_at dksX6_behindStep_0 14 rfl rfl)
theorem dX6_behindStep_15 : decode cX6_behindStep 15 = .ok (.iconst 0, 1) := dk_3 (dk_at dksX6_behindStep_0 15 rfl rfl)
theorem dX6_behindStep_16 : decode cX6_behindStep 16 = .ok (.iastore, 1) := dk_79 (dk_at dksX6_behindStep_0 16 rfl rfl)
theorem dX6_behindStep_17 : decode cX6_behindStep 17 = .ok (.iinc 3 1, 3) := dk_132 3 1 (dk_at dksX6_behindStep_0 17 rfl rfl)
theorem dX6_behindStep_20 : decode cX6_behindStep 20 = .ok (.goto (-18), 3) := dk_167 255 238 (dk_at dksX6_behindStep_0 20 rfl rfl)
theorem dX6_behindStep_23 : decode cX6_behindStep 23 = .ok (.iconst 0, 1) := dk_3 (dk_at dksX6_behindStep_0 23 rfl rfl)
theorem dX6_behindStep_24 : decode cX6_behindStep 24 = .ok (.istore_n 3, 1) := dk_62 (dk_at dksX6_behindStep_1 0 rfl rfl)
theorem dX6_behindStep_25 : decode cX6_behindStep 25 = .ok (.iload_n 3, 1) := dk_29 (dk_at dksX6_behindStep_1 1 rfl rfl)
theorem dX6_behindStep_26 : decode cX6_behindStep 26 = .ok (.aload_n 0, 1) := dk_42 (dk_at dksX6_behindStep_1 2 rfl rfl)
theorem dX6_behindStep_27 : decode cX6_behindStep 27 = .ok (.invokevirtual 45, 3) := dk_182 0 45 (dk_at dksX6_behindStep_1 3 rfl rfl)
theorem dX6_behindStep_30 : decode cX6_behindStep 30 = .ok (.if_icmp .ge 105, 3) := dk_162 0 105 (dk_at dksX6_behindStep_1 6 rfl rfl)
theorem dX6_behindStep_33 : decode cX6_behindStep 33 = .ok (.iload_n 1, 1) := dk_27 (dk_at dksX6_behindStep_1 9 rfl rfl)
theorem dX6_behindStep_34 : decode cX6_behindStep 34 = .ok (.aload_n 0, 1) := dk_42 (dk_at dksX6_behindStep_1 10 rfl rfl)
theorem dX6_behindStep_35 : decode cX6_behindStep 35 = .ok (.getfield 20, 3) := dk_180 0 20 (dk_at dksX6_behindStep_1 11 rfl rfl)
theorem dX6_behindStep_38 : decode cX6_behindStep 38 = .ok (.iload_n 3, 1) := dk_29 (dk_at dksX6_behindStep_1 14 rfl rfl)
theorem dX6_behindStep_39 : decode cX6_behindStep 39 = .ok (.iaload, 1) := dk_46 (dk_at dksX6_behindStep_1 15 rfl rfl)
theorem dX6_behindStep_40 : decode cX6_behindStep 40 = .ok (.idiv, 1) := dk_108 (dk_at dksX6_behindStep_1 16 rfl rfl)
theorem dX6_behindStep_41 : decode cX6_behindStep 41 = .ok (.iconst 3, 1) := dk_6 (dk_at dksX6_behindStep_1 17 rfl rfl)
theorem dX6_behindStep_42 : decode cX6_behindStep 42 = .ok (.irem, 1) := dk_112 (dk_at dksX6_behindStep_1 18 rfl rfl)
theorem dX6_behindStep_43 : decode cX6_behindStep 43 = .ok (.istore 4, 2) := dk_54 4 (dk_at dksX6_behindStep_1 19 rfl rfl)
theorem dX6_behindStep_45 : decode cX6_behindStep 45 = .ok (.iload 4, 2) := dk_21 4 (dk_at dksX6_behindStep_1 21 rfl rfl)
theorem dX6_behindStep_47 : decode cX6_behindStep 47 = .ok (.ifCond .le 82, 3) := dk_158 0 82 (dk_at dksX6_behindStep_2 0 rfl rfl)
theorem dX6_behindStep_50 : decode cX6_behindStep 50 = .ok (.iload_n 2, 1) := dk_28 (dk_at dksX6_behindStep_2 3 rfl rfl)
theorem dX6_behindStep_51 : decode cX6_behindStep 51 = .ok (.iload_n 3, 1) := dk_29 (dk_at dksX6_behindStep_2 4 rfl rfl)
theorem dX6_behindStep_52 : decode cX6_behindStep 52 = .ok (.invokestatic 92, 3) := dk_184 0 92 (dk_at dksX6_behindStep_2 5 rfl rfl)
theorem dX6_behindStep_55 : decode cX6_behindStep 55 = .ok (.ifCond .eq 21, 3) := dk_153 0 21 (dk_at dksX6_behindStep_2 8 rfl rfl)
theorem dX6_behindStep_58 : decode cX6_behindStep 58 = .ok (.aload_n 0, 1) := dk_42 (dk_at dksX6_behindStep_2 11 rfl rfl)
theorem dX6_behindStep_59 : decode cX6_behindStep 59 = .ok (.getfield 33, 3) := dk_180 0 33 (dk_at dksX6_behindStep_2 12 rfl rfl)
theorem dX6_behindStep_62 : decode cX6_behindStep 62 = .ok (.iload_n 1, 1) := dk_27 (dk_at dksX6_behindStep_2 15 rfl rfl)
theorem dX6_behindStep_63 : decode cX6_behindStep 63 = .ok (.iaload, 1) := dk_46 (dk_at dksX6_behindStep_2 16 rfl rfl)
theorem dX6_behindStep_64 : decode cX6_behindStep 64 = .ok (.aload_n 0, 1) := dk_42 (dk_at dksX6_behindStep_2 17 rfl rfl)
theorem dX6_behindStep_65 : decode cX6_behindStep 65 = .ok (.getfield 20, 3) := dk_180 0 20 (dk_at dksX6_behindStep_2 18 rfl rfl)
theorem dX6_behindStep_68 : decode cX6_behindStep 68 = .ok (.iload_n 3, 1) := dk_29 (dk_at dksX6_behindStep_2 21 rfl rfl)
theorem dX6_behindStep_69 : decode cX6_behindStep 69 = .ok (.iaload, 1) := dk_46 (dk_at dksX6_behindStep_2 22 rfl rfl)
theorem dX6_behindStep_70 : decode cX6_behindStep 70 = .ok (.idiv, 1) := dk_108 (dk_at dksX6_behindStep_2 23 rfl rfl)
theorem dX6_behindStep_71 : decode cX6_behindStep 71 = .ok (.iconst 3, 1) := dk_6 (dk_at dksX6_behindStep_3 0 rfl rfl)
theorem dX6_behindStep_72 : decode cX6_behindStep 72 = .ok (.irem, 1) := dk_112 (dk_at dksX6_behindStep_3 1 rfl rfl)
theorem dX6_behindStep_73 : decode cX6_behindStep 73 = .ok (.goto 4, 3) := dk_167 0 4 (dk_at dksX6_behindStep_3 2 rfl rfl)
theorem dX6_behindStep_76 : decode cX6_behindStep 76 = .ok (.iconst 0, 1) := dk_3 (dk_at dksX6_behindStep_3 5 rfl rfl)
theorem dX6_behindStep_77 : decode cX6_behindStep 77 = .ok (.istore 5, 2) := dk_54 5 (dk_at dksX6_behindStep_3 6 rfl rfl)
theorem dX6_behindStep_79 : decode cX6_behindStep 79 = .ok (.iload 5, 2) := dk_21 5 (dk_at dksX6_behindStep_3 8 rfl rfl)
theorem dX6_behindStep_81 : decode cX6_behindStep 81 = .ok (.ifCond .ne 7, 3) := dk_154 0 7 (dk_at dksX6_behindStep_3 10 rfl rfl)
theorem dX6_behindStep_84 : decode cX6_behindStep 84 = .ok (.iload_n 3, 1) := dk_29 (dk_at dksX6_behindStep_3 13 rfl rfl)
theorem dX6_behindStep_85 : decode cX6_behindStep 85 = .ok (.goto 19, 3) := dk_167 0 19 (dk_at dksX6_behindStep_3 14 rfl rfl)
theorem dX6_behindStep_88 : decode cX6_behindStep 88 = .ok (.aload_n 0, 1) := dk_42 (dk_at dksX6_behindStep_3 17 rfl rfl)
theorem dX6_behindStep_89 : decode cX6_behindStep 89 = .ok (.iload_n 3, 1) := dk_29 (dk_at dksX6_behindStep_3 18 rfl rfl)
theorem dX6_behindStep_90 : decode cX6_behindStep 90 = .ok (.iload 5, 2) := dk_21 5 (dk_at dksX6_behindStep_3 19 rfl rfl)
theorem dX6_behindStep_92 : decode cX6_behindStep 92 = .ok (.iconst 1, 1) := dk_4 (dk_at dksX6_behindStep_3 21 rfl rfl)
theorem dX6_behindStep_93 : decode cX6_behindStep 93 = .ok (.if_icmp .ne 7, 3) := dk_160 0 7 (dk_at dksX6_behindStep_4 0 rfl rfl)
theorem dX6_behindStep_96 : decode cX6_behindStep 96 = .ok (.iconst 1, 1) := dk_4 (dk_at dksX6_behindStep_4 3 rfl rfl)
theorem dX6_behindStep_97 : decode cX6_behindStep 97 = .ok (.goto 4, 3) := dk_167 0 4 (dk_at dksX6_behindStep_4 4 rfl rfl)
theorem dX6_behindStep_100 : decode cX6_behindStep 100 = .ok (.iconst (-1), 1) := dk_2 (dk_at dksX6_behindStep_4 7 rfl rfl)
theorem dX6_behindStep_101 : decode cX6_behindStep 101 = .ok (.invokevirtual 60, 3) := dk_182 0 60 (dk_at dksX6_behindStep_4 8 rfl rfl)
theorem dX6_behindStep_104 : decode cX6_behindStep 104 = .ok (.istore 6, 2) := dk_54 6 (dk_at dksX6_behindStep_4 11 rfl rfl)
theorem dX6_behindStep_106 : decode cX6_behindStep 106 = .ok (.aload_n 0, 1) := dk_42 (dk_at dksX6_behindStep_4 13 rfl rfl)
theorem dX6_behindStep_107 : decode cX6_behindStep 107 = .ok (.getfield 42, 3) := dk_180 0 42 (dk_at dksX6_behindStep_4 14 rfl rfl)
theorem dX6_behindStep_110 : decode cX6_behindStep 110 = .ok (.iload 6, 2) := dk_21 6 (dk_at dksX6_behindStep_4 17 rfl rfl)
theorem dX6_behindStep_112 : decode cX6_behindStep 112 = .ok (.aload_n 0, 1) := dk_42 (dk_at dksX6_behindStep_4 19 rfl rfl)
theorem dX6_behindStep_113 : decode cX6_behindStep 113 = .ok (.getfield 42, 3) := dk_180 0 42 (dk_at dksX6_behindStep_4 20 rfl rfl)
theorem dX6_behindStep_116 : decode cX6_behindStep 116 = .ok (.iload 6, 2) := dk_21 6 (dk_at dksX6_behindStep_5 0 rfl rfl)
theorem dX6_behindStep_118 : decode cX6_behindStep 118 = .ok (.iaload, 1) := dk_46 (dk_at dksX6_behindStep_5 2 rfl rfl)
theorem dX6_behindStep_119 : decode cX6_behindStep 119 = .ok (.ifCond .le 7, 3) := dk_158 0 7 (dk_at dksX6_behindStep_5 3 rfl rfl)
theorem dX6_behindStep_122 : decode cX6_behindStep 122 = .ok (.iconst 2, 1) := dk_5 (dk_at dksX6_behindStep_5 6 rfl rfl)
theorem dX6_behindStep_123 : decode cX6_behindStep 123 = .ok (.goto 5, 3) := dk_167 0 5 (dk_at dksX6_behindStep_5 7 rfl rfl)
theorem dX6_behindStep_126 : decode cX6_behindStep 126 = .ok (.iload 4, 2) := dk_21 4 (dk_at dksX6_behindStep_5 10 rfl rfl)
theorem dX6_behindStep_128 : decode cX6_behindStep 128 = .ok (.iastore, 1) := dk_79 (dk_at dksX6_behindStep_5 12 rfl rfl)
theorem dX6_behindStep_129 : decode cX6_behindStep 129 = .ok (.iinc 3 1, 3) := dk_132 3 1 (dk_at dksX6_behindStep_5 13 rfl rfl)
theorem dX6_behindStep_132 : decode cX6_behindStep 132 = .ok (.goto (-107), 3) := dk_167 255 149 (dk_at dksX6_behindStep_5 16 rfl rfl)
theorem dX6_behindStep_135 : decode cX6_behindStep 135 = .ok (.iconst 0, 1) := dk_3 (dk_at dksX6_behindStep_5 19 rfl rfl)
theorem dX6_behindStep_136 : decode cX6_behindStep 136 = .ok (.istore_n 3, 1) := dk_62 (dk_at dksX6_behindStep_5 20 rfl rfl)
theorem dX6_behindStep_137 : decode cX6_behindStep 137 = .ok (.iconst 0, 1) := dk_3 (dk_at dksX6_behindStep_5 21 rfl rfl)
theorem dX6_behindStep_138 : decode cX6_behindStep 138 = .ok (.istore 4, 2) := dk_54 4 (dk_at dksX6_behindStep_5 22 rfl rfl)
theorem dX6_behindStep_140 : decode cX6_behindStep 140 = .ok (.iload 4, 2) := dk_21 4 (dk_at dksX6_behindStep_6 0 rfl rfl)
theorem dX6_behindStep_142 : decode cX6_behindStep 142 = .ok (.aload_n 0, 1) := dk_42 (dk_at dksX6_behindStep_6 2 rfl rfl)
theorem dX6_behindStep_143 : decode cX6_behindStep 143 = .ok (.invokevirtual 45, 3) := dk_182 0 45 (dk_at dksX6_behindStep_6 3 rfl rfl)
theorem dX6_behindStep_146 : decode cX6_behindStep 146 = .ok (.if_icmp .ge 27, 3) := dk_162 0 27 (dk_at dksX6_behindStep_6 6 rfl rfl)
theorem dX6_behindStep_149 : decode cX6_behindStep 149 = .ok (.iload_n 3, 1) := dk_29 (dk_at dksX6_behindStep_6 9 rfl rfl)
theorem dX6_behindStep_150 : decode cX6_behindStep 150 = .ok (.aload_n 0, 1) := dk_42 (dk_at dksX6_behindStep_6 10 rfl rfl)
theorem dX6_behindStep_151 : decode cX6_behindStep 151 = .ok (.getfield 20, 3) := dk_180 0 20 (dk_at dksX6_behindStep_6 11 rfl rfl)
theorem dX6_behindStep_154 : decode cX6_behindStep 154 = .ok (.iload 4, 2) := dk_21 4 (dk_at dksX6_behindStep_6 14 rfl rfl)
theorem dX6_behindStep_156 : decode cX6_behindStep 156 = .ok (.iaload, 1) := dk_46 (dk_at dksX6_behindStep_6 16 rfl rfl)
theorem dX6_behindStep_157 : decode cX6_behindStep 157 = .ok (.aload_n 0, 1) := dk_42 (dk_at dksX6_behindStep_6 17 rfl rfl)
theorem dX6_behindStep_158 : decode cX6_behindStep 158 = .ok (.getfield 42, 3) := dk_180 0 42 (dk_at dksX6_behindStep_6 18 rfl rfl)
theorem dX6_behindStep_161 : decode cX6_behindStep 161 = .ok (.iload 4, 2) := dk_21 4 (dk_at dksX6_behindStep_6 21 rfl rfl)
theorem dX6_behindStep_163 : decode cX6_behindStep 163 = .ok (.iaload, 1) := dk_46 (dk_at dksX6_behindStep_6 23 rfl rfl)
theorem dX6_behindStep_164 : decode cX6_behindStep 164 = .ok (.imul, 1) := dk_104 (dk_at dksX6_behindStep_7 0 rfl rfl)
theorem dX6_behindStep_165 : decode cX6_behindStep 165 = .ok (.iadd, 1) := dk_96 (dk_at dksX6_behindStep_7 1 rfl rfl)
theorem dX6_behindStep_166 : decode cX6_behindStep 166 = .ok (.istore_n 3, 1) := dk_62 (dk_at dksX6_behindStep_7 2 rfl rfl)
theorem dX6_behindStep_167 : decode cX6_behindStep 167 = .ok (.iinc 4 1, 3) := dk_132 4 1 (dk_at dksX6_behindStep_7 3 rfl rfl)
theorem dX6_behindStep_170 : decode cX6_behindStep 170 = .ok (.goto (-30), 3) := dk_167 255 226 (dk_at dksX6_behindStep_7 6 rfl rfl)
theorem dX6_behindStep_173 : decode cX6_behindStep 173 = .ok (.iload_n 3, 1) := dk_29 (dk_at dksX6_behindStep_7 9 rfl rfl)
theorem dX6_behindStep_174 : decode cX6_behindStep 174 = .ok (.ireturn, 1) := dk_172 (dk_at dksX6_behindStep_7 10 rfl rfl)
abbrev cX6_isMet : ByteArray := prog_16_method_41_code
def yX6_isMet : MethodName := ⟨RX6, "isMet", "(I)Z"⟩
def dkwX6_isMet_0 : List UInt8 := [42, 27, 182, 0, 86, 184, 0, 68, 4, 160, 0, 7, 4, 167, 0, 4, 3, 172]
abbrev dktX6_isMet_0 : List UInt8 := dkwX6_isMet_0 ++ []
theorem dksX6_isMet_0 : cX6_isMet.data.toList.drop 0 = dktX6_isMet_0 := by decide +kernel
theorem dX6_isMet_0 : decode cX6_isMet 0 = .ok (.aload_n 0, 1) := dk_42 (dk_at dksX6_isMet_0 0 rfl rfl)
theorem dX6_isMet_1 : decode cX6_isMet 1 = .ok (.iload_n 1, 1) := dk_27 (dk_at dksX6_isMet_0 1 rfl rfl)
theorem dX6_isMet_2 : decode cX6_isMet 2 = .ok (.invokevirtual 86, 3) := dk_182 0 86 (dk_at dksX6_isMet_0 2 rfl rfl)
theorem dX6_isMet_5 : decode cX6_isMet 5 = .ok (.invokestatic 68, 3) := dk_184 0 68 (dk_at dksX6_isMet_0 5 rfl rfl)
theorem dX6_isMet_8 : decode cX6_isMet 8 = .ok (.iconst 1, 1) := dk_4 (dk_at dksX6_isMet_0 8 rfl rfl)
theorem dX6_isMet_9 : decode cX6_isMet 9 = .ok (.if_icmp .ne 7, 3) := dk_160 0 7 (dk_at dksX6_isMet_0 9 rfl rfl)
theorem dX6_isMet_12 : decode cX6_isMet 12 = .ok (.iconst 1, 1) := dk_4 (dk_at dksX6_isMet_0 12 rfl rfl)
theorem dX6_isMet_13 : decode cX6_isMet 13 = .ok (.goto 4, 3) := dk_167 0 4 (dk_at dksX6_isMet_0 13 rfl rfl)
theorem dX6_isMet_16 : decode cX6_isMet 16 = .ok (.iconst 0, 1) := dk_3 (dk_at dksX6_isMet_0 16 rfl rfl)
theorem dX6_isMet_17 : decode cX6_isMet 17 = .ok (.ireturn, 1) := dk_172 (dk_at dksX6_isMet_0 17 rfl rfl)
abbrev cX6_layRound : ByteArray := prog_16_method_44_code
def yX6_layRound : MethodName := ⟨RX6, "layRound", "(II)Z"⟩
def dkwX6_layRound_2 : List UInt8 := [182, 0, 158, 154, 0, 7, 29, 153, 0, 7, 4, 167, 0, 4, 3, 62, 132, 4, 1, 167, 255, 194, 29, 172]
abbrev dktX6_layRound_2 : List UInt8 := dkwX6_layRound_2 ++ []
def dkwX6_layRound_1 : List UInt8 := [180, 0, 36, 21, 5, 46, 155, 0, 13, 42, 180, 0, 39, 21, 5, 46, 156, 0, 24, 42, 21, 5, 27, 28]
abbrev dktX6_layRound_1 : List UInt8 := dkwX6_layRound_1 ++ dktX6_layRound_2
def dkwX6_layRound_0 : List UInt8 := [3, 62, 3, 54, 4, 21, 4, 42, 180, 0, 128, 162, 0, 59, 42, 180, 0, 27, 21, 4, 46, 54, 5, 42]
abbrev dktX6_layRound_0 : List UInt8 := dkwX6_layRound_0 ++ dktX6_layRound_1
theorem dksX6_layRound_0 : cX6_layRound.data.toList.drop 0 = dktX6_layRound_0 := by decide +kernel
theorem dksX6_layRound_1 : cX6_layRound.data.toList.drop 24 = dktX6_layRound_1 := dk_seg dksX6_layRound_0 24 rfl rfl
theorem dksX6_layRound_2 : cX6_layRound.data.toList.drop 48 = dktX6_layRound_2 := dk_seg dksX6_layRound_1 24 rfl rfl
theorem dX6_layRound_0 : decode cX6_layRound 0 = .ok (.iconst 0, 1) := dk_3 (dk_at dksX6_layRound_0 0 rfl rfl)
theorem dX6_layRound_1 : decode cX6_layRound 1 = .ok (.istore_n 3, 1) := dk_62 (dk_at dksX6_layRound_0 1 rfl rfl)
theorem dX6_layRound_2 : decode cX6_layRound 2 = .ok (.iconst 0, 1) := dk_3 (dk_at dksX6_layRound_0 2 rfl rfl)
theorem dX6_layRound_3 : decode cX6_layRound 3 = .ok (.istore 4, 2) := dk_54 4 (dk_at dksX6_layRound_0 3 rfl rfl)
theorem dX6_layRound_5 : decode cX6_layRound 5 = .ok (.iload 4, 2) := dk_21 4 (dk_at dksX6_layRound_0 5 rfl rfl)
theorem dX6_layRound_7 : decode cX6_layRound 7 = .ok (.aload_n 0, 1) := dk_42 (dk_at dksX6_layRound_0 7 rfl rfl)
theorem dX6_layRound_8 : decode cX6_layRound 8 = .ok (.getfield 128, 3) := dk_180 0 128 (dk_at dksX6_layRound_0 8 rfl rfl)
theorem dX6_layRound_11 : decode cX6_layRound 11 = .ok (.if_icmp .ge 59, 3) := dk_162 0 59 (dk_at dksX6_layRound_0 11 rfl rfl)
theorem dX6_layRound_14 : decode cX6_layRound 14 = .ok (.aload_n 0, 1) := dk_42 (dk_at dksX6_layRound_0 14 rfl rfl)
theorem dX6_layRound_15 : decode cX6_layRound 15 = .ok (.getfield 27, 3) := dk_180 0 27 (dk_at dksX6_layRound_0 15 rfl rfl)
theorem dX6_layRound_18 : decode cX6_layRound 18 = .ok (.iload 4, 2) := dk_21 4 (dk_at dksX6_layRound_0 18 rfl rfl)
theorem dX6_layRound_20 : decode cX6_layRound 20 = .ok (.iaload, 1) := dk_46 (dk_at dksX6_layRound_0 20 rfl rfl)
theorem dX6_layRound_21 : decode cX6_layRound 21 = .ok (.istore 5, 2) := dk_54 5 (dk_at dksX6_layRound_0 21 rfl rfl)
theorem dX6_layRound_23 : decode cX6_layRound 23 = .ok (.aload_n 0, 1) := dk_42 (dk_at dksX6_layRound_0 23 rfl rfl)
theorem dX6_layRound_24 : decode cX6_layRound 24 = .ok (.getfield 36, 3) := dk_180 0 36 (dk_at dksX6_layRound_1 0 rfl rfl)
theorem dX6_layRound_27 : decode cX6_layRound 27 = .ok (.iload 5, 2) := dk_21 5 (dk_at dksX6_layRound_1 3 rfl rfl)
theorem dX6_layRound_29 : decode cX6_layRound 29 = .ok (.iaload, 1) := dk_46 (dk_at dksX6_layRound_1 5 rfl rfl)
theorem dX6_layRound_30 : decode cX6_layRound 30 = .ok (.ifCond .lt 13, 3) := dk_155 0 13 (dk_at dksX6_layRound_1 6 rfl rfl)
theorem dX6_layRound_33 : decode cX6_layRound 33 = .ok (.aload_n 0, 1) := dk_42 (dk_at dksX6_layRound_1 9 rfl rfl)
theorem dX6_layRound_34 : decode cX6_layRound 34 = .ok (.getfield 39, 3) := dk_180 0 39 (dk_at dksX6_layRound_1 10 rfl rfl)
theorem dX6_layRound_37 : decode cX6_layRound 37 = .ok (.iload 5, 2) := dk_21 5 (dk_at dksX6_layRound_1 13 rfl rfl)
theorem dX6_layRound_39 : decode cX6_layRound 39 = .ok (.iaload, 1) := dk_46 (dk_at dksX6_layRound_1 15 rfl rfl)
theorem dX6_layRound_40 : decode cX6_layRound 40 = .ok (.ifCond .ge 24, 3) := dk_156 0 24 (dk_at dksX6_layRound_1 16 rfl rfl)
theorem dX6_layRound_43 : decode cX6_layRound 43 = .ok (.aload_n 0, 1) := dk_42 (dk_at dksX6_layRound_1 19 rfl rfl)
theorem dX6_layRound_44 : decode cX6_layRound 44 = .ok (.iload 5, 2) := dk_21 5 (dk_at dksX6_layRound_1 20 rfl rfl)
theorem dX6_layRound_46 : decode cX6_layRound 46 = .ok (.iload_n 1, 1) := dk_27 (dk_at dksX6_layRound_1 22 rfl rfl)
theorem dX6_layRound_47 : decode cX6_layRound 47 = .ok (.iload_n 2, 1) := dk_28 (dk_at dksX6_layRound_1 23 rfl rfl)
theorem dX6_layRound_48 : decode cX6_layRound 48 = .ok (.invokevirtual 158, 3) := dk_182 0 158 (dk_at dksX6_layRound_2 0 rfl rfl)
theorem dX6_layRound_51 : decode cX6_layRound 51 = .ok (.ifCond .ne 7, 3) := dk_154 0 7 (dk_at dksX6_layRound_2 3 rfl rfl)
theorem dX6_layRound_54 : decode cX6_layRound 54 = .ok (.iload_n 3, 1) := dk_29 (dk_at dksX6_layRound_2 6 rfl rfl)
theorem dX6_layRound_55 : decode cX6_layRound 55 = .ok (.ifCond .eq 7, 3) := dk_153 0 7 (dk_at dksX6_layRound_2 7 rfl rfl)
theorem dX6_layRound_58 : decode cX6_layRound 58 = .ok (.iconst 1, 1) := dk_4 (dk_at dksX6_layRound_2 10 rfl rfl)
theorem dX6_layRound_59 : decode cX6_layRound 59 = .ok (.goto 4, 3) := dk_167 0 4 (dk_at dksX6_layRound_2 11 rfl rfl)
theorem dX6_layRound_62 : decode cX6_layRound 62 = .ok (.iconst 0, 1) := dk_3 (dk_at dksX6_layRound_2 14 rfl rfl)
theorem dX6_layRound_63 : decode cX6_layRound 63 = .ok (.istore_n 3, 1) := dk_62 (dk_at dksX6_layRound_2 15 rfl rfl)
theorem dX6_layRound_64 : decode cX6_layRound 64 = .ok (.iinc 4 1, 3) := dk_132 4 1 (dk_at dksX6_layRound_2 16 rfl rfl)
theorem dX6_layRound_67 : decode cX6_layRound 67 = .ok (.goto (-62), 3) := dk_167 255 194 (dk_at dksX6_layRound_2 19 rfl rfl)
theorem dX6_layRound_70 : decode cX6_layRound 70 = .ok (.iload_n 3, 1) := dk_29 (dk_at dksX6_layRound_2 22 rfl rfl)
theorem dX6_layRound_71 : decode cX6_layRound 71 = .ok (.ireturn, 1) := dk_172 (dk_at dksX6_layRound_2 23 rfl rfl)
abbrev cX6_look : ByteArray := prog_16_method_45_code
def yX6_look : MethodName := ⟨RX6, "look", "(III)Z"⟩
def dkwX6_look_9 : List UInt8 := [153, 0, 7, 4, 167, 0, 4, 3, 172]
abbrev dktX6_look_9 : List UInt8 := dkwX6_look_9 ++ []
def dkwX6_look_8 : List UInt8 := [27, 21, 8, 153, 0, 7, 29, 167, 0, 9, 42, 180, 0, 39, 27, 46, 79, 21, 7, 154, 0, 8, 21, 8]
abbrev dktX6_look_8 : List UInt8 := dkwX6_look_8 ++ dktX6_look_9
def dkwX6_look_7 : List UInt8 := [180, 0, 36, 27, 21, 7, 153, 0, 7, 29, 167, 0, 9, 42, 180, 0, 36, 27, 46, 79, 42, 180, 0, 39]
abbrev dktX6_look_7 : List UInt8 := dkwX6_look_7 ++ dktX6_look_8
def dkwX6_look_6 : List UInt8 := [54, 7, 42, 180, 0, 39, 27, 46, 156, 0, 12, 21, 6, 153, 0, 7, 4, 167, 0, 4, 3, 54, 8, 42]
abbrev dktX6_look_6 : List UInt8 := dkwX6_look_6 ++ dktX6_look_7
def dkwX6_look_5 : List UInt8 := [54, 7, 167, 255, 167, 42, 180, 0, 36, 27, 46, 156, 0, 12, 21, 5, 153, 0, 7, 4, 167, 0, 4, 3]
abbrev dktX6_look_5 : List UInt8 := dkwX6_look_5 ++ dktX6_look_6
def dkwX6_look_4 : List UInt8 := [4, 100, 184, 0, 49, 153, 0, 7, 4, 167, 0, 4, 3, 54, 6, 21, 7, 21, 4, 100, 21, 4, 126]
abbrev dktX6_look_4 : List UInt8 := dkwX6_look_4 ++ dktX6_look_5
def dkwX6_look_3 : List UInt8 := [160, 0, 7, 4, 167, 0, 4, 3, 54, 5, 21, 6, 153, 0, 24, 42, 180, 0, 39, 21, 8, 46, 3, 29]
abbrev dktX6_look_3 : List UInt8 := dkwX6_look_3 ++ dktX6_look_4
def dkwX6_look_2 : List UInt8 := [21, 7, 182, 0, 145, 54, 8, 21, 5, 154, 0, 16, 42, 180, 0, 36, 21, 8, 46, 29, 4, 100]
abbrev dktX6_look_2 : List UInt8 := dkwX6_look_2 ++ dktX6_look_3
def dkwX6_look_1 : List UInt8 := [116, 21, 4, 126, 54, 7, 21, 7, 153, 0, 90, 28, 21, 7, 21, 4, 184, 0, 142, 153, 0, 66, 42, 27]
abbrev dktX6_look_1 : List UInt8 := dkwX6_look_1 ++ dktX6_look_2
def dkwX6_look_0 : List UInt8 := [42, 27, 182, 0, 139, 54, 4, 3, 54, 5, 21, 4, 153, 0, 7, 4, 167, 0, 4, 3, 54, 6, 21, 4]
abbrev dktX6_look_0 : List UInt8 := dkwX6_look_0 ++ dktX6_look_1
theorem dksX6_look_0 : cX6_look.data.toList.drop 0 = dktX6_look_0 := by decide +kernel
theorem dksX6_look_1 : cX6_look.data.toList.drop 24 = dktX6_look_1 := dk_seg dksX6_look_0 24 rfl rfl
theorem dksX6_look_2 : cX6_look.data.toList.drop 48 = dktX6_look_2 := dk_seg dksX6_look_1 24 rfl rfl
theorem dksX6_look_3 : cX6_look.data.toList.drop 70 = dktX6_look_3 := dk_seg dksX6_look_2 22 rfl rfl
theorem dksX6_look_4 : cX6_look.data.toList.drop 94 = dktX6_look_4 := dk_seg dksX6_look_3 24 rfl rfl
theorem dksX6_look_5 : cX6_look.data.toList.drop 117 = dktX6_look_5 := dk_seg dksX6_look_4 23 rfl rfl
theorem dksX6_look_6 : cX6_look.data.toList.drop 141 = dktX6_look_6 := dk_seg dksX6_look_5 24 rfl rfl
theorem dksX6_look_7 : cX6_look.data.toList.drop 165 = dktX6_look_7 := dk_seg dksX6_look_6 24 rfl rfl
theorem dksX6_look_8 : cX6_look.data.toList.drop 189 = dktX6_look_8 := dk_seg dksX6_look_7 24 rfl rfl
theorem dksX6_look_9 : cX6_look.data.toList.drop 213 = dktX6_look_9 := dk_seg dksX6_look_8 24 rfl rfl
theorem dX6_look_0 : decode cX6_look 0 = .ok (.aload_n 0, 1) := dk_42 (dk_at dksX6_look_0 0 rfl rfl)
theorem dX6_look_1 : decode cX6_look 1 = .ok (.iload_n 1, 1) := dk_27 (dk_at dksX6_look_0 1 rfl rfl)
theorem dX6_look_2 : decode cX6_look 2 = .ok (.invokevirtual 139, 3) := dk_182 0 139 (dk_at dksX6_look_0 2 rfl rfl)
theorem dX6_look_5 : decode cX6_look 5 = .ok (.istore 4, 2) := dk_54 4 (dk_at dksX6_look_0 5 rfl rfl)
theorem dX6_look_7 : decode cX6_look 7 = .ok (.iconst 0, 1) := dk_3 (dk_at dksX6_look_0 7 rfl rfl)
theorem dX6_look_8 : decode cX6_look 8 = .ok (.istore 5, 2) := dk_54 5 (dk_at dksX6_look_0 8 rfl rfl)
theorem dX6_look_10 : decode cX6_look 10 = .ok (.iload 4, 2) := dk_21 4 (dk_at dksX6_look_0 10 rfl rfl)
theorem dX6_look_12 : decode cX6_look 12 = .ok (.ifCond .eq 7, 3) := dk_153 0 7 (dk_at dksX6_look_0 12 rfl rfl)
theorem dX6_look_15 : decode cX6_look 15 = .ok (.iconst 1, 1) := dk_4 (dk_at dksX6_look_0 15 rfl rfl)
theorem dX6_look_16 : decode cX6_look 16 = .ok (.goto 4, 3) := dk_167 0 4 (dk_at dksX6_look_0 16 rfl rfl)
theorem dX6_look_19 : decode cX6_look 19 = .ok (.iconst 0, 1) := dk_3 (dk_at dksX6_look_0 19 rfl rfl)
theorem dX6_look_20 : decode cX6_look 20 = .ok (.istore 6, 2) := dk_54 6 (dk_at dksX6_look_0 20 rfl rfl)
theorem dX6_look_22 : decode cX6_look 22 = .ok (.iload 4, 2) := dk_21 4 (dk_at dksX6_look_0 22 rfl rfl)
theorem dX6_look_24 : decode cX6_look 24 = .ok (.ineg, 1) := dk_116 (dk_at dksX6_look_1 0 rfl rfl)
theorem dX6_look_25 : decode cX6_look 25 = .ok (.iload 4, 2) := dk_21 4 (dk_at dksX6_look_1 1 rfl rfl)
theorem dX6_look_27 : decode cX6_look 27 = .ok (.iand, 1) := dk_126 (dk_at dksX6_look_1 3 rfl rfl)
theorem dX6_look_28 : decode cX6_look 28 = .ok (.istore 7, 2) := dk_54 7 (dk_at dksX6_look_1 4 rfl rfl)
theorem dX6_look_30 : decode cX6_look 30 = .ok (.iload 7, 2) := dk_21 7 (dk_at dksX6_look_1 6 rfl rfl)
theorem dX6_look_32 : decode cX6_look 32 = .ok (.ifCond .eq 90, 3) := dk_153 0 90 (dk_at dksX6_look_1 8 rfl rfl)
theorem dX6_look_35 : decode cX6_look 35 = .ok (.iload_n 2, 1) := dk_28 (dk_at dksX6_look_1 11 rfl rfl)
theorem dX6_look_36 : decode cX6_look 36 = .ok (.iload 7, 2) := dk_21 7 (dk_at dksX6_look_1 12 rfl rfl)
theorem dX6_look_38 : decode cX6_look 38 = .ok (.iload 4, 2) := dk_21 4 (dk_at dksX6_look_1 14 rfl rfl)
theorem dX6_look_40 : decode cX6_look 40 = .ok (.invokestatic 142, 3) := dk_184 0 142 (dk_at dksX6_look_1 16 rfl rfl)
theorem dX6_look_43 : decode cX6_look 43 = .ok (.ifCond .eq 66, 3) := dk_153 0 66 (dk_at dksX6_look_1 19 rfl rfl)
theorem dX6_look_46 : decode cX6_look 46 = .ok (.aload_n 0, 1) := dk_42 (dk_at dksX6_look_1 22 rfl rfl)
theorem dX6_look_47 : decode cX6_look 47 = .ok (.iload_n 1, 1) := dk_27 (dk_at dksX6_look_1 23 rfl rfl)
theorem dX6_look_48 : decode cX6_look 48 = .ok (.iload 7, 2) := dk_21 7 (dk_at dksX6_look_2 0 rfl rfl)
theorem dX6_look_50 : decode cX6_look 50 = .ok (.invokevirtual 145, 3) := dk_182 0 145 (dk_at dksX6_look_2 2 rfl rfl)
theorem dX6_look_53 : decode cX6_look 53 = .ok (.istore 8, 2) := dk_54 8 (dk_at dksX6_look_2 5 rfl rfl)
theorem dX6_look_55 : decode cX6_look 55 = .ok (.iload 5, 2) := dk_21 5 (dk_at dksX6_look_2 7 rfl rfl)
theorem dX6_look_57 : decode cX6_look 57 = .ok (.ifCond .ne 16, 3) := dk_154 0 16 (dk_at dksX6_look_2 9 rfl rfl)
theorem dX6_look_60 : decode cX6_look 60 = .ok (.aload_n 0, 1) := dk_42 (dk_at dksX6_look_2 12 rfl rfl)
theorem dX6_look_61 : decode cX6_look 61 = .ok (.getfield 36, 3) := dk_180 0 36 (dk_at dksX6_look_2 13 rfl rfl)
theorem dX6_look_64 : decode cX6_look 64 = .ok (.iload 8, 2) := dk_21 8 (dk_at dksX6_look_2 16 rfl rfl)
theorem dX6_look_66 : decode cX6_look 66 = .ok (.iaload, 1) := dk_46 (dk_at dksX6_look_2 18 rfl rfl)
theorem dX6_look_67 : decode cX6_look 67 = .ok (.iload_n 3, 1) := dk_29 (dk_at dksX6_look_2 19 rfl rfl)
theorem dX6_look_68 : decode cX6_look 68 = .ok (.iconst 1, 1) := dk_4 (dk_at dksX6_look_2 20 rfl rfl)
theorem dX6_look_69 : decode cX6_look 69 = .ok (.isub, 1) := dk_100 (dk_at dksX6_look_2 21 rfl rfl)
theorem dX6_look_70 : decode cX6_look 70 = .ok (.if_icmp .ne 7, 3) := dk_160 0 7 (dk_at dksX6_look_3 0 rfl rfl)
theorem dX6_look_73 : decode cX6_look 73 = .ok (.iconst 1, 1) := dk_4 (dk_at dksX6_look_3 3 rfl rfl)
theorem dX6_look_74 : decode cX6_look 74 = .ok (.goto 4, 3) := dk_167 0 4 (dk_at dksX6_look_3 4 rfl rfl)
theorem dX6_look_77 : decode cX6_look 77 = .ok (.iconst 0, 1) := dk_3 (dk_at dksX6_look_3 7 rfl rfl)
theorem dX6_look_78 : decode cX6_look 78 = .ok (.istore 5, 2) := dk_54 5 (dk_at dksX6_look_3 8 rfl rfl)
theorem dX6_look_80 : decode cX6_look 80 = .ok (.iload 6, 2) := dk_21 6 (dk_at dksX6_look_3 10 rfl rfl)
theorem dX6_look_82 : decode cX6_look 82 = .ok (.ifCond .eq 24, 3) := dk_153 0 24 (dk_at dksX6_look_3 12 rfl rfl)
theorem dX6_look_85 : decode cX6_look 85 = .ok (.aload_n 0, 1) := dk_42 (dk_at dksX6_look_3 15 rfl rfl)
theorem dX6_look_86 : decode cX6_look 86 = .ok (.getfield 39, 3) := dk_180 0 39 (dk_at dksX6_look_3 16 rfl rfl)
theorem dX6_look_89 : decode cX6_look 89 = .ok (.iload 8, 2) := dk_21 8 (dk_at dksX6_look_3 19 rfl rfl)
theorem dX6_look_91 : decode cX6_look 91 = .ok (.iaload, 1) := dk_46 (dk_at dksX6_look_3 21 rfl rfl)
theorem dX6_look_92 : decode cX6_look 92 = .ok (.iconst 0, 1) := dk_3 (dk_at dksX6_look_3 22 rfl rfl)
theorem dX6_look_93 : decode cX6_look 93 = .ok (.iload_n 3, 1) := dk_29 (dk_at dksX6_look_3 23 rfl rfl)
theorem dX6_look_94 : decode cX6_look 94 = .ok (.iconst 1, 1) := dk_4 (dk_at dksX6_look_4 0 rfl rfl)
theorem dX6_look_95 : decode cX6_look 95 = .ok (.isub, 1) := dk_100 (dk_at dksX6_look_4 1 rfl rfl)
theorem dX6_look_96 : decode cX6_look 96 = .ok (.invokestatic 49, 3) := dk_184 0 49 (dk_at dksX6_look_4 2 rfl rfl)
theorem dX6_look_99 : decode cX6_look 99 = .ok (.ifCond .eq 7, 3) := dk_153 0 7 (dk_at dksX6_look_4 5 rfl rfl)
theorem dX6_look_102 : decode cX6_look 102 = .ok (.iconst 1, 1) := dk_4 (dk_at dksX6_look_4 8 rfl rfl)
theorem dX6_look_103 : decode cX6_look 103 = .ok (.goto 4, 3) := dk_167 0 4 (dk_at dksX6_look_4 9 rfl rfl)
theorem dX6_look_106 : decode cX6_look 106 = .ok (.iconst 0, 1) := dk_3 (dk_at dksX6_look_4 12 rfl rfl)
theorem dX6_look_107 : decode cX6_look 107 = .ok (.istore 6, 2) := dk_54 6 (dk_at dksX6_look_4 13 rfl rfl)
theorem dX6_look_109 : decode cX6_look 109 = .ok (.iload 7, 2) := dk_21 7 (dk_at dksX6_look_4 15 rfl rfl)
theorem dX6_look_111 : decode cX6_look 111 = .ok (.iload 4, 2) := dk_21 4 (dk_at dksX6_look_4 17 rfl rfl)
theorem dX6_look_113 : decode cX6_look 113 = .ok (.isub, 1) := dk_100 (dk_at dksX6_look_4 19 rfl rfl)
theorem dX6_look_114 : decode cX6_look 114 = .ok (.iload 4, 2) := dk_21 4 (dk_at dksX6_look_4 20 rfl rfl)
theorem dX6_look_116 : decode cX6_look 116 = .ok (.iand, 1) := dk_126 (dk_at dksX6_look_4 22 rfl rfl)
theorem dX6_look_117 : decode cX6_look 117 = .ok (.istore 7, 2) := dk_54 7 (dk_at dksX6_look_5 0 rfl rfl)
theorem dX6_look_119 : decode cX6_look 119 = .ok (.goto (-89), 3) := dk_167 255 167 (dk_at dksX6_look_5 2 rfl rfl)
theorem dX6_look_122 : decode cX6_look 122 = .ok (.aload_n 0, 1) := dk_42 (dk_at dksX6_look_5 5 rfl rfl)
theorem dX6_look_123 : decode cX6_look 123 = .ok (.getfield 36, 3) := dk_180 0 36 (dk_at dksX6_look_5 6 rfl rfl)
theorem dX6_look_126 : decode cX6_look 126 = .ok (.iload_n 1, 1) := dk_27 (dk_at dksX6_look_5 9 rfl rfl)
theorem dX6_look_127 : decode cX6_look 127 = .ok (.iaload, 1) := dk_46 (dk_at dksX6_look_5 10 rfl rfl)
theorem dX6_look_128 : decode cX6_look 128 = .ok (.ifCond .ge 12, 3) := dk_156 0 12 (dk_at dksX6_look_5 11 rfl rfl)
theorem dX6_look_131 : decode cX6_look 131 = .ok (.iload 5, 2) := dk_21 5 (dk_at dksX6_look_5 14 rfl rfl)
theorem dX6_look_133 : decode cX6_look 133 = .ok (.ifCond .eq 7, 3) := dk_153 0 7 (dk_at dksX6_look_5 16 rfl rfl)
theorem dX6_look_136 : decode cX6_look 136 = .ok (.iconst 1, 1) := dk_4 (dk_at dksX6_look_5 19 rfl rfl)
theorem dX6_look_137 : decode cX6_look 137 = .ok (.goto 4, 3) := dk_167 0 4 (dk_at dksX6_look_5 20 rfl rfl)
theorem dX6_look_140 : decode cX6_look 140 = .ok (.iconst 0, 1) := dk_3 (dk_at dksX6_look_5 23 rfl rfl)
theorem dX6_look_141 : decode cX6_look 141 = .ok (.istore 7, 2) := dk_54 7 (dk_at dksX6_look_6 0 rfl rfl)
theorem dX6_look_143 : decode cX6_look 143 = .ok (.aload_n 0, 1) := dk_42 (dk_at dksX6_look_6 2 rfl rfl)
theorem dX6_look_144 : decode cX6_look 144 = .ok (.getfield 39, 3) := dk_180 0 39 (dk_at dksX6_look_6 3 rfl rfl)
theorem dX6_look_147 : decode cX6_look 147 = .ok (.iload_n 1, 1) := dk_27 (dk_at dksX6_look_6 6 rfl rfl)
theorem dX6_look_148 : decode cX6_look 148 = .ok (.iaload, 1) := dk_46 (dk_at dksX6_look_6 7 rfl rfl)
theorem dX6_look_149 : decode cX6_look 149 = .ok (.ifCond .ge 12, 3) := dk_156 0 12 (dk_at dksX6_look_6 8 rfl rfl)
theorem dX6_look_152 : decode cX6_look 152 = .ok (.iload 6, 2) := dk_21 6 (dk_at dksX6_look_6 11 rfl rfl)
theorem dX6_look_154 : decode cX6_look 154 = .ok (.ifCond .eq 7, 3) := dk_153 0 7 (dk_at dksX6_look_6 13 rfl rfl)
theorem dX6_look_157 : decode cX6_look 157 = .ok (.iconst 1, 1) := dk_4 (dk_at dksX6_look_6 16 rfl rfl)
theorem dX6_look_158 : decode cX6_look 158 = .ok (.goto 4, 3) := dk_167 0 4 (dk_at dksX6_look_6 17 rfl rfl)
theorem dX6_look_161 : decode cX6_look 161 = .ok (.iconst 0, 1) := dk_3 (dk_at dksX6_look_6 20 rfl rfl)
theorem dX6_look_162 : decode cX6_look 162 = .ok (.istore 8, 2) := dk_54 8 (dk_at dksX6_look_6 21 rfl rfl)
theorem dX6_look_164 : decode cX6_look 164 = .ok (.aload_n 0, 1) := dk_42 (dk_at dksX6_look_6 23 rfl rfl)
theorem dX6_look_165 : decode cX6_look 165 = .ok (.getfield 36, 3) := dk_180 0 36 (dk_at dksX6_look_7 0 rfl rfl)
theorem dX6_look_168 : decode cX6_look 168 = .ok (.iload_n 1, 1) := dk_27 (dk_at dksX6_look_7 3 rfl rfl)
theorem dX6_look_169 : decode cX6_look 169 = .ok (.iload 7, 2) := dk_21 7 (dk_at dksX6_look_7 4 rfl rfl)
theorem dX6_look_171 : decode cX6_look 171 = .ok (.ifCond .eq 7, 3) := dk_153 0 7 (dk_at dksX6_look_7 6 rfl rfl)
theorem dX6_look_174 : decode cX6_look 174 = .ok (.iload_n 3, 1) := dk_29 (dk_at dksX6_look_7 9 rfl rfl)
theorem dX6_look_175 : decode cX6_look 175 = .ok (.goto 9, 3) := dk_167 0 9 (dk_at dksX6_look_7 10 rfl rfl)
theorem dX6_look_178 : decode cX6_look 178 = .ok (.aload_n 0, 1) := dk_42 (dk_at dksX6_look_7 13 rfl rfl)
theorem dX6_look_179 : decode cX6_look 179 = .ok (.getfield 36, 3) := dk_180 0 36 (dk_at dksX6_look_7 14 rfl rfl)
theorem dX6_look_182 : decode cX6_look 182 = .ok (.iload_n 1, 1) := dk_27 (dk_at dksX6_look_7 17 rfl rfl)
theorem dX6_look_183 : decode cX6_look 183 = .ok (.iaload, 1) := dk_46 (dk_at dksX6_look_7 18 rfl rfl)
theorem dX6_look_184 : decode cX6_look 184 = .ok (.iastore, 1) := dk_79 (dk_at dksX6_look_7 19 rfl rfl)
theorem dX6_look_185 : decode cX6_look 185 = .ok (.aload_n 0, 1) := dk_42 (dk_at dksX6_look_7 20 rfl rfl)
theorem dX6_look_186 : decode cX6_look 186 = .ok (.getfield 39, 3) := dk_180 0 39 (dk_at dksX6_look_7 21 rfl rfl)
theorem dX6_look_189 : decode cX6_look 189 = .ok (.iload_n 1, 1) := dk_27 (dk_at dksX6_look_8 0 rfl rfl)
theorem dX6_look_190 : decode cX6_look 190 = .ok (.iload 8, 2) := dk_21 8 (dk_at dksX6_look_8 1 rfl rfl)
theorem dX6_look_192 : decode cX6_look 192 = .ok (.ifCond .eq 7, 3) := dk_153 0 7 (dk_at dksX6_look_8 3 rfl rfl)
theorem dX6_look_195 : decode cX6_look 195 = .ok (.iload_n 3, 1) := dk_29 (dk_at dksX6_look_8 6 rfl rfl)
theorem dX6_look_196 : decode cX6_look 196 = .ok (.goto 9, 3) := dk_167 0 9 (dk_at dksX6_look_8 7 rfl rfl)
theorem dX6_look_199 : decode cX6_look 199 = .ok (.aload_n 0, 1) := dk_42 (dk_at dksX6_look_8 10 rfl rfl)
theorem dX6_look_200 : decode cX6_look 200 = .ok (.getfield 39, 3) := dk_180 0 39 (dk_at dksX6_look_8 11 rfl rfl)
theorem dX6_look_203 : decode cX6_look 203 = .ok (.iload_n 1, 1) := dk_27 (dk_at dksX6_look_8 14 rfl rfl)
theorem dX6_look_204 : decode cX6_look 204 = .ok (.iaload, 1) := dk_46 (dk_at dksX6_look_8 15 rfl rfl)
theorem dX6_look_205 : decode cX6_look 205 = .ok (.iastore, 1) := dk_79 (dk_at dksX6_look_8 16 rfl rfl)
theorem dX6_look_206 : decode cX6_look 206 = .ok (.iload 7, 2) := dk_21 7 (dk_at dksX6_look_8 17 rfl rfl)
theorem dX6_look_208 : decode cX6_look 208 = .ok (.ifCond .ne 8, 3) := dk_154 0 8 (dk_at dksX6_look_8 19 rfl rfl)
theorem dX6_look_211 : decode cX6_look 211 = .ok (.iload 8, 2) := dk_21 8 (dk_at dksX6_look_8 22 rfl rfl)
theorem dX6_look_213 : decode cX6_look 213 = .ok (.ifCond .eq 7, 3) := dk_153 0 7 (dk_at dksX6_look_9 0 rfl rfl)
theorem dX6_look_216 : decode cX6_look 216 = .ok (.iconst 1, 1) := dk_4 (dk_at dksX6_look_9 3 rfl rfl)
theorem dX6_look_217 : decode cX6_look 217 = .ok (.goto 4, 3) := dk_167 0 4 (dk_at dksX6_look_9 4 rfl rfl)
theorem dX6_look_220 : decode cX6_look 220 = .ok (.iconst 0, 1) := dk_3 (dk_at dksX6_look_9 7 rfl rfl)
theorem dX6_look_221 : decode cX6_look 221 = .ok (.ireturn, 1) := dk_172 (dk_at dksX6_look_9 8 rfl rfl)
abbrev cX6_kindOf : ByteArray := prog_16_method_46_code
def yX6_kindOf : MethodName := ⟨RX6, "kindOf", "(I)I"⟩
def dkwX6_kindOf_1 : List UInt8 := [167, 0, 17, 42, 180, 0, 36, 27, 46, 155, 0, 7, 5, 167, 0, 4, 6, 172]
abbrev dktX6_kindOf_1 : List UInt8 := dkwX6_kindOf_1 ++ []
def dkwX6_kindOf_0 : List UInt8 := [42, 27, 182, 0, 152, 153, 0, 7, 3, 167, 0, 30, 42, 180, 0, 39, 27, 46, 155, 0, 7, 4]
abbrev dktX6_kindOf_0 : List UInt8 := dkwX6_kindOf_0 ++ dktX6_kindOf_1
theorem dksX6_kindOf_0 : cX6_kindOf.data.toList.drop 0 = dktX6_kindOf_0 := by decide +kernel
theorem dksX6_kindOf_1 : cX6_kindOf.data.toList.drop 22 = dktX6_kindOf_1 := dk_seg dksX6_kindOf_0 22 rfl rfl
theorem dX6_kindOf_0 : decode cX6_kindOf 0 = .ok (.aload_n 0, 1) := dk_42 (dk_at dksX6_kindOf_0 0 rfl rfl)
theorem dX6_kindOf_1 : decode cX6_kindOf 1 = .ok (.iload_n 1, 1) := dk_27 (dk_at dksX6_kindOf_0 1 rfl rfl)
theorem dX6_kindOf_2 : decode cX6_kindOf 2 = .ok (.invokevirtual 152, 3) := dk_182 0 152 (dk_at dksX6_kindOf_0 2 rfl rfl)
theorem dX6_kindOf_5 : decode cX6_kindOf 5 = .ok (.ifCond .eq 7, 3) := dk_153 0 7 (dk_at dksX6_kindOf_0 5 rfl rfl)
theorem dX6_kindOf_8 : decode cX6_kindOf 8 = .ok (.iconst 0, 1) := dk_3 (dk_at dksX6_kindOf_0 8 rfl rfl)
theorem dX6_kindOf_9 : decode cX6_kindOf 9 = .ok (.goto 30, 3) := dk_167 0 30 (dk_at dksX6_kindOf_0 9 rfl rfl)
theorem dX6_kindOf_12 : decode cX6_kindOf 12 = .ok (.aload_n 0, 1) := dk_42 (dk_at dksX6_kindOf_0 12 rfl rfl)
theorem dX6_kindOf_13 : decode cX6_kindOf 13 = .ok (.getfield 39, 3) := dk_180 0 39 (dk_at dksX6_kindOf_0 13 rfl rfl)
theorem dX6_kindOf_16 : decode cX6_kindOf 16 = .ok (.iload_n 1, 1) := dk_27 (dk_at dksX6_kindOf_0 16 rfl rfl)
theorem dX6_kindOf_17 : decode cX6_kindOf 17 = .ok (.iaload, 1) := dk_46 (dk_at dksX6_kindOf_0 17 rfl rfl)
theorem dX6_kindOf_18 : decode cX6_kindOf 18 = .ok (.ifCond .lt 7, 3) := dk_155 0 7 (dk_at dksX6_kindOf_0 18 rfl rfl)
theorem dX6_kindOf_21 : decode cX6_kindOf 21 = .ok (.iconst 1, 1) := dk_4 (dk_at dksX6_kindOf_0 21 rfl rfl)
theorem dX6_kindOf_22 : decode cX6_kindOf 22 = .ok (.goto 17, 3) := dk_167 0 17 (dk_at dksX6_kindOf_1 0 rfl rfl)
theorem dX6_kindOf_25 : decode cX6_kindOf 25 = .ok (.aload_n 0, 1) := dk_42 (dk_at dksX6_kindOf_1 3 rfl rfl)
theorem dX6_kindOf_26 : decode cX6_kindOf 26 = .ok (.getfield 36, 3) := dk_180 0 36 (dk_at dksX6_kindOf_1 4 rfl rfl)
theorem dX6_kindOf_29 : decode cX6_kindOf 29 = .ok (.iload_n 1, 1) := dk_27 (dk_at dksX6_kindOf_1 7 rfl rfl)
theorem dX6_kindOf_30 : decode cX6_kindOf 30 = .ok (.iaload, 1) := dk_46 (dk_at dksX6_kindOf_1 8 rfl rfl)
theorem dX6_kindOf_31 : decode cX6_kindOf 31 = .ok (.ifCond .lt 7, 3) := dk_155 0 7 (dk_at dksX6_kindOf_1 9 rfl rfl)
theorem dX6_kindOf_34 : decode cX6_kindOf 34 = .ok (.iconst 2, 1) := dk_5 (dk_at dksX6_kindOf_1 12 rfl rfl)
theorem dX6_kindOf_35 : decode cX6_kindOf 35 = .ok (.goto 4, 3) := dk_167 0 4 (dk_at dksX6_kindOf_1 13 rfl rfl)
theorem dX6_kindOf_38 : decode cX6_kindOf 38 = .ok (.iconst 3, 1) := dk_6 (dk_at dksX6_kindOf_1 16 rfl rfl)
theorem dX6_kindOf_39 : decode cX6_kindOf 39 = .ok (.ireturn, 1) := dk_172 (dk_at dksX6_kindOf_1 17 rfl rfl)
abbrev cX6_stuck : ByteArray := prog_16_method_48_code
def yX6_stuck : MethodName := ⟨RX6, "stuck", "()I"⟩
def dkwX6_stuck_2 : List UInt8 := [132, 2, 1, 167, 255, 211, 27, 172]
abbrev dktX6_stuck_2 : List UInt8 := dkwX6_stuck_2 ++ []
def dkwX6_stuck_1 : List UInt8 := [154, 0, 20, 42, 42, 180, 0, 27, 28, 46, 182, 0, 139, 154, 0, 7, 4, 167, 0, 4, 3, 96, 60]
abbrev dktX6_stuck_1 : List UInt8 := dkwX6_stuck_1 ++ dktX6_stuck_2
def dkwX6_stuck_0 : List UInt8 := [3, 60, 3, 61, 28, 42, 180, 0, 128, 162, 0, 43, 27, 42, 42, 180, 0, 27, 28, 46, 182, 0, 152]
abbrev dktX6_stuck_0 : List UInt8 := dkwX6_stuck_0 ++ dktX6_stuck_1
theorem dksX6_stuck_0 : cX6_stuck.data.toList.drop 0 = dktX6_stuck_0 := by decide +kernel
theorem dksX6_stuck_1 : cX6_stuck.data.toList.drop 23 = dktX6_stuck_1 := dk_seg dksX6_stuck_0 23 rfl rfl
theorem dksX6_stuck_2 : cX6_stuck.data.toList.drop 46 = dktX6_stuck_2 := dk_seg dksX6_stuck_1 23 rfl rfl
theorem dX6_stuck_0 : decode cX6_stuck 0 = .ok (.iconst 0, 1) := dk_3 (dk_at dksX6_stuck_0 0 rfl rfl)
theorem dX6_stuck_1 : decode cX6_stuck 1 = .ok (.istore_n 1, 1) := dk_60 (dk_at dksX6_stuck_0 1 rfl rfl)
theorem dX6_stuck_2 : decode cX6_stuck 2 = .ok (.iconst 0, 1) := dk_3 (dk_at dksX6_stuck_0 2 rfl rfl)
theorem dX6_stuck_3 : decode cX6_stuck 3 = .ok (.istore_n 2, 1) := dk_61 (dk_at dksX6_stuck_0 3 rfl rfl)
theorem dX6_stuck_4 : decode cX6_stuck 4 = .ok (.iload_n 2, 1) := dk_28 (dk_at dksX6_stuck_0 4 rfl rfl)
theorem dX6_stuck_5 : decode cX6_stuck 5 = .ok (.aload_n 0, 1) := dk_42 (dk_at dksX6_stuck_0 5 rfl rfl)
theorem dX6_stuck_6 : decode cX6_stuck 6 = .ok (.getfield 128, 3) := dk_180 0 128 (dk_at dksX6_stuck_0 6 rfl rfl)
theorem dX6_stuck_9 : decode cX6_stuck 9 = .ok (.if_icmp .ge 43, 3) := dk_162 0 43 (dk_at dksX6_stuck_0 9 rfl rfl)
theorem dX6_stuck_12 : decode cX6_stuck 12 = .ok (.iload_n 1, 1) := dk_27 (dk_at dksX6_stuck_0 12 rfl rfl)
theorem dX6_stuck_13 : decode cX6_stuck 13 = .ok (.aload_n 0, 1) := dk_42 (dk_at dksX6_stuck_0 13 rfl rfl)
theorem dX6_stuck_14 : decode cX6_stuck 14 = .ok (.aload_n 0, 1) := dk_42 (dk_at dksX6_stuck_0 14 rfl rfl)
theorem dX6_stuck_15 : decode cX6_stuck 15 = .ok (.getfield 27, 3) := dk_180 0 27 (dk_at dksX6_stuck_0 15 rfl rfl)
theorem dX6_stuck_18 : decode cX6_stuck 18 = .ok (.iload_n 2, 1) := dk_28 (dk_at dksX6_stuck_0 18 rfl rfl)
theorem dX6_stuck_19 : decode cX6_stuck 19 = .ok (.iaload, 1) := dk_46 (dk_at dksX6_stuck_0 19 rfl rfl)
theorem dX6_stuck_20 : decode cX6_stuck 20 = .ok (.invokevirtual 152, 3) := dk_182 0 152 (dk_at dksX6_stuck_0 20 rfl rfl)
theorem dX6_stuck_23 : decode cX6_stuck 23 = .ok (.ifCond .ne 20, 3) := dk_154 0 20 (dk_at dksX6_stuck_1 0 rfl rfl)
theorem dX6_stuck_26 : decode cX6_stuck 26 = .ok (.aload_n 0, 1) := dk_42 (dk_at dksX6_stuck_1 3 rfl rfl)
theorem dX6_stuck_27 : decode cX6_stuck 27 = .ok (.aload_n 0, 1) := dk_42 (dk_at dksX6_stuck_1 4 rfl rfl)
theorem dX6_stuck_28 : decode cX6_stuck 28 = .ok (.getfield 27, 3) := dk_180 0 27 (dk_at dksX6_stuck_1 5 rfl rfl)
theorem dX6_stuck_31 : decode cX6_stuck 31 = .ok (.iload_n 2, 1) := dk_28 (dk_at dksX6_stuck_1 8 rfl rfl)
theorem dX6_stuck_32 : decode cX6_stuck 32 = .ok (.iaload, 1) := dk_46 (dk_at dksX6_stuck_1 9 rfl rfl)
theorem dX6_stuck_33 : decode cX6_stuck 33 = .ok (.invokevirtual 139, 3) := dk_182 0 139 (dk_at dksX6_stuck_1 10 rfl rfl)
theorem dX6_stuck_36 : decode cX6_stuck 36 = .ok (.ifCond .ne 7, 3) := dk_154 0 7 (dk_at dksX6_stuck_1 13 rfl rfl)
theorem dX6_stuck_39 : decode cX6_stuck 39 = .ok (.iconst 1, 1) := dk_4 (dk_at dksX6_stuck_1 16 rfl rfl)
theorem dX6_stuck_40 : decode cX6_stuck 40 = .ok (.goto 4, 3) := dk_167 0 4 (dk_at dksX6_stuck_1 17 rfl rfl)
theorem dX6_stuck_43 : decode cX6_stuck 43 = .ok (.iconst 0, 1) := dk_3 (dk_at dksX6_stuck_1 20 rfl rfl)
theorem dX6_stuck_44 : decode cX6_stuck 44 = .ok (.iadd, 1) := dk_96 (dk_at dksX6_stuck_1 21 rfl rfl)
theorem dX6_stuck_45 : decode cX6_stuck 45 = .ok (.istore_n 1, 1) := dk_60 (dk_at dksX6_stuck_1 22 rfl rfl)
theorem dX6_stuck_46 : decode cX6_stuck 46 = .ok (.iinc 2 1, 3) := dk_132 2 1 (dk_at dksX6_stuck_2 0 rfl rfl)
theorem dX6_stuck_49 : decode cX6_stuck 49 = .ok (.goto (-45), 3) := dk_167 255 211 (dk_at dksX6_stuck_2 3 rfl rfl)
theorem dX6_stuck_52 : decode cX6_stuck 52 = .ok (.iload_n 1, 1) := dk_27 (dk_at dksX6_stuck_2 6 rfl rfl)
theorem dX6_stuck_53 : decode cX6_stuck 53 = .ok (.ireturn, 1) := dk_172 (dk_at dksX6_stuck_2 7 rfl rfl)
abbrev cX6_first : ByteArray := prog_16_method_50_code
def yX6_first : MethodName := ⟨RX6, "first", "(I)I"⟩
def dkwX6_first_4 : List UInt8 := [29, 126, 54, 4, 167, 255, 198, 16, 250, 172]
abbrev dktX6_first_4 : List UInt8 := dkwX6_first_4 ++ []
def dkwX6_first_3 : List UInt8 := [21, 4, 182, 0, 145, 46, 42, 180, 0, 36, 28, 46, 4, 100, 160, 0, 6, 21, 4, 172, 21, 4, 29, 100]
abbrev dktX6_first_3 : List UInt8 := dkwX6_first_3 ++ dktX6_first_4
def dkwX6_first_2 : List UInt8 := [180, 0, 36, 28, 46, 158, 0, 50, 27, 21, 4, 29, 184, 0, 142, 153, 0, 29, 42, 180, 0, 36, 42, 28]
abbrev dktX6_first_2 : List UInt8 := dkwX6_first_2 ++ dktX6_first_3
def dkwX6_first_1 : List UInt8 := [3, 182, 0, 171, 42, 28, 182, 0, 139, 62, 29, 116, 29, 126, 54, 4, 21, 4, 153, 0, 59, 42]
abbrev dktX6_first_1 : List UInt8 := dkwX6_first_1 ++ dktX6_first_2
def dkwX6_first_0 : List UInt8 := [27, 184, 0, 168, 154, 0, 6, 16, 254, 172, 42, 182, 0, 83, 61, 28, 154, 0, 6, 16, 253, 172, 42, 27]
abbrev dktX6_first_0 : List UInt8 := dkwX6_first_0 ++ dktX6_first_1
theorem dksX6_first_0 : cX6_first.data.toList.drop 0 = dktX6_first_0 := by decide +kernel
theorem dksX6_first_1 : cX6_first.data.toList.drop 24 = dktX6_first_1 := dk_seg dksX6_first_0 24 rfl rfl
theorem dksX6_first_2 : cX6_first.data.toList.drop 46 = dktX6_first_2 := dk_seg dksX6_first_1 22 rfl rfl
theorem dksX6_first_3 : cX6_first.data.toList.drop 70 = dktX6_first_3 := dk_seg dksX6_first_2 24 rfl rfl
theorem dksX6_first_4 : cX6_first.data.toList.drop 94 = dktX6_first_4 := dk_seg dksX6_first_3 24 rfl rfl
theorem dX6_first_0 : decode cX6_first 0 = .ok (.iload_n 1, 1) := dk_27 (dk_at dksX6_first_0 0 rfl rfl)
theorem dX6_first_1 : decode cX6_first 1 = .ok (.invokestatic 168, 3) := dk_184 0 168 (dk_at dksX6_first_0 1 rfl rfl)
theorem dX6_first_4 : decode cX6_first 4 = .ok (.ifCond .ne 6, 3) := dk_154 0 6 (dk_at dksX6_first_0 4 rfl rfl)
theorem dX6_first_7 : decode cX6_first 7 = .ok (.bipush (-2), 2) := dk_16 254 (dk_at dksX6_first_0 7 rfl rfl)
theorem dX6_first_9 : decode cX6_first 9 = .ok (.ireturn, 1) := dk_172 (dk_at dksX6_first_0 9 rfl rfl)
theorem dX6_first_10 : decode cX6_first 10 = .ok (.aload_n 0, 1) := dk_42 (dk_at dksX6_first_0 10 rfl rfl)
theorem dX6_first_11 : decode cX6_first 11 = .ok (.invokevirtual 83, 3) := dk_182 0 83 (dk_at dksX6_first_0 11 rfl rfl)
theorem dX6_first_14 : decode cX6_first 14 = .ok (.istore_n 2, 1) := dk_61 (dk_at dksX6_first_0 14 rfl rfl)
theorem dX6_first_15 : decode cX6_first 15 = .ok (.iload_n 2, 1) := dk_28 (dk_at dksX6_first_0 15 rfl rfl)
theorem dX6_first_16 : decode cX6_first 16 = .ok (.ifCond .ne 6, 3) := dk_154 0 6 (dk_at dksX6_first_0 16 rfl rfl)
theorem dX6_first_19 : decode cX6_first 19 = .ok (.bipush (-3), 2) := dk_16 253 (dk_at dksX6_first_0 19 rfl rfl)
theorem dX6_first_21 : decode cX6_first 21 = .ok (.ireturn, 1) := dk_172 (dk_at dksX6_first_0 21 rfl rfl)
theorem dX6_first_22 : decode cX6_first 22 = .ok (.aload_n 0, 1) := dk_42 (dk_at dksX6_first_0 22 rfl rfl)
theorem dX6_first_23 : decode cX6_first 23 = .ok (.iload_n 1, 1) := dk_27 (dk_at dksX6_first_0 23 rfl rfl)
theorem dX6_first_24 : decode cX6_first 24 = .ok (.iconst 0, 1) := dk_3 (dk_at dksX6_first_1 0 rfl rfl)
theorem dX6_first_25 : decode cX6_first 25 = .ok (.invokevirtual 171, 3) := dk_182 0 171 (dk_at dksX6_first_1 1 rfl rfl)
theorem dX6_first_28 : decode cX6_first 28 = .ok (.aload_n 0, 1) := dk_42 (dk_at dksX6_first_1 4 rfl rfl)
theorem dX6_first_29 : decode cX6_first 29 = .ok (.iload_n 2, 1) := dk_28 (dk_at dksX6_first_1 5 rfl rfl)
theorem dX6_first_30 : decode cX6_first 30 = .ok (.invokevirtual 139, 3) := dk_182 0 139 (dk_at dksX6_first_1 6 rfl rfl)
theorem dX6_first_33 : decode cX6_first 33 = .ok (.istore_n 3, 1) := dk_62 (dk_at dksX6_first_1 9 rfl rfl)
theorem dX6_first_34 : decode cX6_first 34 = .ok (.iload_n 3, 1) := dk_29 (dk_at dksX6_first_1 10 rfl rfl)
theorem dX6_first_35 : decode cX6_first 35 = .ok (.ineg, 1) := dk_116 (dk_at dksX6_first_1 11 rfl rfl)
theorem dX6_first_36 : decode cX6_first 36 = .ok (.iload_n 3, 1) := dk_29 (dk_at dksX6_first_1 12 rfl rfl)
theorem dX6_first_37 : decode cX6_first 37 = .ok (.iand, 1) := dk_126 (dk_at dksX6_first_1 13 rfl rfl)
theorem dX6_first_38 : decode cX6_first 38 = .ok (.istore 4, 2) := dk_54 4 (dk_at dksX6_first_1 14 rfl rfl)
theorem dX6_first_40 : decode cX6_first 40 = .ok (.iload 4, 2) := dk_21 4 (dk_at dksX6_first_1 16 rfl rfl)
theorem dX6_first_42 : decode cX6_first 42 = .ok (.ifCond .eq 59, 3) := dk_153 0 59 (dk_at dksX6_first_1 18 rfl rfl)
theorem dX6_first_45 : decode cX6_first 45 = .ok (.aload_n 0, 1) := dk_42 (dk_at dksX6_first_1 21 rfl rfl)
theorem dX6_first_46 : decode cX6_first 46 = .ok (.getfield 36, 3) := dk_180 0 36 (dk_at dksX6_first_2 0 rfl rfl)
theorem dX6_first_49 : decode cX6_first 49 = .ok (.iload_n 2, 1) := dk_28 (dk_at dksX6_first_2 3 rfl rfl)
theorem dX6_first_50 : decode cX6_first 50 = .ok (.iaload, 1) := dk_46 (dk_at dksX6_first_2 4 rfl rfl)
theorem dX6_first_51 : decode cX6_first 51 = .ok (.ifCond .le 50, 3) := dk_158 0 50 (dk_at dksX6_first_2 5 rfl rfl)
theorem dX6_first_54 : decode cX6_first 54 = .ok (.iload_n 1, 1) := dk_27 (dk_at dksX6_first_2 8 rfl rfl)
theorem dX6_first_55 : decode cX6_first 55 = .ok (.iload 4, 2) := dk_21 4 (dk_at dksX6_first_2 9 rfl rfl)
theorem dX6_first_57 : decode cX6_first 57 = .ok (.iload_n 3, 1) := dk_29 (dk_at dksX6_first_2 11 rfl rfl)
theorem dX6_first_58 : decode cX6_first 58 = .ok (.invokestatic 142, 3) := dk_184 0 142 (dk_at dksX6_first_2 12 rfl rfl)
theorem dX6_first_61 : decode cX6_first 61 = .ok (.ifCond .eq 29, 3) := dk_153 0 29 (dk_at dksX6_first_2 15 rfl rfl)
theorem dX6_first_64 : decode cX6_first 64 = .ok (.aload_n 0, 1) := dk_42 (dk_at dksX6_first_2 18 rfl rfl)
theorem dX6_first_65 : decode cX6_first 65 = .ok (.getfield 36, 3) := dk_180 0 36 (dk_at dksX6_first_2 19 rfl rfl)
theorem dX6_first_68 : decode cX6_first 68 = .ok (.aload_n 0, 1) := dk_42 (dk_at dksX6_first_2 22 rfl rfl)
theorem dX6_first_69 : decode cX6_first 69 = .ok (.iload_n 2, 1) := dk_28 (dk_at dksX6_first_2 23 rfl rfl)
theorem dX6_first_70 : decode cX6_first 70 = .ok (.iload 4, 2) := dk_21 4 (dk_at dksX6_first_3 0 rfl rfl)
theorem dX6_first_72 : decode cX6_first 72 = .ok (.invokevirtual 145, 3) := dk_182 0 145 (dk_at dksX6_first_3 2 rfl rfl)
theorem dX6_first_75 : decode cX6_first 75 = .ok (.iaload, 1) := dk_46 (dk_at dksX6_first_3 5 rfl rfl)
theorem dX6_first_76 : decode cX6_first 76 = .ok (.aload_n 0, 1) := dk_42 (dk_at dksX6_first_3 6 rfl rfl)
theorem dX6_first_77 : decode cX6_first 77 = .ok (.getfield 36, 3) := dk_180 0 36 (dk_at dksX6_first_3 7 rfl rfl)
theorem dX6_first_80 : decode cX6_first 80 = .ok (.iload_n 2, 1) := dk_28 (dk_at dksX6_first_3 10 rfl rfl)
theorem dX6_first_81 : decode cX6_first 81 = .ok (.iaload, 1) := dk_46 (dk_at dksX6_first_3 11 rfl rfl)
theorem dX6_first_82 : decode cX6_first 82 = .ok (.iconst 1, 1) := dk_4 (dk_at dksX6_first_3 12 rfl rfl)
theorem dX6_first_83 : decode cX6_first 83 = .ok (.isub, 1) := dk_100 (dk_at dksX6_first_3 13 rfl rfl)
theorem dX6_first_84 : decode cX6_first 84 = .ok (.if_icmp .ne 6, 3) := dk_160 0 6 (dk_at dksX6_first_3 14 rfl rfl)
theorem dX6_first_87 : decode cX6_first 87 = .ok (.iload 4, 2) := dk_21 4 (dk_at dksX6_first_3 17 rfl rfl)
theorem dX6_first_89 : decode cX6_first 89 = .ok (.ireturn, 1) := dk_172 (dk_at dksX6_first_3 19 rfl rfl)
theorem dX6_first_90 : decode cX6_first 90 = .ok (.iload 4, 2) := dk_21 4 (dk_at dksX6_first_3 20 rfl rfl)
theorem dX6_first_92 : decode cX6_first 92 = .ok (.iload_n 3, 1) := dk_29 (dk_at dksX6_first_3 22 rfl rfl)
theorem dX6_first_93 : decode cX6_first 93 = .ok (.isub, 1) := dk_100 (dk_at dksX6_first_3 23 rfl rfl)
theorem dX6_first_94 : decode cX6_first 94 = .ok (.iload_n 3, 1) := dk_29 (dk_at dksX6_first_4 0 rfl rfl)
theorem dX6_first_95 : decode cX6_first 95 = .ok (.iand, 1) := dk_126 (dk_at dksX6_first_4 1 rfl rfl)
theorem dX6_first_96 : decode cX6_first 96 = .ok (.istore 4, 2) := dk_54 4 (dk_at dksX6_first_4 2 rfl rfl)
theorem dX6_first_98 : decode cX6_first 98 = .ok (.goto (-58), 3) := dk_167 255 198 (dk_at dksX6_first_4 4 rfl rfl)
theorem dX6_first_101 : decode cX6_first 101 = .ok (.bipush (-6), 2) := dk_16 250 (dk_at dksX6_first_4 7 rfl rfl)
theorem dX6_first_103 : decode cX6_first 103 = .ok (.ireturn, 1) := dk_172 (dk_at dksX6_first_4 9 rfl rfl)
abbrev cX6_blind : ByteArray := prog_16_method_51_code
def yX6_blind : MethodName := ⟨RX6, "blind", "(I)I"⟩
def dkwX6_blind_1 : List UInt8 := [4, 182, 0, 171, 42, 28, 182, 0, 175, 172]
abbrev dktX6_blind_1 : List UInt8 := dkwX6_blind_1 ++ []
def dkwX6_blind_0 : List UInt8 := [27, 184, 0, 168, 154, 0, 6, 16, 254, 172, 42, 182, 0, 83, 61, 28, 154, 0, 6, 16, 253, 172, 42, 27]
abbrev dktX6_blind_0 : List UInt8 := dkwX6_blind_0 ++ dktX6_blind_1
theorem dksX6_blind_0 : cX6_blind.data.toList.drop 0 = dktX6_blind_0 := by decide +kernel
theorem dksX6_blind_1 : cX6_blind.data.toList.drop 24 = dktX6_blind_1 := dk_seg dksX6_blind_0 24 rfl rfl
theorem dX6_blind_0 : decode cX6_blind 0 = .ok (.iload_n 1, 1) := dk_27 (dk_at dksX6_blind_0 0 rfl rfl)
theorem dX6_blind_1 : decode cX6_blind 1 = .ok (.invokestatic 168, 3) := dk_184 0 168 (dk_at dksX6_blind_0 1 rfl rfl)
theorem dX6_blind_4 : decode cX6_blind 4 = .ok (.ifCond .ne 6, 3) := dk_154 0 6 (dk_at dksX6_blind_0 4 rfl rfl)
theorem dX6_blind_7 : decode cX6_blind 7 = .ok (.bipush (-2), 2) := dk_16 254 (dk_at dksX6_blind_0 7 rfl rfl)
theorem dX6_blind_9 : decode cX6_blind 9 = .ok (.ireturn, 1) := dk_172 (dk_at dksX6_blind_0 9 rfl rfl)
theorem dX6_blind_10 : decode cX6_blind 10 = .ok (.aload_n 0, 1) := dk_42 (dk_at dksX6_blind_0 10 rfl rfl)
theorem dX6_blind_11 : decode cX6_blind 11 = .ok (.invokevirtual 83, 3) := dk_182 0 83 (dk_at dksX6_blind_0 11 rfl rfl)
theorem dX6_blind_14 : decode cX6_blind 14 = .ok (.istore_n 2, 1) := dk_61 (dk_at dksX6_blind_0 14 rfl rfl)
theorem dX6_blind_15 : decode cX6_blind 15 = .ok (.iload_n 2, 1) := dk_28 (dk_at dksX6_blind_0 15 rfl rfl)
theorem dX6_blind_16 : decode cX6_blind 16 = .ok (.ifCond .ne 6, 3) := dk_154 0 6 (dk_at dksX6_blind_0 16 rfl rfl)
theorem dX6_blind_19 : decode cX6_blind 19 = .ok (.bipush (-3), 2) := dk_16 253 (dk_at dksX6_blind_0 19 rfl rfl)
theorem dX6_blind_21 : decode cX6_blind 21 = .ok (.ireturn, 1) := dk_172 (dk_at dksX6_blind_0 21 rfl rfl)
theorem dX6_blind_22 : decode cX6_blind 22 = .ok (.aload_n 0, 1) := dk_42 (dk_at dksX6_blind_0 22 rfl rfl)
theorem dX6_blind_23 : decode cX6_blind 23 = .ok (.iload_n 1, 1) := dk_27 (dk_at dksX6_blind_0 23 rfl rfl)
theorem dX6_blind_24 : decode cX6_blind 24 = .ok (.iconst 1, 1) := dk_4 (dk_at dksX6_blind_1 0 rfl rfl)
theorem dX6_blind_25 : decode cX6_blind 25 = .ok (.invokevirtual 171, 3) := dk_182 0 171 (dk_at dksX6_blind_1 1 rfl rfl)
theorem dX6_blind_28 : decode cX6_blind 28 = .ok (.aload_n 0, 1) := dk_42 (dk_at dksX6_blind_1 4 rfl rfl)
theorem dX6_blind_29 : decode cX6_blind 29 = .ok (.iload_n 2, 1) := dk_28 (dk_at dksX6_blind_1 5 rfl rfl)
theorem dX6_blind_30 : decode cX6_blind 30 = .ok (.invokevirtual 175, 3) := dk_182 0 175 (dk_at dksX6_blind_1 6 rfl rfl)
theorem dX6_blind_33 : decode cX6_blind 33 = .ok (.ireturn, 1) := dk_172 (dk_at dksX6_blind_1 9 rfl rfl)
abbrev cX6_used : ByteArray := prog_16_method_52_code
def yX6_used : MethodName := ⟨RX6, "used", "(I)I"⟩
def dkwX6_used_1 : List UInt8 := [182, 0, 171, 42, 180, 0, 136, 172]
abbrev dktX6_used_1 : List UInt8 := dkwX6_used_1 ++ []
def dkwX6_used_0 : List UInt8 := [27, 184, 0, 168, 154, 0, 6, 16, 254, 172, 42, 182, 0, 83, 154, 0, 6, 16, 253, 172, 42, 27, 3]
abbrev dktX6_used_0 : List UInt8 := dkwX6_used_0 ++ dktX6_used_1
theorem dksX6_used_0 : cX6_used.data.toList.drop 0 = dktX6_used_0 := by decide +kernel
theorem dksX6_used_1 : cX6_used.data.toList.drop 23 = dktX6_used_1 := dk_seg dksX6_used_0 23 rfl rfl
theorem dX6_used_0 : decode cX6_used 0 = .ok (.iload_n 1, 1) := dk_27 (dk_at dksX6_used_0 0 rfl rfl)
theorem dX6_used_1 : decode cX6_used 1 = .ok (.invokestatic 168, 3) := dk_184 0 168 (dk_at dksX6_used_0 1 rfl rfl)
theorem dX6_used_4 : decode cX6_used 4 = .ok (.ifCond .ne 6, 3) := dk_154 0 6 (dk_at dksX6_used_0 4 rfl rfl)
theorem dX6_used_7 : decode cX6_used 7 = .ok (.bipush (-2), 2) := dk_16 254 (dk_at dksX6_used_0 7 rfl rfl)
theorem dX6_used_9 : decode cX6_used 9 = .ok (.ireturn, 1) := dk_172 (dk_at dksX6_used_0 9 rfl rfl)
theorem dX6_used_10 : decode cX6_used 10 = .ok (.aload_n 0, 1) := dk_42 (dk_at dksX6_used_0 10 rfl rfl)
theorem dX6_used_11 : decode cX6_used 11 = .ok (.invokevirtual 83, 3) := dk_182 0 83 (dk_at dksX6_used_0 11 rfl rfl)
theorem dX6_used_14 : decode cX6_used 14 = .ok (.ifCond .ne 6, 3) := dk_154 0 6 (dk_at dksX6_used_0 14 rfl rfl)
theorem dX6_used_17 : decode cX6_used 17 = .ok (.bipush (-3), 2) := dk_16 253 (dk_at dksX6_used_0 17 rfl rfl)
theorem dX6_used_19 : decode cX6_used 19 = .ok (.ireturn, 1) := dk_172 (dk_at dksX6_used_0 19 rfl rfl)
theorem dX6_used_20 : decode cX6_used 20 = .ok (.aload_n 0, 1) := dk_42 (dk_at dksX6_used_0 20 rfl rfl)
theorem dX6_used_21 : decode cX6_used 21 = .ok (.iload_n 1, 1) := dk_27 (dk_at dksX6_used_0 21 rfl rfl)
theorem dX6_used_22 : decode cX6_used 22 = .ok (.iconst 0, 1) := dk_3 (dk_at dksX6_used_0 22 rfl rfl)
theorem dX6_used_23 : decode cX6_used 23 = .ok (.invokevirtual 171, 3) := dk_182 0 171 (dk_at dksX6_used_1 0 rfl rfl)
theorem dX6_used_26 : decode cX6_used 26 = .ok (.aload_n 0, 1) := dk_42 (dk_at dksX6_used_1 3 rfl rfl)
theorem dX6_used_27 : decode cX6_used 27 = .ok (.getfield 136, 3) := dk_180 0 136 (dk_at dksX6_used_1 4 rfl rfl)
theorem dX6_used_30 : decode cX6_used 30 = .ok (.ireturn, 1) := dk_172 (dk_at dksX6_used_1 7 rfl rfl)
abbrev cX6_all : ByteArray := prog_16_method_53_code
def yX6_all : MethodName := ⟨RX6, "all", "(III)I"⟩
def dkwX6_all_6 : List UInt8 := [21, 4, 172]
abbrev dktX6_all_6 : List UInt8 := dkwX6_all_6 ++ []
def dkwX6_all_5 : List UInt8 := [182, 0, 181, 182, 0, 175, 29, 160, 0, 7, 4, 167, 0, 4, 3, 96, 54, 4, 132, 5, 1, 167, 255, 209]
abbrev dktX6_all_5 : List UInt8 := dkwX6_all_5 ++ dktX6_all_6
def dkwX6_all_4 : List UInt8 := [182, 0, 45, 120, 162, 0, 42, 21, 4, 21, 5, 184, 0, 68, 27, 160, 0, 21, 42, 42, 21, 5]
abbrev dktX6_all_4 : List UInt8 := dkwX6_all_4 ++ dktX6_all_5
def dkwX6_all_3 : List UInt8 := [182, 0, 148, 132, 4, 1, 167, 255, 223, 42, 28, 182, 0, 165, 3, 54, 4, 4, 54, 5, 21, 5, 4, 42]
abbrev dktX6_all_3 : List UInt8 := dkwX6_all_3 ++ dktX6_all_4
def dkwX6_all_2 : List UInt8 := [182, 0, 45, 120, 162, 0, 28, 21, 4, 184, 0, 68, 27, 160, 0, 13, 42, 42, 21, 4, 182, 0, 181]
abbrev dktX6_all_2 : List UInt8 := dkwX6_all_2 ++ dktX6_all_3
def dkwX6_all_1 : List UInt8 := [29, 3, 6, 184, 0, 49, 154, 0, 6, 16, 254, 172, 42, 3, 182, 0, 161, 4, 54, 4, 21, 4, 4, 42]
abbrev dktX6_all_1 : List UInt8 := dkwX6_all_1 ++ dktX6_all_2
def dkwX6_all_0 : List UInt8 := [27, 4, 8, 184, 0, 49, 153, 0, 27, 27, 42, 182, 0, 45, 163, 0, 19, 28, 184, 0, 168, 153, 0, 12]
abbrev dktX6_all_0 : List UInt8 := dkwX6_all_0 ++ dktX6_all_1
theorem dksX6_all_0 : cX6_all.data.toList.drop 0 = dktX6_all_0 := by decide +kernel
theorem dksX6_all_1 : cX6_all.data.toList.drop 24 = dktX6_all_1 := dk_seg dksX6_all_0 24 rfl rfl
theorem dksX6_all_2 : cX6_all.data.toList.drop 48 = dktX6_all_2 := dk_seg dksX6_all_1 24 rfl rfl
theorem dksX6_all_3 : cX6_all.data.toList.drop 71 = dktX6_all_3 := dk_seg dksX6_all_2 23 rfl rfl
theorem dksX6_all_4 : cX6_all.data.toList.drop 95 = dktX6_all_4 := dk_seg dksX6_all_3 24 rfl rfl
theorem dksX6_all_5 : cX6_all.data.toList.drop 117 = dktX6_all_5 := dk_seg dksX6_all_4 22 rfl rfl
theorem dksX6_all_6 : cX6_all.data.toList.drop 141 = dktX6_all_6 := dk_seg dksX6_all_5 24 rfl rfl
theorem dX6_all_0 : decode cX6_all 0 = .ok (.iload_n 1, 1) := dk_27 (dk_at dksX6_all_0 0 rfl rfl)
theorem dX6_all_1 : decode cX6_all 1 = .ok (.iconst 1, 1) := dk_4 (dk_at dksX6_all_0 1 rfl rfl)
theorem dX6_all_2 : decode cX6_all 2 = .ok (.iconst 5, 1) := dk_8 (dk_at dksX6_all_0 2 rfl rfl)
theorem dX6_all_3 : decode cX6_all 3 = .ok (.invokestatic 49, 3) := dk_184 0 49 (dk_at dksX6_all_0 3 rfl rfl)
theorem dX6_all_6 : decode cX6_all 6 = .ok (.ifCond .eq 27, 3) := dk_153 0 27 (dk_at dksX6_all_0 6 rfl rfl)
theorem dX6_all_9 : decode cX6_all 9 = .ok (.iload_n 1, 1) := dk_27 (dk_at dksX6_all_0 9 rfl rfl)
theorem dX6_all_10 : decode cX6_all 10 = .ok (.aload_n 0, 1) := dk_42 (dk_at dksX6_all_0 10 rfl rfl)
theorem dX6_all_11 : decode cX6_all 11 = .ok (.invokevirtual 45, 3) := dk_182 0 45 (dk_at dksX6_all_0 11 rfl rfl)
theorem dX6_all_14 : decode cX6_all 14 = .ok (.if_icmp .gt 19, 3) := dk_163 0 19 (dk_at dksX6_all_0 14 rfl rfl)
theorem dX6_all_17 : decode cX6_all 17 = .ok (.iload_n 2, 1) := dk_28 (dk_at dksX6_all_0 17 rfl rfl)
theorem dX6_all_18 : decode cX6_all 18 = .ok (.invokestatic 168, 3) := dk_184 0 168 (dk_at dksX6_all_0 18 rfl rfl)
theorem dX6_all_21 : decode cX6_all 21 = .ok (.ifCond .eq 12, 3) := dk_153 0 12 (dk_at dksX6_all_0 21 rfl rfl)
theorem dX6_all_24 : decode cX6_all 24 = .ok (.iload_n 3, 1) := dk_29 (dk_at dksX6_all_1 0 rfl rfl)
theorem dX6_all_25 : decode cX6_all 25 = .ok (.iconst 0, 1) := dk_3 (dk_at dksX6_all_1 1 rfl rfl)
theorem dX6_all_26 : decode cX6_all 26 = .ok (.iconst 3, 1) := dk_6 (dk_at dksX6_all_1 2 rfl rfl)
theorem dX6_all_27 : decode cX6_all 27 = .ok (.invokestatic 49, 3) := dk_184 0 49 (dk_at dksX6_all_1 3 rfl rfl)
theorem dX6_all_30 : decode cX6_all 30 = .ok (.ifCond .ne 6, 3) := dk_154 0 6 (dk_at dksX6_all_1 6 rfl rfl)
theorem dX6_all_33 : decode cX6_all 33 = .ok (.bipush (-2), 2) := dk_16 254 (dk_at dksX6_all_1 9 rfl rfl)
theorem dX6_all_35 : decode cX6_all 35 = .ok (.ireturn, 1) := dk_172 (dk_at dksX6_all_1 11 rfl rfl)
theorem dX6_all_36 : decode cX6_all 36 = .ok (.aload_n 0, 1) := dk_42 (dk_at dksX6_all_1 12 rfl rfl)
theorem dX6_all_37 : decode cX6_all 37 = .ok (.iconst 0, 1) := dk_3 (dk_at dksX6_all_1 13 rfl rfl)
theorem dX6_all_38 : decode cX6_all 38 = .ok (.invokevirtual 161, 3) := dk_182 0 161 (dk_at dksX6_all_1 14 rfl rfl)
theorem dX6_all_41 : decode cX6_all 41 = .ok (.iconst 1, 1) := dk_4 (dk_at dksX6_all_1 17 rfl rfl)
theorem dX6_all_42 : decode cX6_all 42 = .ok (.istore 4, 2) := dk_54 4 (dk_at dksX6_all_1 18 rfl rfl)
theorem dX6_all_44 : decode cX6_all 44 = .ok (.iload 4, 2) := dk_21 4 (dk_at dksX6_all_1 20 rfl rfl)
theorem dX6_all_46 : decode cX6_all 46 = .ok (.iconst 1, 1) := dk_4 (dk_at dksX6_all_1 22 rfl rfl)
theorem dX6_all_47 : decode cX6_all 47 = .ok (.aload_n 0, 1) := dk_42 (dk_at dksX6_all_1 23 rfl rfl)
theorem dX6_all_48 : decode cX6_all 48 = .ok (.invokevirtual 45, 3) := dk_182 0 45 (dk_at dksX6_all_2 0 rfl rfl)
theorem dX6_all_51 : decode cX6_all 51 = .ok (.ishl, 1) := dk_120 (dk_at dksX6_all_2 3 rfl rfl)
theorem dX6_all_52 : decode cX6_all 52 = .ok (.if_icmp .ge 28, 3) := dk_162 0 28 (dk_at dksX6_all_2 4 rfl rfl)
theorem dX6_all_55 : decode cX6_all 55 = .ok (.iload 4, 2) := dk_21 4 (dk_at dksX6_all_2 7 rfl rfl)
theorem dX6_all_57 : decode cX6_all 57 = .ok (.invokestatic 68, 3) := dk_184 0 68 (dk_at dksX6_all_2 9 rfl rfl)
theorem dX6_all_60 : decode cX6_all 60 = .ok (.iload_n 1, 1) := dk_27 (dk_at dksX6_all_2 12 rfl rfl)
theorem dX6_all_61 : decode cX6_all 61 = .ok (.if_icmp .ne 13, 3) := dk_160 0 13 (dk_at dksX6_all_2 13 rfl rfl)
theorem dX6_all_64 : decode cX6_all 64 = .ok (.aload_n 0, 1) := dk_42 (dk_at dksX6_all_2 16 rfl rfl)
theorem dX6_all_65 : decode cX6_all 65 = .ok (.aload_n 0, 1) := dk_42 (dk_at dksX6_all_2 17 rfl rfl)
theorem dX6_all_66 : decode cX6_all 66 = .ok (.iload 4, 2) := dk_21 4 (dk_at dksX6_all_2 18 rfl rfl)
theorem dX6_all_68 : decode cX6_all 68 = .ok (.invokevirtual 181, 3) := dk_182 0 181 (dk_at dksX6_all_2 20 rfl rfl)
theorem dX6_all_71 : decode cX6_all 71 = .ok (.invokevirtual 148, 3) := dk_182 0 148 (dk_at dksX6_all_3 0 rfl rfl)
theorem dX6_all_74 : decode cX6_all 74 = .ok (.iinc 4 1, 3) := dk_132 4 1 (dk_at dksX6_all_3 3 rfl rfl)
theorem dX6_all_77 : decode cX6_all 77 = .ok (.goto (-33), 3) := dk_167 255 223 (dk_at dksX6_all_3 6 rfl rfl)
theorem dX6_all_80 : decode cX6_all 80 = .ok (.aload_n 0, 1) := dk_42 (dk_at dksX6_all_3 9 rfl rfl)
theorem dX6_all_81 : decode cX6_all 81 = .ok (.iload_n 2, 1) := dk_28 (dk_at dksX6_all_3 10 rfl rfl)
theorem dX6_all_82 : decode cX6_all 82 = .ok (.invokevirtual 165, 3) := dk_182 0 165 (dk_at dksX6_all_3 11 rfl rfl)
theorem dX6_all_85 : decode cX6_all 85 = .ok (.iconst 0, 1) := dk_3 (dk_at dksX6_all_3 14 rfl rfl)
theorem dX6_all_86 : decode cX6_all 86 = .ok (.istore 4, 2) := dk_54 4 (dk_at dksX6_all_3 15 rfl rfl)
theorem dX6_all_88 : decode cX6_all 88 = .ok (.iconst 1, 1) := dk_4 (dk_at dksX6_all_3 17 rfl rfl)
theorem dX6_all_89 : decode cX6_all 89 = .ok (.istore 5, 2) := dk_54 5 (dk_at dksX6_all_3 18 rfl rfl)
theorem dX6_all_91 : decode cX6_all 91 = .ok (.iload 5, 2) := dk_21 5 (dk_at dksX6_all_3 20 rfl rfl)
theorem dX6_all_93 : decode cX6_all 93 = .ok (.iconst 1, 1) := dk_4 (dk_at dksX6_all_3 22 rfl rfl)
theorem dX6_all_94 : decode cX6_all 94 = .ok (.aload_n 0, 1) := dk_42 (dk_at dksX6_all_3 23 rfl rfl)
theorem dX6_all_95 : decode cX6_all 95 = .ok (.invokevirtual 45, 3) := dk_182 0 45 (dk_at dksX6_all_4 0 rfl rfl)
theorem dX6_all_98 : decode cX6_all 98 = .ok (.ishl, 1) := dk_120 (dk_at dksX6_all_4 3 rfl rfl)
theorem dX6_all_99 : decode cX6_all 99 = .ok (.if_icmp .ge 42, 3) := dk_162 0 42 (dk_at dksX6_all_4 4 rfl rfl)
theorem dX6_all_102 : decode cX6_all 102 = .ok (.iload 4, 2) := dk_21 4 (dk_at dksX6_all_4 7 rfl rfl)
theorem dX6_all_104 : decode cX6_all 104 = .ok (.iload 5, 2) := dk_21 5 (dk_at dksX6_all_4 9 rfl rfl)
theorem dX6_all_106 : decode cX6_all 106 = .ok (.invokestatic 68, 3) := dk_184 0 68 (dk_at dksX6_all_4 11 rfl rfl)
theorem dX6_all_109 : decode cX6_all 109 = .ok (.iload_n 1, 1) := dk_27 (dk_at dksX6_all_4 14 rfl rfl)
theorem dX6_all_110 : decode cX6_all 110 = .ok (.if_icmp .ne 21, 3) := dk_160 0 21 (dk_at dksX6_all_4 15 rfl rfl)
theorem dX6_all_113 : decode cX6_all 113 = .ok (.aload_n 0, 1) := dk_42 (dk_at dksX6_all_4 18 rfl rfl)
theorem dX6_all_114 : decode cX6_all 114 = .ok (.aload_n 0, 1) := dk_42 (dk_at dksX6_all_4 19 rfl rfl)
theorem dX6_all_115 : decode cX6_all 115 = .ok (.iload 5, 2) := dk_21 5 (dk_at dksX6_all_4 20 rfl rfl)
theorem dX6_all_117 : decode cX6_all 117 = .ok (.invokevirtual 181, 3) := dk_182 0 181 (dk_at dksX6_all_5 0 rfl rfl)
theorem dX6_all_120 : decode cX6_all 120 = .ok (.invokevirtual 175, 3) := dk_182 0 175 (dk_at dksX6_all_5 3 rfl rfl)
theorem dX6_all_123 : decode cX6_all 123 = .ok (.iload_n 3, 1) := dk_29 (dk_at dksX6_all_5 6 rfl rfl)
theorem dX6_all_124 : decode cX6_all 124 = .ok (.if_icmp .ne 7, 3) := dk_160 0 7 (dk_at dksX6_all_5 7 rfl rfl)
theorem dX6_all_127 : decode cX6_all 127 = .ok (.iconst 1, 1) := dk_4 (dk_at dksX6_all_5 10 rfl rfl)
theorem dX6_all_128 : decode cX6_all 128 = .ok (.goto 4, 3) := dk_167 0 4 (dk_at dksX6_all_5 11 rfl rfl)
theorem dX6_all_131 : decode cX6_all 131 = .ok (.iconst 0, 1) := dk_3 (dk_at dksX6_all_5 14 rfl rfl)
theorem dX6_all_132 : decode cX6_all 132 = .ok (.iadd, 1) := dk_96 (dk_at dksX6_all_5 15 rfl rfl)
theorem dX6_all_133 : decode cX6_all 133 = .ok (.istore 4, 2) := dk_54 4 (dk_at dksX6_all_5 16 rfl rfl)
theorem dX6_all_135 : decode cX6_all 135 = .ok (.iinc 5 1, 3) := dk_132 5 1 (dk_at dksX6_all_5 18 rfl rfl)
theorem dX6_all_138 : decode cX6_all 138 = .ok (.goto (-47), 3) := dk_167 255 209 (dk_at dksX6_all_5 21 rfl rfl)
theorem dX6_all_141 : decode cX6_all 141 = .ok (.iload 4, 2) := dk_21 4 (dk_at dksX6_all_6 0 rfl rfl)
theorem dX6_all_143 : decode cX6_all 143 = .ok (.ireturn, 1) := dk_172 (dk_at dksX6_all_6 2 rfl rfl)
abbrev cX6_singles : ByteArray := prog_16_method_54_code
def yX6_singles : MethodName := ⟨RX6, "singles", "(I)I"⟩
def dkwX6_singles_1 : List UInt8 := [180, 0, 20, 29, 46, 167, 0, 4, 3, 96, 61, 132, 3, 1, 167, 255, 224, 28, 172]
abbrev dktX6_singles_1 : List UInt8 := dkwX6_singles_1 ++ []
def dkwX6_singles_0 : List UInt8 := [3, 61, 3, 62, 29, 42, 182, 0, 45, 162, 0, 30, 28, 27, 29, 184, 0, 92, 153, 0, 12, 42]
abbrev dktX6_singles_0 : List UInt8 := dkwX6_singles_0 ++ dktX6_singles_1
theorem dksX6_singles_0 : cX6_singles.data.toList.drop 0 = dktX6_singles_0 := by decide +kernel
theorem dksX6_singles_1 : cX6_singles.data.toList.drop 22 = dktX6_singles_1 := dk_seg dksX6_singles_0 22 rfl rfl
theorem dX6_singles_0 : decode cX6_singles 0 = .ok (.iconst 0, 1) := dk_3 (dk_at dksX6_singles_0 0 rfl rfl)
theorem dX6_singles_1 : decode cX6_singles 1 = .ok (.istore_n 2, 1) := dk_61 (dk_at dksX6_singles_0 1 rfl rfl)
theorem dX6_singles_2 : decode cX6_singles 2 = .ok (.iconst 0, 1) := dk_3 (dk_at dksX6_singles_0 2 rfl rfl)
theorem dX6_singles_3 : decode cX6_singles 3 = .ok (.istore_n 3, 1) := dk_62 (dk_at dksX6_singles_0 3 rfl rfl)
theorem dX6_singles_4 : decode cX6_singles 4 = .ok (.iload_n 3, 1) := dk_29 (dk_at dksX6_singles_0 4 rfl rfl)
theorem dX6_singles_5 : decode cX6_singles 5 = .ok (.aload_n 0, 1) := dk_42 (dk_at dksX6_singles_0 5 rfl rfl)
theorem dX6_singles_6 : decode cX6_singles 6 = .ok (.invokevirtual 45, 3) := dk_182 0 45 (dk_at dksX6_singles_0 6 rfl rfl)
theorem dX6_singles_9 : decode cX6_singles 9 = .ok (.if_icmp .ge 30, 3) := dk_162 0 30 (dk_at dksX6_singles_0 9 rfl rfl)
theorem dX6_singles_12 : decode cX6_singles 12 = .ok (.iload_n 2, 1) := dk_28 (dk_at dksX6_singles_0 12 rfl rfl)
theorem dX6_singles_13 : decode cX6_singles 13 = .ok (.iload_n 1, 1) := dk_27 (dk_at dksX6_singles_0 13 rfl rfl)
theorem dX6_singles_14 : decode cX6_singles 14 = .ok (.iload_n 3, 1) := dk_29 (dk_at dksX6_singles_0 14 rfl rfl)
theorem dX6_singles_15 : decode cX6_singles 15 = .ok (.invokestatic 92, 3) := dk_184 0 92 (dk_at dksX6_singles_0 15 rfl rfl)
theorem dX6_singles_18 : decode cX6_singles 18 = .ok (.ifCond .eq 12, 3) := dk_153 0 12 (dk_at dksX6_singles_0 18 rfl rfl)
theorem dX6_singles_21 : decode cX6_singles 21 = .ok (.aload_n 0, 1) := dk_42 (dk_at dksX6_singles_0 21 rfl rfl)
theorem dX6_singles_22 : decode cX6_singles 22 = .ok (.getfield 20, 3) := dk_180 0 20 (dk_at dksX6_singles_1 0 rfl rfl)
theorem dX6_singles_25 : decode cX6_singles 25 = .ok (.iload_n 3, 1) := dk_29 (dk_at dksX6_singles_1 3 rfl rfl)
theorem dX6_singles_26 : decode cX6_singles 26 = .ok (.iaload, 1) := dk_46 (dk_at dksX6_singles_1 4 rfl rfl)
theorem dX6_singles_27 : decode cX6_singles 27 = .ok (.goto 4, 3) := dk_167 0 4 (dk_at dksX6_singles_1 5 rfl rfl)
theorem dX6_singles_30 : decode cX6_singles 30 = .ok (.iconst 0, 1) := dk_3 (dk_at dksX6_singles_1 8 rfl rfl)
theorem dX6_singles_31 : decode cX6_singles 31 = .ok (.iadd, 1) := dk_96 (dk_at dksX6_singles_1 9 rfl rfl)
theorem dX6_singles_32 : decode cX6_singles 32 = .ok (.istore_n 2, 1) := dk_61 (dk_at dksX6_singles_1 10 rfl rfl)
theorem dX6_singles_33 : decode cX6_singles 33 = .ok (.iinc 3 1, 3) := dk_132 3 1 (dk_at dksX6_singles_1 11 rfl rfl)
theorem dX6_singles_36 : decode cX6_singles 36 = .ok (.goto (-32), 3) := dk_167 255 224 (dk_at dksX6_singles_1 14 rfl rfl)
theorem dX6_singles_39 : decode cX6_singles 39 = .ok (.iload_n 2, 1) := dk_28 (dk_at dksX6_singles_1 17 rfl rfl)
theorem dX6_singles_40 : decode cX6_singles 40 = .ok (.ireturn, 1) := dk_172 (dk_at dksX6_singles_1 18 rfl rfl)
abbrev cX6_image : ByteArray := prog_16_method_55_code
def yX6_image : MethodName := ⟨RX6, "image", "(I)I"⟩
def dkwX6_image_2 : List UInt8 := [4, 84, 4, 172]
abbrev dktX6_image_2 : List UInt8 := dkwX6_image_2 ++ []
def dkwX6_image_1 : List UInt8 := [16, 72, 27, 104, 28, 96, 42, 180, 0, 7, 28, 46, 79, 132, 2, 1, 167, 255, 230, 42, 180, 0, 16, 27]
abbrev dktX6_image_1 : List UInt8 := dkwX6_image_1 ++ dktX6_image_2
def dkwX6_image_0 : List UInt8 := [27, 3, 4, 184, 0, 49, 154, 0, 6, 16, 254, 172, 3, 61, 28, 16, 72, 162, 0, 26, 42, 180, 0, 13]
abbrev dktX6_image_0 : List UInt8 := dkwX6_image_0 ++ dktX6_image_1
theorem dksX6_image_0 : cX6_image.data.toList.drop 0 = dktX6_image_0 := by decide +kernel
theorem dksX6_image_1 : cX6_image.data.toList.drop 24 = dktX6_image_1 := dk_seg dksX6_image_0 24 rfl rfl
theorem dksX6_image_2 : cX6_image.data.toList.drop 48 = dktX6_image_2 := dk_seg dksX6_image_1 24 rfl rfl
theorem dX6_image_0 : decode cX6_image 0 = .ok (.iload_n 1, 1) := dk_27 (dk_at dksX6_image_0 0 rfl rfl)
theorem dX6_image_1 : decode cX6_image 1 = .ok (.iconst 0, 1) := dk_3 (dk_at dksX6_image_0 1 rfl rfl)
theorem dX6_image_2 : decode cX6_image 2 = .ok (.iconst 1, 1) := dk_4 (dk_at dksX6_image_0 2 rfl rfl)
theorem dX6_image_3 : decode cX6_image 3 = .ok (.invokestatic 49, 3) := dk_184 0 49 (dk_at dksX6_image_0 3 rfl rfl)
theorem dX6_image_6 : decode cX6_image 6 = .ok (.ifCond .ne 6, 3) := dk_154 0 6 (dk_at dksX6_image_0 6 rfl rfl)
theorem dX6_image_9 : decode cX6_image 9 = .ok (.bipush (-2), 2) := dk_16 254 (dk_at dksX6_image_0 9 rfl rfl)
theorem dX6_image_11 : decode cX6_image 11 = .ok (.ireturn, 1) := dk_172 (dk_at dksX6_image_0 11 rfl rfl)
theorem dX6_image_12 : decode cX6_image 12 = .ok (.iconst 0, 1) := dk_3 (dk_at dksX6_image_0 12 rfl rfl)
theorem dX6_image_13 : decode cX6_image 13 = .ok (.istore_n 2, 1) := dk_61 (dk_at dksX6_image_0 13 rfl rfl)
theorem dX6_image_14 : decode cX6_image 14 = .ok (.iload_n 2, 1) := dk_28 (dk_at dksX6_image_0 14 rfl rfl)
theorem dX6_image_15 : decode cX6_image 15 = .ok (.bipush 72, 2) := dk_16 72 (dk_at dksX6_image_0 15 rfl rfl)
theorem dX6_image_17 : decode cX6_image 17 = .ok (.if_icmp .ge 26, 3) := dk_162 0 26 (dk_at dksX6_image_0 17 rfl rfl)
theorem dX6_image_20 : decode cX6_image 20 = .ok (.aload_n 0, 1) := dk_42 (dk_at dksX6_image_0 20 rfl rfl)
theorem dX6_image_21 : decode cX6_image 21 = .ok (.getfield 13, 3) := dk_180 0 13 (dk_at dksX6_image_0 21 rfl rfl)
theorem dX6_image_24 : decode cX6_image 24 = .ok (.bipush 72, 2) := dk_16 72 (dk_at dksX6_image_1 0 rfl rfl)
theorem dX6_image_26 : decode cX6_image 26 = .ok (.iload_n 1, 1) := dk_27 (dk_at dksX6_image_1 2 rfl rfl)
theorem dX6_image_27 : decode cX6_image 27 = .ok (.imul, 1) := dk_104 (dk_at dksX6_image_1 3 rfl rfl)
theorem dX6_image_28 : decode cX6_image 28 = .ok (.iload_n 2, 1) := dk_28 (dk_at dksX6_image_1 4 rfl rfl)
theorem dX6_image_29 : decode cX6_image 29 = .ok (.iadd, 1) := dk_96 (dk_at dksX6_image_1 5 rfl rfl)
theorem dX6_image_30 : decode cX6_image 30 = .ok (.aload_n 0, 1) := dk_42 (dk_at dksX6_image_1 6 rfl rfl)
theorem dX6_image_31 : decode cX6_image 31 = .ok (.getfield 7, 3) := dk_180 0 7 (dk_at dksX6_image_1 7 rfl rfl)
theorem dX6_image_34 : decode cX6_image 34 = .ok (.iload_n 2, 1) := dk_28 (dk_at dksX6_image_1 10 rfl rfl)
theorem dX6_image_35 : decode cX6_image 35 = .ok (.iaload, 1) := dk_46 (dk_at dksX6_image_1 11 rfl rfl)
theorem dX6_image_36 : decode cX6_image 36 = .ok (.iastore, 1) := dk_79 (dk_at dksX6_image_1 12 rfl rfl)
theorem dX6_image_37 : decode cX6_image 37 = .ok (.iinc 2 1, 3) := dk_132 2 1 (dk_at dksX6_image_1 13 rfl rfl)
theorem dX6_image_40 : decode cX6_image 40 = .ok (.goto (-26), 3) := dk_167 255 230 (dk_at dksX6_image_1 16 rfl rfl)
theorem dX6_image_43 : decode cX6_image 43 = .ok (.aload_n 0, 1) := dk_42 (dk_at dksX6_image_1 19 rfl rfl)
theorem dX6_image_44 : decode cX6_image 44 = .ok (.getfield 16, 3) := dk_180 0 16 (dk_at dksX6_image_1 20 rfl rfl)
theorem dX6_image_47 : decode cX6_image 47 = .ok (.iload_n 1, 1) := dk_27 (dk_at dksX6_image_1 23 rfl rfl)
theorem dX6_image_48 : decode cX6_image 48 = .ok (.iconst 1, 1) := dk_4 (dk_at dksX6_image_2 0 rfl rfl)
theorem dX6_image_49 : decode cX6_image 49 = .ok (.bastore, 1) := dk_84 (dk_at dksX6_image_2 1 rfl rfl)
theorem dX6_image_50 : decode cX6_image 50 = .ok (.iconst 1, 1) := dk_4 (dk_at dksX6_image_2 2 rfl rfl)
theorem dX6_image_51 : decode cX6_image 51 = .ok (.ireturn, 1) := dk_172 (dk_at dksX6_image_2 3 rfl rfl)
abbrev cX6_restore : ByteArray := prog_16_method_56_code
def yX6_restore : MethodName := ⟨RX6, "restore", "(I)I"⟩
def dkwX6_restore_2 : List UInt8 := [79, 132, 2, 1, 167, 255, 230, 4, 172]
abbrev dktX6_restore_2 : List UInt8 := dkwX6_restore_2 ++ []
def dkwX6_restore_1 : List UInt8 := [3, 61, 28, 16, 72, 162, 0, 26, 42, 180, 0, 7, 28, 42, 180, 0, 13, 16, 72, 27, 104, 28, 96, 46]
abbrev dktX6_restore_1 : List UInt8 := dkwX6_restore_1 ++ dktX6_restore_2
def dkwX6_restore_0 : List UInt8 := [27, 3, 4, 184, 0, 49, 154, 0, 6, 16, 254, 172, 42, 180, 0, 16, 27, 51, 154, 0, 6, 16, 253, 172]
abbrev dktX6_restore_0 : List UInt8 := dkwX6_restore_0 ++ dktX6_restore_1
theorem dksX6_restore_0 : cX6_restore.data.toList.drop 0 = dktX6_restore_0 := by decide +kernel
theorem dksX6_restore_1 : cX6_restore.data.toList.drop 24 = dktX6_restore_1 := dk_seg dksX6_restore_0 24 rfl rfl
theorem dksX6_restore_2 : cX6_restore.data.toList.drop 48 = dktX6_restore_2 := dk_seg dksX6_restore_1 24 rfl rfl
theorem dX6_restore_0 : decode cX6_restore 0 = .ok (.iload_n 1, 1) := dk_27 (dk_at dksX6_restore_0 0 rfl rfl)
theorem dX6_restore_1 : decode cX6_restore 1 = .ok (.iconst 0, 1) := dk_3 (dk_at dksX6_restore_0 1 rfl rfl)
theorem dX6_restore_2 : decode cX6_restore 2 = .ok (.iconst 1, 1) := dk_4 (dk_at dksX6_restore_0 2 rfl rfl)
theorem dX6_restore_3 : decode cX6_restore 3 = .ok (.invokestatic 49, 3) := dk_184 0 49 (dk_at dksX6_restore_0 3 rfl rfl)
theorem dX6_restore_6 : decode cX6_restore 6 = .ok (.ifCond .ne 6, 3) := dk_154 0 6 (dk_at dksX6_restore_0 6 rfl rfl)
theorem dX6_restore_9 : decode cX6_restore 9 = .ok (.bipush (-2), 2) := dk_16 254 (dk_at dksX6_restore_0 9 rfl rfl)
theorem dX6_restore_11 : decode cX6_restore 11 = .ok (.ireturn, 1) := dk_172 (dk_at dksX6_restore_0 11 rfl rfl)
theorem dX6_restore_12 : decode cX6_restore 12 = .ok (.aload_n 0, 1) := dk_42 (dk_at dksX6_restore_0 12 rfl rfl)
theorem dX6_restore_13 : decode cX6_restore 13 = .ok (.getfield 16, 3) := dk_180 0 16 (dk_at dksX6_restore_0 13 rfl rfl)
theorem dX6_restore_16 : decode cX6_restore 16 = .ok (.iload_n 1, 1) := dk_27 (dk_at dksX6_restore_0 16 rfl rfl)
theorem dX6_restore_17 : decode cX6_restore 17 = .ok (.baload, 1) := dk_51 (dk_at dksX6_restore_0 17 rfl rfl)
theorem dX6_restore_18 : decode cX6_restore 18 = .ok (.ifCond .ne 6, 3) := dk_154 0 6 (dk_at dksX6_restore_0 18 rfl rfl)
theorem dX6_restore_21 : decode cX6_restore 21 = .ok (.bipush (-3), 2) := dk_16 253 (dk_at dksX6_restore_0 21 rfl rfl)
theorem dX6_restore_23 : decode cX6_restore 23 = .ok (.ireturn, 1) := dk_172 (dk_at dksX6_restore_0 23 rfl rfl)
theorem dX6_restore_24 : decode cX6_restore 24 = .ok (.iconst 0, 1) := dk_3 (dk_at dksX6_restore_1 0 rfl rfl)
theorem dX6_restore_25 : decode cX6_restore 25 = .ok (.istore_n 2, 1) := dk_61 (dk_at dksX6_restore_1 1 rfl rfl)
theorem dX6_restore_26 : decode cX6_restore 26 = .ok (.iload_n 2, 1) := dk_28 (dk_at dksX6_restore_1 2 rfl rfl)
theorem dX6_restore_27 : decode cX6_restore 27 = .ok (.bipush 72, 2) := dk_16 72 (dk_at dksX6_restore_1 3 rfl rfl)
theorem dX6_restore_29 : decode cX6_restore 29 = .ok (.if_icmp .ge 26, 3) := dk_162 0 26 (dk_at dksX6_restore_1 5 rfl rfl)
theorem dX6_restore_32 : decode cX6_restore 32 = .ok (.aload_n 0, 1) := dk_42 (dk_at dksX6_restore_1 8 rfl rfl)
theorem dX6_restore_33 : decode cX6_restore 33 = .ok (.getfield 7, 3) := dk_180 0 7 (dk_at dksX6_restore_1 9 rfl rfl)
theorem dX6_restore_36 : decode cX6_restore 36 = .ok (.iload_n 2, 1) := dk_28 (dk_at dksX6_restore_1 12 rfl rfl)
theorem dX6_restore_37 : decode cX6_restore 37 = .ok (.aload_n 0, 1) := dk_42 (dk_at dksX6_restore_1 13 rfl rfl)
theorem dX6_restore_38 : decode cX6_restore 38 = .ok (.getfield 13, 3) := dk_180 0 13 (dk_at dksX6_restore_1 14 rfl rfl)
theorem dX6_restore_41 : decode cX6_restore 41 = .ok (.bipush 72, 2) := dk_16 72 (dk_at dksX6_restore_1 17 rfl rfl)
theorem dX6_restore_43 : decode cX6_restore 43 = .ok (.iload_n 1, 1) := dk_27 (dk_at dksX6_restore_1 19 rfl rfl)
theorem dX6_restore_44 : decode cX6_restore 44 = .ok (.imul, 1) := dk_104 (dk_at dksX6_restore_1 20 rfl rfl)
theorem dX6_restore_45 : decode cX6_restore 45 = .ok (.iload_n 2, 1) := dk_28 (dk_at dksX6_restore_1 21 rfl rfl)
theorem dX6_restore_46 : decode cX6_restore 46 = .ok (.iadd, 1) := dk_96 (dk_at dksX6_restore_1 22 rfl rfl)
theorem dX6_restore_47 : decode cX6_restore 47 = .ok (.iaload, 1) := dk_46 (dk_at dksX6_restore_1 23 rfl rfl)
theorem dX6_restore_48 : decode cX6_restore 48 = .ok (.iastore, 1) := dk_79 (dk_at dksX6_restore_2 0 rfl rfl)
theorem dX6_restore_49 : decode cX6_restore 49 = .ok (.iinc 2 1, 3) := dk_132 2 1 (dk_at dksX6_restore_2 1 rfl rfl)
theorem dX6_restore_52 : decode cX6_restore 52 = .ok (.goto (-26), 3) := dk_167 255 230 (dk_at dksX6_restore_2 4 rfl rfl)
theorem dX6_restore_55 : decode cX6_restore 55 = .ok (.iconst 1, 1) := dk_4 (dk_at dksX6_restore_2 7 rfl rfl)
theorem dX6_restore_56 : decode cX6_restore 56 = .ok (.ireturn, 1) := dk_172 (dk_at dksX6_restore_2 8 rfl rfl)
abbrev cX6_count : ByteArray := prog_16_method_58_code
def yX6_count : MethodName := ⟨RX6, "count", "(I)I"⟩
def dkwX6_count_4 : List UInt8 := [180, 0, 16, 4, 51, 153, 0, 7, 5, 167, 0, 4, 3, 96, 172, 16, 254, 172]
abbrev dktX6_count_4 : List UInt8 := dkwX6_count_4 ++ []
def dkwX6_count_3 : List UInt8 := [42, 180, 0, 7, 16, 11, 46, 172, 42, 180, 0, 16, 3, 51, 153, 0, 7, 4, 167, 0, 4, 3, 42]
abbrev dktX6_count_3 : List UInt8 := dkwX6_count_3 ++ dktX6_count_4
def dkwX6_count_2 : List UInt8 := [42, 182, 0, 45, 172, 42, 182, 0, 57, 172, 42, 42, 182, 0, 83, 182, 0, 86, 172, 42, 182, 0, 184, 172]
abbrev dktX6_count_2 : List UInt8 := dkwX6_count_2 ++ dktX6_count_3
def dkwX6_count_1 : List UInt8 := [170, 0, 0, 0, 0, 0, 0, 102, 0, 0, 0, 0, 0, 0, 0, 5, 0, 0, 0, 40, 0, 0, 0, 45, 0, 0, 0, 50, 0, 0, 0, 59, 0, 0, 0, 64, 0, 0, 0, 72]
abbrev dktX6_count_1 : List UInt8 := dkwX6_count_1 ++ dktX6_count_2
def dkwX6_count_0 : List UInt8 := [27, 16, 10, 16, 19, 184, 0, 49, 153, 0, 15, 42, 180, 0, 7, 4, 27, 96, 16, 10, 100, 46, 172, 27]
abbrev dktX6_count_0 : List UInt8 := dkwX6_count_0 ++ dktX6_count_1
theorem dksX6_count_0 : cX6_count.data.toList.drop 0 = dktX6_count_0 := by decide +kernel
theorem dksX6_count_1 : cX6_count.data.toList.drop 24 = dktX6_count_1 := dk_seg dksX6_count_0 24 rfl rfl
theorem dksX6_count_2 : cX6_count.data.toList.drop 64 = dktX6_count_2 := dk_seg dksX6_count_1 40 rfl rfl
theorem dksX6_count_3 : cX6_count.data.toList.drop 88 = dktX6_count_3 := dk_seg dksX6_count_2 24 rfl rfl
theorem dksX6_count_4 : cX6_count.data.toList.drop 111 = dktX6_count_4 := dk_seg dksX6_count_3 23 rfl rfl
theorem dX6_count_0 : decode cX6_count 0 = .ok (.iload_n 1, 1) := dk_27 (dk_at dksX6_count_0 0 rfl rfl)
theorem dX6_count_1 : decode cX6_count 1 = .ok (.bipush 10, 2) := dk_16 10 (dk_at dksX6_count_0 1 rfl rfl)
theorem dX6_count_3 : decode cX6_count 3 = .ok (.bipush 19, 2) := dk_16 19 (dk_at dksX6_count_0 3 rfl rfl)
theorem dX6_count_5 : decode cX6_count 5 = .ok (.invokestatic 49, 3) := dk_184 0 49 (dk_at dksX6_count_0 5 rfl rfl)
theorem dX6_count_8 : decode cX6_count 8 = .ok (.ifCond .eq 15, 3) := dk_153 0 15 (dk_at dksX6_count_0 8 rfl rfl)
theorem dX6_count_11 : decode cX6_count 11 = .ok (.aload_n 0, 1) := dk_42 (dk_at dksX6_count_0 11 rfl rfl)
theorem dX6_count_12 : decode cX6_count 12 = .ok (.getfield 7, 3) := dk_180 0 7 (dk_at dksX6_count_0 12 rfl rfl)
theorem dX6_count_15 : decode cX6_count 15 = .ok (.iconst 1, 1) := dk_4 (dk_at dksX6_count_0 15 rfl rfl)
theorem dX6_count_16 : decode cX6_count 16 = .ok (.iload_n 1, 1) := dk_27 (dk_at dksX6_count_0 16 rfl rfl)
theorem dX6_count_17 : decode cX6_count 17 = .ok (.iadd, 1) := dk_96 (dk_at dksX6_count_0 17 rfl rfl)
theorem dX6_count_18 : decode cX6_count 18 = .ok (.bipush 10, 2) := dk_16 10 (dk_at dksX6_count_0 18 rfl rfl)
theorem dX6_count_20 : decode cX6_count 20 = .ok (.isub, 1) := dk_100 (dk_at dksX6_count_0 20 rfl rfl)
theorem dX6_count_21 : decode cX6_count 21 = .ok (.iaload, 1) := dk_46 (dk_at dksX6_count_0 21 rfl rfl)
theorem dX6_count_22 : decode cX6_count 22 = .ok (.ireturn, 1) := dk_172 (dk_at dksX6_count_0 22 rfl rfl)
theorem dX6_count_23 : decode cX6_count 23 = .ok (.iload_n 1, 1) := dk_27 (dk_at dksX6_count_0 23 rfl rfl)
theorem dX6_count_24 : decode cX6_count 24 = .ok (.tableswitch 102 0 5 #[40, 45, 50, 59, 64, 72], 40) := by decide +kernel
theorem dX6_count_64 : decode cX6_count 64 = .ok (.aload_n 0, 1) := dk_42 (dk_at dksX6_count_2 0 rfl rfl)
theorem dX6_count_65 : decode cX6_count 65 = .ok (.invokevirtual 45, 3) := dk_182 0 45 (dk_at dksX6_count_2 1 rfl rfl)
theorem dX6_count_68 : decode cX6_count 68 = .ok (.ireturn, 1) := dk_172 (dk_at dksX6_count_2 4 rfl rfl)
theorem dX6_count_69 : decode cX6_count 69 = .ok (.aload_n 0, 1) := dk_42 (dk_at dksX6_count_2 5 rfl rfl)
theorem dX6_count_70 : decode cX6_count 70 = .ok (.invokevirtual 57, 3) := dk_182 0 57 (dk_at dksX6_count_2 6 rfl rfl)
theorem dX6_count_73 : decode cX6_count 73 = .ok (.ireturn, 1) := dk_172 (dk_at dksX6_count_2 9 rfl rfl)
theorem dX6_count_74 : decode cX6_count 74 = .ok (.aload_n 0, 1) := dk_42 (dk_at dksX6_count_2 10 rfl rfl)
theorem dX6_count_75 : decode cX6_count 75 = .ok (.aload_n 0, 1) := dk_42 (dk_at dksX6_count_2 11 rfl rfl)
theorem dX6_count_76 : decode cX6_count 76 = .ok (.invokevirtual 83, 3) := dk_182 0 83 (dk_at dksX6_count_2 12 rfl rfl)
theorem dX6_count_79 : decode cX6_count 79 = .ok (.invokevirtual 86, 3) := dk_182 0 86 (dk_at dksX6_count_2 15 rfl rfl)
theorem dX6_count_82 : decode cX6_count 82 = .ok (.ireturn, 1) := dk_172 (dk_at dksX6_count_2 18 rfl rfl)
theorem dX6_count_83 : decode cX6_count 83 = .ok (.aload_n 0, 1) := dk_42 (dk_at dksX6_count_2 19 rfl rfl)
theorem dX6_count_84 : decode cX6_count 84 = .ok (.invokevirtual 184, 3) := dk_182 0 184 (dk_at dksX6_count_2 20 rfl rfl)
theorem dX6_count_87 : decode cX6_count 87 = .ok (.ireturn, 1) := dk_172 (dk_at dksX6_count_2 23 rfl rfl)
theorem dX6_count_88 : decode cX6_count 88 = .ok (.aload_n 0, 1) := dk_42 (dk_at dksX6_count_3 0 rfl rfl)
theorem dX6_count_89 : decode cX6_count 89 = .ok (.getfield 7, 3) := dk_180 0 7 (dk_at dksX6_count_3 1 rfl rfl)
theorem dX6_count_92 : decode cX6_count 92 = .ok (.bipush 11, 2) := dk_16 11 (dk_at dksX6_count_3 4 rfl rfl)
theorem dX6_count_94 : decode cX6_count 94 = .ok (.iaload, 1) := dk_46 (dk_at dksX6_count_3 6 rfl rfl)
theorem dX6_count_95 : decode cX6_count 95 = .ok (.ireturn, 1) := dk_172 (dk_at dksX6_count_3 7 rfl rfl)
theorem dX6_count_96 : decode cX6_count 96 = .ok (.aload_n 0, 1) := dk_42 (dk_at dksX6_count_3 8 rfl rfl)
theorem dX6_count_97 : decode cX6_count 97 = .ok (.getfield 16, 3) := dk_180 0 16 (dk_at dksX6_count_3 9 rfl rfl)
theorem dX6_count_100 : decode cX6_count 100 = .ok (.iconst 0, 1) := dk_3 (dk_at dksX6_count_3 12 rfl rfl)
theorem dX6_count_101 : decode cX6_count 101 = .ok (.baload, 1) := dk_51 (dk_at dksX6_count_3 13 rfl rfl)
theorem dX6_count_102 : decode cX6_count 102 = .ok (.ifCond .eq 7, 3) := dk_153 0 7 (dk_at dksX6_count_3 14 rfl rfl)
theorem dX6_count_105 : decode cX6_count 105 = .ok (.iconst 1, 1) := dk_4 (dk_at dksX6_count_3 17 rfl rfl)
theorem dX6_count_106 : decode cX6_count 106 = .ok (.goto 4, 3) := dk_167 0 4 (dk_at dksX6_count_3 18 rfl rfl)
theorem dX6_count_109 : decode cX6_count 109 = .ok (.iconst 0, 1) := dk_3 (dk_at dksX6_count_3 21 rfl rfl)
theorem dX6_count_110 : decode cX6_count 110 = .ok (.aload_n 0, 1) := dk_42 (dk_at dksX6_count_3 22 rfl rfl)
theorem dX6_count_111 : decode cX6_count 111 = .ok (.getfield 16, 3) := dk_180 0 16 (dk_at dksX6_count_4 0 rfl rfl)
theorem dX6_count_114 : decode cX6_count 114 = .ok (.iconst 1, 1) := dk_4 (dk_at dksX6_count_4 3 rfl rfl)
theorem dX6_count_115 : decode cX6_count 115 = .ok (.baload, 1) := dk_51 (dk_at dksX6_count_4 4 rfl rfl)
theorem dX6_count_116 : decode cX6_count 116 = .ok (.ifCond .eq 7, 3) := dk_153 0 7 (dk_at dksX6_count_4 5 rfl rfl)
theorem dX6_count_119 : decode cX6_count 119 = .ok (.iconst 2, 1) := dk_5 (dk_at dksX6_count_4 8 rfl rfl)
theorem dX6_count_120 : decode cX6_count 120 = .ok (.goto 4, 3) := dk_167 0 4 (dk_at dksX6_count_4 9 rfl rfl)
theorem dX6_count_123 : decode cX6_count 123 = .ok (.iconst 0, 1) := dk_3 (dk_at dksX6_count_4 12 rfl rfl)
theorem dX6_count_124 : decode cX6_count 124 = .ok (.iadd, 1) := dk_96 (dk_at dksX6_count_4 13 rfl rfl)
theorem dX6_count_125 : decode cX6_count 125 = .ok (.ireturn, 1) := dk_172 (dk_at dksX6_count_4 14 rfl rfl)
theorem dX6_count_126 : decode cX6_count 126 = .ok (.bipush (-2), 2) := dk_16 254 (dk_at dksX6_count_4 15 rfl rfl)
theorem dX6_count_128 : decode cX6_count 128 = .ok (.ireturn, 1) := dk_172 (dk_at dksX6_count_4 17 rfl rfl)
abbrev cX6_towers : ByteArray := prog_16_method_57_code
def yX6_towers : MethodName := ⟨RX6, "towers", "()I"⟩
def dkwX6_towers_1 : List UInt8 := [164, 0, 9, 4, 28, 120, 167, 0, 4, 3, 128, 60, 132, 2, 1, 167, 255, 223, 27, 172]
abbrev dktX6_towers_1 : List UInt8 := dkwX6_towers_1 ++ []
def dkwX6_towers_0 : List UInt8 := [3, 60, 3, 61, 28, 42, 182, 0, 45, 162, 0, 31, 27, 42, 180, 0, 7, 4, 28, 96, 46, 4]
abbrev dktX6_towers_0 : List UInt8 := dkwX6_towers_0 ++ dktX6_towers_1
theorem dksX6_towers_0 : cX6_towers.data.toList.drop 0 = dktX6_towers_0 := by decide +kernel
theorem dksX6_towers_1 : cX6_towers.data.toList.drop 22 = dktX6_towers_1 := dk_seg dksX6_towers_0 22 rfl rfl
theorem dX6_towers_0 : decode cX6_towers 0 = .ok (.iconst 0, 1) := dk_3 (dk_at dksX6_towers_0 0 rfl rfl)
theorem dX6_towers_1 : decode cX6_towers 1 = .ok (.istore_n 1, 1) := dk_60 (dk_at dksX6_towers_0 1 rfl rfl)
theorem dX6_towers_2 : decode cX6_towers 2 = .ok (.iconst 0, 1) := dk_3 (dk_at dksX6_towers_0 2 rfl rfl)
theorem dX6_towers_3 : decode cX6_towers 3 = .ok (.istore_n 2, 1) := dk_61 (dk_at dksX6_towers_0 3 rfl rfl)
theorem dX6_towers_4 : decode cX6_towers 4 = .ok (.iload_n 2, 1) := dk_28 (dk_at dksX6_towers_0 4 rfl rfl)
theorem dX6_towers_5 : decode cX6_towers 5 = .ok (.aload_n 0, 1) := dk_42 (dk_at dksX6_towers_0 5 rfl rfl)
theorem dX6_towers_6 : decode cX6_towers 6 = .ok (.invokevirtual 45, 3) := dk_182 0 45 (dk_at dksX6_towers_0 6 rfl rfl)
theorem dX6_towers_9 : decode cX6_towers 9 = .ok (.if_icmp .ge 31, 3) := dk_162 0 31 (dk_at dksX6_towers_0 9 rfl rfl)
theorem dX6_towers_12 : decode cX6_towers 12 = .ok (.iload_n 1, 1) := dk_27 (dk_at dksX6_towers_0 12 rfl rfl)
theorem dX6_towers_13 : decode cX6_towers 13 = .ok (.aload_n 0, 1) := dk_42 (dk_at dksX6_towers_0 13 rfl rfl)
theorem dX6_towers_14 : decode cX6_towers 14 = .ok (.getfield 7, 3) := dk_180 0 7 (dk_at dksX6_towers_0 14 rfl rfl)
theorem dX6_towers_17 : decode cX6_towers 17 = .ok (.iconst 1, 1) := dk_4 (dk_at dksX6_towers_0 17 rfl rfl)
theorem dX6_towers_18 : decode cX6_towers 18 = .ok (.iload_n 2, 1) := dk_28 (dk_at dksX6_towers_0 18 rfl rfl)
theorem dX6_towers_19 : decode cX6_towers 19 = .ok (.iadd, 1) := dk_96 (dk_at dksX6_towers_0 19 rfl rfl)
theorem dX6_towers_20 : decode cX6_towers 20 = .ok (.iaload, 1) := dk_46 (dk_at dksX6_towers_0 20 rfl rfl)
theorem dX6_towers_21 : decode cX6_towers 21 = .ok (.iconst 1, 1) := dk_4 (dk_at dksX6_towers_0 21 rfl rfl)
theorem dX6_towers_22 : decode cX6_towers 22 = .ok (.if_icmp .le 9, 3) := dk_164 0 9 (dk_at dksX6_towers_1 0 rfl rfl)
theorem dX6_towers_25 : decode cX6_towers 25 = .ok (.iconst 1, 1) := dk_4 (dk_at dksX6_towers_1 3 rfl rfl)
theorem dX6_towers_26 : decode cX6_towers 26 = .ok (.iload_n 2, 1) := dk_28 (dk_at dksX6_towers_1 4 rfl rfl)
theorem dX6_towers_27 : decode cX6_towers 27 = .ok (.ishl, 1) := dk_120 (dk_at dksX6_towers_1 5 rfl rfl)
theorem dX6_towers_28 : decode cX6_towers 28 = .ok (.goto 4, 3) := dk_167 0 4 (dk_at dksX6_towers_1 6 rfl rfl)
theorem dX6_towers_31 : decode cX6_towers 31 = .ok (.iconst 0, 1) := dk_3 (dk_at dksX6_towers_1 9 rfl rfl)
theorem dX6_towers_32 : decode cX6_towers 32 = .ok (.ior, 1) := dk_128 (dk_at dksX6_towers_1 10 rfl rfl)
theorem dX6_towers_33 : decode cX6_towers 33 = .ok (.istore_n 1, 1) := dk_60 (dk_at dksX6_towers_1 11 rfl rfl)
theorem dX6_towers_34 : decode cX6_towers 34 = .ok (.iinc 2 1, 3) := dk_132 2 1 (dk_at dksX6_towers_1 12 rfl rfl)
theorem dX6_towers_37 : decode cX6_towers 37 = .ok (.goto (-33), 3) := dk_167 255 223 (dk_at dksX6_towers_1 15 rfl rfl)
theorem dX6_towers_40 : decode cX6_towers 40 = .ok (.iload_n 1, 1) := dk_27 (dk_at dksX6_towers_1 18 rfl rfl)
theorem dX6_towers_41 : decode cX6_towers 41 = .ok (.ireturn, 1) := dk_172 (dk_at dksX6_towers_1 19 rfl rfl)
theorem q63 : (Jvm.Cond.initialized "RingMeetsModel") ∈ lw_all := lw_g (lw_at lw_m1 7 rfl) rfl
theorem q634 : (Jvm.Cond.instantiable "RingMeetsModel" (14 : Nat)) ∈ lw_all := lw_g (lw_at lw_m3 98 rfl) rfl
theorem q636 : (Jvm.Cond.instanceMethod ({ cls := "RingMeetsModel", name := "<init>", desc := "()V" } : Jvm.MethodName)) ∈ lw_all := lw_g (lw_at lw_m3 100 rfl) rfl
theorem q637 : (Jvm.Cond.code ({ cls := "RingMeetsModel", name := "<init>", desc := "()V" } : Jvm.MethodName) prog_16_method_1_code (2 : Nat) (Option.none : Option Jvm.ClassFile.FieldType)) ∈ lw_all := lw_g (lw_at lw_m3 101 rfl) rfl
theorem q638 : (Jvm.Cond.methodLink "RingMeetsModel" (1 : Nat) ({ cls := "java/lang/Object", name := "<init>", desc := "()V" } : Jvm.MethodName)) ∈ lw_all := lw_g (lw_at lw_m3 102 rfl) rfl
theorem q639 : (Jvm.Cond.constant "RingMeetsModel" (26 : Nat) (59049 : Int32)) ∈ lw_all := lw_g (lw_at lw_m3 103 rfl) rfl
theorem q640 : (Jvm.Cond.fieldLink "RingMeetsModel" (7 : Nat) "RingMeetsModel" "state" "[I") ∈ lw_all := lw_g (lw_at lw_m3 104 rfl) rfl
theorem q641 : (Jvm.Cond.fieldLink "RingMeetsModel" (13 : Nat) "RingMeetsModel" "images" "[I") ∈ lw_all := lw_g (lw_at lw_m3 105 rfl) rfl
theorem q642 : (Jvm.Cond.fieldLink "RingMeetsModel" (16 : Nat) "RingMeetsModel" "isKept" "[Z") ∈ lw_all := lw_g (lw_at lw_m3 106 rfl) rfl
theorem q643 : (Jvm.Cond.fieldLink "RingMeetsModel" (20 : Nat) "RingMeetsModel" "power" "[I") ∈ lw_all := lw_g (lw_at lw_m3 107 rfl) rfl
theorem q644 : (Jvm.Cond.fieldLink "RingMeetsModel" (23 : Nat) "RingMeetsModel" "next" "[I") ∈ lw_all := lw_g (lw_at lw_m3 108 rfl) rfl
theorem q645 : (Jvm.Cond.fieldLink "RingMeetsModel" (27 : Nat) "RingMeetsModel" "list" "[I") ∈ lw_all := lw_g (lw_at lw_m3 109 rfl) rfl
theorem q646 : (Jvm.Cond.fieldLink "RingMeetsModel" (128 : Nat) "RingMeetsModel" "listed" "I") ∈ lw_all := lw_g (lw_at lw_m3 110 rfl) rfl
theorem q647 : (Jvm.Cond.fieldLink "RingMeetsModel" (30 : Nat) "RingMeetsModel" "isListed" "[Z") ∈ lw_all := lw_g (lw_at lw_m3 111 rfl) rfl
theorem q648 : (Jvm.Cond.fieldLink "RingMeetsModel" (33 : Nat) "RingMeetsModel" "moves" "[I") ∈ lw_all := lw_g (lw_at lw_m3 112 rfl) rfl
theorem q649 : (Jvm.Cond.fieldLink "RingMeetsModel" (36 : Nat) "RingMeetsModel" "soon" "[I") ∈ lw_all := lw_g (lw_at lw_m3 113 rfl) rfl
theorem q650 : (Jvm.Cond.fieldLink "RingMeetsModel" (39 : Nat) "RingMeetsModel" "late" "[I") ∈ lw_all := lw_g (lw_at lw_m3 114 rfl) rfl
theorem q651 : (Jvm.Cond.fieldLink "RingMeetsModel" (136 : Nat) "RingMeetsModel" "usedRules" "I") ∈ lw_all := lw_g (lw_at lw_m3 115 rfl) rfl
theorem q652 : (Jvm.Cond.fieldLink "RingMeetsModel" (132 : Nat) "RingMeetsModel" "isBlind" "Z") ∈ lw_all := lw_g (lw_at lw_m3 116 rfl) rfl
theorem q653 : (Jvm.Cond.fieldLink "RingMeetsModel" (42 : Nat) "RingMeetsModel" "come" "[I") ∈ lw_all := lw_g (lw_at lw_m3 117 rfl) rfl
theorem q654 : (Jvm.Cond.laysFinal "RingMeetsModel" "RingMeetsModel" "state" "[I") ∈ lw_all := lw_g (lw_at lw_m3 118 rfl) rfl
theorem q655 : (Jvm.Cond.soleField "RingMeetsModel" "state") ∈ lw_all := lw_g (lw_at lw_m3 119 rfl) rfl
theorem q656 : (Jvm.Cond.laysFinal "RingMeetsModel" "RingMeetsModel" "images" "[I") ∈ lw_all := lw_g (lw_at lw_m3 120 rfl) rfl
theorem q657 : (Jvm.Cond.soleField "RingMeetsModel" "images") ∈ lw_all := lw_g (lw_at lw_m3 121 rfl) rfl
theorem q658 : (Jvm.Cond.laysFinal "RingMeetsModel" "RingMeetsModel" "isKept" "[Z") ∈ lw_all := lw_g (lw_at lw_m3 122 rfl) rfl
theorem q659 : (Jvm.Cond.soleField "RingMeetsModel" "isKept") ∈ lw_all := lw_g (lw_at lw_m3 123 rfl) rfl
theorem q660 : (Jvm.Cond.laysFinal "RingMeetsModel" "RingMeetsModel" "power" "[I") ∈ lw_all := lw_g (lw_at lw_m3 124 rfl) rfl
theorem q661 : (Jvm.Cond.soleField "RingMeetsModel" "power") ∈ lw_all := lw_g (lw_at lw_m3 125 rfl) rfl
theorem q662 : (Jvm.Cond.laysFinal "RingMeetsModel" "RingMeetsModel" "next" "[I") ∈ lw_all := lw_g (lw_at lw_m3 126 rfl) rfl
theorem q663 : (Jvm.Cond.soleField "RingMeetsModel" "next") ∈ lw_all := lw_g (lw_at lw_m3 127 rfl) rfl
theorem q664 : (Jvm.Cond.laysFinal "RingMeetsModel" "RingMeetsModel" "list" "[I") ∈ lw_all := lw_g (lw_at lw_m3 128 rfl) rfl
theorem q665 : (Jvm.Cond.soleField "RingMeetsModel" "list") ∈ lw_all := lw_g (lw_at lw_m3 129 rfl) rfl
theorem q666 : (Jvm.Cond.lays "RingMeetsModel" "RingMeetsModel" "listed" "I") ∈ lw_all := lw_g (lw_at lw_m3 130 rfl) rfl
theorem q667 : (Jvm.Cond.soleField "RingMeetsModel" "listed") ∈ lw_all := lw_g (lw_at lw_m3 131 rfl) rfl
theorem q668 : (Jvm.Cond.laysFinal "RingMeetsModel" "RingMeetsModel" "isListed" "[Z") ∈ lw_all := lw_g (lw_at lw_m3 132 rfl) rfl
theorem q669 : (Jvm.Cond.soleField "RingMeetsModel" "isListed") ∈ lw_all := lw_g (lw_at lw_m3 133 rfl) rfl
theorem q670 : (Jvm.Cond.laysFinal "RingMeetsModel" "RingMeetsModel" "moves" "[I") ∈ lw_all := lw_g (lw_at lw_m3 134 rfl) rfl
theorem q671 : (Jvm.Cond.soleField "RingMeetsModel" "moves") ∈ lw_all := lw_g (lw_at lw_m3 135 rfl) rfl
theorem q672 : (Jvm.Cond.laysFinal "RingMeetsModel" "RingMeetsModel" "soon" "[I") ∈ lw_all := lw_g (lw_at lw_m3 136 rfl) rfl
theorem q673 : (Jvm.Cond.soleField "RingMeetsModel" "soon") ∈ lw_all := lw_g (lw_at lw_m3 137 rfl) rfl
theorem q674 : (Jvm.Cond.laysFinal "RingMeetsModel" "RingMeetsModel" "late" "[I") ∈ lw_all := lw_g (lw_at lw_m3 138 rfl) rfl
theorem q675 : (Jvm.Cond.soleField "RingMeetsModel" "late") ∈ lw_all := lw_g (lw_at lw_m3 139 rfl) rfl
theorem q676 : (Jvm.Cond.lays "RingMeetsModel" "RingMeetsModel" "usedRules" "I") ∈ lw_all := lw_g (lw_at lw_m3 140 rfl) rfl
theorem q677 : (Jvm.Cond.soleField "RingMeetsModel" "usedRules") ∈ lw_all := lw_g (lw_at lw_m3 141 rfl) rfl
theorem q678 : (Jvm.Cond.lays "RingMeetsModel" "RingMeetsModel" "isBlind" "Z") ∈ lw_all := lw_g (lw_at lw_m3 142 rfl) rfl
theorem q679 : (Jvm.Cond.soleField "RingMeetsModel" "isBlind") ∈ lw_all := lw_g (lw_at lw_m3 143 rfl) rfl
theorem q680 : (Jvm.Cond.laysFinal "RingMeetsModel" "RingMeetsModel" "come" "[I") ∈ lw_all := lw_g (lw_at lw_m3 144 rfl) rfl
theorem q681 : (Jvm.Cond.soleField "RingMeetsModel" "come") ∈ lw_all := lw_g (lw_at lw_m3 145 rfl) rfl
theorem q682 : (Jvm.Cond.superclass "RingMeetsModel" "java/lang/Object") ∈ lw_all := lw_g (lw_at lw_m3 146 rfl) rfl
theorem q684 : (Jvm.Cond.instanceMethod ({ cls := "RingMeetsModel", name := "ring", desc := "(I)I" } : Jvm.MethodName)) ∈ lw_all := lw_g (lw_at lw_m3 148 rfl) rfl
theorem q685 : (Jvm.Cond.selects "RingMeetsModel" ({ cls := "RingMeetsModel", name := "ring", desc := "(I)I" } : Jvm.MethodName) ({ cls := "RingMeetsModel", name := "ring", desc := "(I)I" } : Jvm.MethodName)) ∈ lw_all := lw_g (lw_at lw_m3 149 rfl) rfl
theorem q686 : (Jvm.Cond.code ({ cls := "RingMeetsModel", name := "ring", desc := "(I)I" } : Jvm.MethodName) prog_16_method_12_code (4 : Nat) (Option.some Jvm.ClassFile.FieldType.int)) ∈ lw_all := lw_g (lw_at lw_m3 150 rfl) rfl
theorem q687 : (Jvm.Cond.methodLink "RingMeetsModel" (49 : Nat) ({ cls := "RingMeetsModel", name := "in", desc := "(III)Z" } : Jvm.MethodName)) ∈ lw_all := lw_g (lw_at lw_m3 151 rfl) rfl
theorem q688 : (Jvm.Cond.static ({ cls := "RingMeetsModel", name := "in", desc := "(III)Z" } : Jvm.MethodName)) ∈ lw_all := lw_g (lw_at lw_m3 152 rfl) rfl
theorem q689 : (Jvm.Cond.code ({ cls := "RingMeetsModel", name := "in", desc := "(III)Z" } : Jvm.MethodName) prog_16_method_2_code (3 : Nat) (Option.some Jvm.ClassFile.FieldType.boolean)) ∈ lw_all := lw_g (lw_at lw_m3 153 rfl) rfl
theorem q690 : (Jvm.Cond.methodLink "RingMeetsModel" (45 : Nat) ({ cls := "RingMeetsModel", name := "cells", desc := "()I" } : Jvm.MethodName)) ∈ lw_all := lw_g (lw_at lw_m3 154 rfl) rfl
theorem q691 : (Jvm.Cond.privateMethod ({ cls := "RingMeetsModel", name := "cells", desc := "()I" } : Jvm.MethodName)) ∈ lw_tbl := lw_at lw_m3 155 rfl
theorem q692 : (Jvm.Cond.instanceMethod ({ cls := "RingMeetsModel", name := "cells", desc := "()I" } : Jvm.MethodName)) ∈ lw_all := lw_g (lw_at lw_m3 156 rfl) rfl
theorem q693 : (Jvm.Cond.code ({ cls := "RingMeetsModel", name := "cells", desc := "()I" } : Jvm.MethodName) prog_16_method_3_code (1 : Nat) (Option.some Jvm.ClassFile.FieldType.int)) ∈ lw_all := lw_g (lw_at lw_m3 157 rfl) rfl
theorem q695 : (Jvm.Cond.instanceMethod ({ cls := "RingMeetsModel", name := "stand", desc := "(II)I" } : Jvm.MethodName)) ∈ lw_all := lw_g (lw_at lw_m3 159 rfl) rfl
theorem q696 : (Jvm.Cond.selects "RingMeetsModel" ({ cls := "RingMeetsModel", name := "stand", desc := "(II)I" } : Jvm.MethodName) ({ cls := "RingMeetsModel", name := "stand", desc := "(II)I" } : Jvm.MethodName)) ∈ lw_all := lw_g (lw_at lw_m3 160 rfl) rfl
theorem q697 : (Jvm.Cond.code ({ cls := "RingMeetsModel", name := "stand", desc := "(II)I" } : Jvm.MethodName) prog_16_method_13_code (4 : Nat) (Option.some Jvm.ClassFile.FieldType.int)) ∈ lw_all := lw_g (lw_at lw_m3 161 rfl) rfl
theorem q698 : (Jvm.Cond.methodLink "RingMeetsModel" (53 : Nat) ({ cls := "RingMeetsModel", name := "isCell", desc := "(I)Z" } : Jvm.MethodName)) ∈ lw_all := lw_g (lw_at lw_m3 162 rfl) rfl
theorem q699 : (Jvm.Cond.privateMethod ({ cls := "RingMeetsModel", name := "isCell", desc := "(I)Z" } : Jvm.MethodName)) ∈ lw_tbl := lw_at lw_m3 163 rfl
theorem q700 : (Jvm.Cond.instanceMethod ({ cls := "RingMeetsModel", name := "isCell", desc := "(I)Z" } : Jvm.MethodName)) ∈ lw_all := lw_g (lw_at lw_m3 164 rfl) rfl
theorem q701 : (Jvm.Cond.code ({ cls := "RingMeetsModel", name := "isCell", desc := "(I)Z" } : Jvm.MethodName) prog_16_method_4_code (2 : Nat) (Option.some Jvm.ClassFile.FieldType.boolean)) ∈ lw_all := lw_g (lw_at lw_m3 165 rfl) rfl
theorem q702 : (Jvm.Cond.methodLink "RingMeetsModel" (57 : Nat) ({ cls := "RingMeetsModel", name := "walkers", desc := "()I" } : Jvm.MethodName)) ∈ lw_all := lw_g (lw_at lw_m3 166 rfl) rfl
theorem q703 : (Jvm.Cond.privateMethod ({ cls := "RingMeetsModel", name := "walkers", desc := "()I" } : Jvm.MethodName)) ∈ lw_tbl := lw_at lw_m3 167 rfl
theorem q704 : (Jvm.Cond.instanceMethod ({ cls := "RingMeetsModel", name := "walkers", desc := "()I" } : Jvm.MethodName)) ∈ lw_all := lw_g (lw_at lw_m3 168 rfl) rfl
theorem q705 : (Jvm.Cond.code ({ cls := "RingMeetsModel", name := "walkers", desc := "()I" } : Jvm.MethodName) prog_16_method_8_code (3 : Nat) (Option.some Jvm.ClassFile.FieldType.int)) ∈ lw_all := lw_g (lw_at lw_m3 169 rfl) rfl
theorem q707 : (Jvm.Cond.instanceMethod ({ cls := "RingMeetsModel", name := "gap", desc := "(III)I" } : Jvm.MethodName)) ∈ lw_all := lw_g (lw_at lw_m3 171 rfl) rfl
theorem q708 : (Jvm.Cond.selects "RingMeetsModel" ({ cls := "RingMeetsModel", name := "gap", desc := "(III)I" } : Jvm.MethodName) ({ cls := "RingMeetsModel", name := "gap", desc := "(III)I" } : Jvm.MethodName)) ∈ lw_all := lw_g (lw_at lw_m3 172 rfl) rfl
theorem q709 : (Jvm.Cond.code ({ cls := "RingMeetsModel", name := "gap", desc := "(III)I" } : Jvm.MethodName) prog_16_method_19_code (7 : Nat) (Option.some Jvm.ClassFile.FieldType.int)) ∈ lw_all := lw_g (lw_at lw_m3 173 rfl) rfl
theorem q710 : (Jvm.Cond.methodLink "RingMeetsModel" (80 : Nat) ({ cls := "RingMeetsModel", name := "isStand", desc := "(I)Z" } : Jvm.MethodName)) ∈ lw_all := lw_g (lw_at lw_m3 174 rfl) rfl
theorem q711 : (Jvm.Cond.privateMethod ({ cls := "RingMeetsModel", name := "isStand", desc := "(I)Z" } : Jvm.MethodName)) ∈ lw_tbl := lw_at lw_m3 175 rfl
theorem q712 : (Jvm.Cond.instanceMethod ({ cls := "RingMeetsModel", name := "isStand", desc := "(I)Z" } : Jvm.MethodName)) ∈ lw_all := lw_g (lw_at lw_m3 176 rfl) rfl
theorem q713 : (Jvm.Cond.code ({ cls := "RingMeetsModel", name := "isStand", desc := "(I)Z" } : Jvm.MethodName) prog_16_method_5_code (2 : Nat) (Option.some Jvm.ClassFile.FieldType.boolean)) ∈ lw_all := lw_g (lw_at lw_m3 177 rfl) rfl
theorem q714 : (Jvm.Cond.methodLink "RingMeetsModel" (83 : Nat) ({ cls := "RingMeetsModel", name := "now", desc := "()I" } : Jvm.MethodName)) ∈ lw_all := lw_g (lw_at lw_m3 178 rfl) rfl
theorem q715 : (Jvm.Cond.privateMethod ({ cls := "RingMeetsModel", name := "now", desc := "()I" } : Jvm.MethodName)) ∈ lw_tbl := lw_at lw_m3 179 rfl
theorem q716 : (Jvm.Cond.instanceMethod ({ cls := "RingMeetsModel", name := "now", desc := "()I" } : Jvm.MethodName)) ∈ lw_all := lw_g (lw_at lw_m3 180 rfl) rfl
theorem q717 : (Jvm.Cond.code ({ cls := "RingMeetsModel", name := "now", desc := "()I" } : Jvm.MethodName) prog_16_method_10_code (4 : Nat) (Option.some Jvm.ClassFile.FieldType.int)) ∈ lw_all := lw_g (lw_at lw_m3 181 rfl) rfl
theorem q718 : (Jvm.Cond.methodLink "RingMeetsModel" (86 : Nat) ({ cls := "RingMeetsModel", name := "standsOf", desc := "(I)I" } : Jvm.MethodName)) ∈ lw_all := lw_g (lw_at lw_m3 182 rfl) rfl
theorem q719 : (Jvm.Cond.privateMethod ({ cls := "RingMeetsModel", name := "standsOf", desc := "(I)I" } : Jvm.MethodName)) ∈ lw_tbl := lw_at lw_m3 183 rfl
theorem q720 : (Jvm.Cond.instanceMethod ({ cls := "RingMeetsModel", name := "standsOf", desc := "(I)I" } : Jvm.MethodName)) ∈ lw_all := lw_g (lw_at lw_m3 184 rfl) rfl
theorem q721 : (Jvm.Cond.code ({ cls := "RingMeetsModel", name := "standsOf", desc := "(I)I" } : Jvm.MethodName) prog_16_method_11_code (4 : Nat) (Option.some Jvm.ClassFile.FieldType.int)) ∈ lw_all := lw_g (lw_at lw_m3 185 rfl) rfl
theorem q722 : (Jvm.Cond.methodLink "RingMeetsModel" (68 : Nat) ({ cls := "RingMeetsModel", name := "size", desc := "(I)I" } : Jvm.MethodName)) ∈ lw_all := lw_g (lw_at lw_m3 186 rfl) rfl
theorem q723 : (Jvm.Cond.static ({ cls := "RingMeetsModel", name := "size", desc := "(I)I" } : Jvm.MethodName)) ∈ lw_all := lw_g (lw_at lw_m3 187 rfl) rfl
theorem q724 : (Jvm.Cond.code ({ cls := "RingMeetsModel", name := "size", desc := "(I)I" } : Jvm.MethodName) prog_16_method_9_code (3 : Nat) (Option.some Jvm.ClassFile.FieldType.int)) ∈ lw_all := lw_g (lw_at lw_m3 188 rfl) rfl
theorem q725 : (Jvm.Cond.methodLink "RingMeetsModel" (89 : Nat) ({ cls := "RingMeetsModel", name := "viewWay", desc := "(II)I" } : Jvm.MethodName)) ∈ lw_all := lw_g (lw_at lw_m3 189 rfl) rfl
theorem q726 : (Jvm.Cond.privateMethod ({ cls := "RingMeetsModel", name := "viewWay", desc := "(II)I" } : Jvm.MethodName)) ∈ lw_tbl := lw_at lw_m3 190 rfl
theorem q727 : (Jvm.Cond.instanceMethod ({ cls := "RingMeetsModel", name := "viewWay", desc := "(II)I" } : Jvm.MethodName)) ∈ lw_all := lw_g (lw_at lw_m3 191 rfl) rfl
theorem q728 : (Jvm.Cond.code ({ cls := "RingMeetsModel", name := "viewWay", desc := "(II)I" } : Jvm.MethodName) prog_16_method_18_code (3 : Nat) (Option.some Jvm.ClassFile.FieldType.int)) ∈ lw_all := lw_g (lw_at lw_m3 192 rfl) rfl
theorem q729 : (Jvm.Cond.methodLink "RingMeetsModel" (76 : Nat) ({ cls := "RingMeetsModel", name := "held", desc := "(IIIII)I" } : Jvm.MethodName)) ∈ lw_all := lw_g (lw_at lw_m3 193 rfl) rfl
theorem q730 : (Jvm.Cond.privateMethod ({ cls := "RingMeetsModel", name := "held", desc := "(IIIII)I" } : Jvm.MethodName)) ∈ lw_tbl := lw_at lw_m3 194 rfl
theorem q731 : (Jvm.Cond.instanceMethod ({ cls := "RingMeetsModel", name := "held", desc := "(IIIII)I" } : Jvm.MethodName)) ∈ lw_all := lw_g (lw_at lw_m3 195 rfl) rfl
theorem q732 : (Jvm.Cond.code ({ cls := "RingMeetsModel", name := "held", desc := "(IIIII)I" } : Jvm.MethodName) prog_16_method_17_code (9 : Nat) (Option.some Jvm.ClassFile.FieldType.int)) ∈ lw_all := lw_g (lw_at lw_m3 196 rfl) rfl
theorem q733 : (Jvm.Cond.methodLink "RingMeetsModel" (72 : Nat) ({ cls := "RingMeetsModel", name := "gapAt", desc := "(IIII)I" } : Jvm.MethodName)) ∈ lw_all := lw_g (lw_at lw_m3 197 rfl) rfl
theorem q734 : (Jvm.Cond.privateMethod ({ cls := "RingMeetsModel", name := "gapAt", desc := "(IIII)I" } : Jvm.MethodName)) ∈ lw_tbl := lw_at lw_m3 198 rfl
theorem q735 : (Jvm.Cond.instanceMethod ({ cls := "RingMeetsModel", name := "gapAt", desc := "(IIII)I" } : Jvm.MethodName)) ∈ lw_all := lw_g (lw_at lw_m3 199 rfl) rfl
theorem q736 : (Jvm.Cond.code ({ cls := "RingMeetsModel", name := "gapAt", desc := "(IIII)I" } : Jvm.MethodName) prog_16_method_16_code (7 : Nat) (Option.some Jvm.ClassFile.FieldType.int)) ∈ lw_all := lw_g (lw_at lw_m3 200 rfl) rfl
theorem q737 : (Jvm.Cond.methodLink "RingMeetsModel" (64 : Nat) ({ cls := "RingMeetsModel", name := "far", desc := "(III)I" } : Jvm.MethodName)) ∈ lw_all := lw_g (lw_at lw_m3 201 rfl) rfl
theorem q738 : (Jvm.Cond.privateMethod ({ cls := "RingMeetsModel", name := "far", desc := "(III)I" } : Jvm.MethodName)) ∈ lw_tbl := lw_at lw_m3 202 rfl
theorem q739 : (Jvm.Cond.instanceMethod ({ cls := "RingMeetsModel", name := "far", desc := "(III)I" } : Jvm.MethodName)) ∈ lw_all := lw_g (lw_at lw_m3 203 rfl) rfl
theorem q740 : (Jvm.Cond.code ({ cls := "RingMeetsModel", name := "far", desc := "(III)I" } : Jvm.MethodName) prog_16_method_15_code (6 : Nat) (Option.some Jvm.ClassFile.FieldType.int)) ∈ lw_all := lw_g (lw_at lw_m3 204 rfl) rfl
theorem q741 : (Jvm.Cond.methodLink "RingMeetsModel" (60 : Nat) ({ cls := "RingMeetsModel", name := "beside", desc := "(II)I" } : Jvm.MethodName)) ∈ lw_all := lw_g (lw_at lw_m3 205 rfl) rfl
theorem q742 : (Jvm.Cond.privateMethod ({ cls := "RingMeetsModel", name := "beside", desc := "(II)I" } : Jvm.MethodName)) ∈ lw_tbl := lw_at lw_m3 206 rfl
theorem q743 : (Jvm.Cond.instanceMethod ({ cls := "RingMeetsModel", name := "beside", desc := "(II)I" } : Jvm.MethodName)) ∈ lw_all := lw_g (lw_at lw_m3 207 rfl) rfl
theorem q744 : (Jvm.Cond.code ({ cls := "RingMeetsModel", name := "beside", desc := "(II)I" } : Jvm.MethodName) prog_16_method_14_code (3 : Nat) (Option.some Jvm.ClassFile.FieldType.int)) ∈ lw_all := lw_g (lw_at lw_m3 208 rfl) rfl
theorem q746 : (Jvm.Cond.instanceMethod ({ cls := "RingMeetsModel", name := "shape", desc := "(I)I" } : Jvm.MethodName)) ∈ lw_all := lw_g (lw_at lw_m3 210 rfl) rfl
theorem q747 : (Jvm.Cond.selects "RingMeetsModel" ({ cls := "RingMeetsModel", name := "shape", desc := "(I)I" } : Jvm.MethodName) ({ cls := "RingMeetsModel", name := "shape", desc := "(I)I" } : Jvm.MethodName)) ∈ lw_all := lw_g (lw_at lw_m3 211 rfl) rfl
theorem q748 : (Jvm.Cond.code ({ cls := "RingMeetsModel", name := "shape", desc := "(I)I" } : Jvm.MethodName) prog_16_method_26_code (3 : Nat) (Option.some Jvm.ClassFile.FieldType.int)) ∈ lw_all := lw_g (lw_at lw_m3 212 rfl) rfl
theorem q749 : (Jvm.Cond.methodLink "RingMeetsModel" (96 : Nat) ({ cls := "RingMeetsModel", name := "isTurned", desc := "(I)Z" } : Jvm.MethodName)) ∈ lw_all := lw_g (lw_at lw_m3 213 rfl) rfl
theorem q750 : (Jvm.Cond.privateMethod ({ cls := "RingMeetsModel", name := "isTurned", desc := "(I)Z" } : Jvm.MethodName)) ∈ lw_tbl := lw_at lw_m3 214 rfl
theorem q751 : (Jvm.Cond.instanceMethod ({ cls := "RingMeetsModel", name := "isTurned", desc := "(I)Z" } : Jvm.MethodName)) ∈ lw_all := lw_g (lw_at lw_m3 215 rfl) rfl
theorem q752 : (Jvm.Cond.code ({ cls := "RingMeetsModel", name := "isTurned", desc := "(I)Z" } : Jvm.MethodName) prog_16_method_21_code (5 : Nat) (Option.some Jvm.ClassFile.FieldType.boolean)) ∈ lw_all := lw_g (lw_at lw_m3 216 rfl) rfl
theorem q753 : (Jvm.Cond.methodLink "RingMeetsModel" (92 : Nat) ({ cls := "RingMeetsModel", name := "has", desc := "(II)Z" } : Jvm.MethodName)) ∈ lw_all := lw_g (lw_at lw_m3 217 rfl) rfl
theorem q754 : (Jvm.Cond.static ({ cls := "RingMeetsModel", name := "has", desc := "(II)Z" } : Jvm.MethodName)) ∈ lw_all := lw_g (lw_at lw_m3 218 rfl) rfl
theorem q755 : (Jvm.Cond.code ({ cls := "RingMeetsModel", name := "has", desc := "(II)Z" } : Jvm.MethodName) prog_16_method_20_code (2 : Nat) (Option.some Jvm.ClassFile.FieldType.boolean)) ∈ lw_all := lw_g (lw_at lw_m3 219 rfl) rfl
theorem q756 : (Jvm.Cond.methodLink "RingMeetsModel" (99 : Nat) ({ cls := "RingMeetsModel", name := "isMirrored", desc := "(I)Z" } : Jvm.MethodName)) ∈ lw_all := lw_g (lw_at lw_m3 220 rfl) rfl
theorem q757 : (Jvm.Cond.privateMethod ({ cls := "RingMeetsModel", name := "isMirrored", desc := "(I)Z" } : Jvm.MethodName)) ∈ lw_tbl := lw_at lw_m3 221 rfl
theorem q758 : (Jvm.Cond.instanceMethod ({ cls := "RingMeetsModel", name := "isMirrored", desc := "(I)Z" } : Jvm.MethodName)) ∈ lw_all := lw_g (lw_at lw_m3 222 rfl) rfl
theorem q759 : (Jvm.Cond.code ({ cls := "RingMeetsModel", name := "isMirrored", desc := "(I)Z" } : Jvm.MethodName) prog_16_method_22_code (5 : Nat) (Option.some Jvm.ClassFile.FieldType.boolean)) ∈ lw_all := lw_g (lw_at lw_m3 223 rfl) rfl
theorem q760 : (Jvm.Cond.methodLink "RingMeetsModel" (102 : Nat) ({ cls := "RingMeetsModel", name := "even", desc := "(I)I" } : Jvm.MethodName)) ∈ lw_all := lw_g (lw_at lw_m3 224 rfl) rfl
theorem q761 : (Jvm.Cond.privateMethod ({ cls := "RingMeetsModel", name := "even", desc := "(I)I" } : Jvm.MethodName)) ∈ lw_tbl := lw_at lw_m3 225 rfl
theorem q762 : (Jvm.Cond.instanceMethod ({ cls := "RingMeetsModel", name := "even", desc := "(I)I" } : Jvm.MethodName)) ∈ lw_all := lw_g (lw_at lw_m3 226 rfl) rfl
theorem q763 : (Jvm.Cond.code ({ cls := "RingMeetsModel", name := "even", desc := "(I)I" } : Jvm.MethodName) prog_16_method_23_code (4 : Nat) (Option.some Jvm.ClassFile.FieldType.int)) ∈ lw_all := lw_g (lw_at lw_m3 227 rfl) rfl
theorem q764 : (Jvm.Cond.methodLink "RingMeetsModel" (105 : Nat) ({ cls := "RingMeetsModel", name := "views", desc := "(I)I" } : Jvm.MethodName)) ∈ lw_all := lw_g (lw_at lw_m3 228 rfl) rfl
theorem q765 : (Jvm.Cond.privateMethod ({ cls := "RingMeetsModel", name := "views", desc := "(I)I" } : Jvm.MethodName)) ∈ lw_tbl := lw_at lw_m3 229 rfl
theorem q766 : (Jvm.Cond.instanceMethod ({ cls := "RingMeetsModel", name := "views", desc := "(I)I" } : Jvm.MethodName)) ∈ lw_all := lw_g (lw_at lw_m3 230 rfl) rfl
theorem q767 : (Jvm.Cond.code ({ cls := "RingMeetsModel", name := "views", desc := "(I)I" } : Jvm.MethodName) prog_16_method_24_code (6 : Nat) (Option.some Jvm.ClassFile.FieldType.int)) ∈ lw_all := lw_g (lw_at lw_m3 231 rfl) rfl
theorem q768 : (Jvm.Cond.methodLink "RingMeetsModel" (108 : Nat) ({ cls := "RingMeetsModel", name := "turnedBy", desc := "(I)I" } : Jvm.MethodName)) ∈ lw_all := lw_g (lw_at lw_m3 232 rfl) rfl
theorem q769 : (Jvm.Cond.privateMethod ({ cls := "RingMeetsModel", name := "turnedBy", desc := "(I)I" } : Jvm.MethodName)) ∈ lw_tbl := lw_at lw_m3 233 rfl
theorem q770 : (Jvm.Cond.instanceMethod ({ cls := "RingMeetsModel", name := "turnedBy", desc := "(I)I" } : Jvm.MethodName)) ∈ lw_all := lw_g (lw_at lw_m3 234 rfl) rfl
theorem q771 : (Jvm.Cond.code ({ cls := "RingMeetsModel", name := "turnedBy", desc := "(I)I" } : Jvm.MethodName) prog_16_method_25_code (5 : Nat) (Option.some Jvm.ClassFile.FieldType.int)) ∈ lw_all := lw_g (lw_at lw_m3 235 rfl) rfl
theorem q773 : (Jvm.Cond.instanceMethod ({ cls := "RingMeetsModel", name := "rule", desc := "(IIIII)I" } : Jvm.MethodName)) ∈ lw_all := lw_g (lw_at lw_m3 237 rfl) rfl
theorem q774 : (Jvm.Cond.selects "RingMeetsModel" ({ cls := "RingMeetsModel", name := "rule", desc := "(IIIII)I" } : Jvm.MethodName) ({ cls := "RingMeetsModel", name := "rule", desc := "(IIIII)I" } : Jvm.MethodName)) ∈ lw_all := lw_g (lw_at lw_m3 238 rfl) rfl
theorem q775 : (Jvm.Cond.code ({ cls := "RingMeetsModel", name := "rule", desc := "(IIIII)I" } : Jvm.MethodName) prog_16_method_27_code (7 : Nat) (Option.some Jvm.ClassFile.FieldType.int)) ∈ lw_all := lw_g (lw_at lw_m3 239 rfl) rfl
theorem q777 : (Jvm.Cond.instanceMethod ({ cls := "RingMeetsModel", name := "whom", desc := "(II)I" } : Jvm.MethodName)) ∈ lw_all := lw_g (lw_at lw_m4 1 rfl) rfl
theorem q778 : (Jvm.Cond.selects "RingMeetsModel" ({ cls := "RingMeetsModel", name := "whom", desc := "(II)I" } : Jvm.MethodName) ({ cls := "RingMeetsModel", name := "whom", desc := "(II)I" } : Jvm.MethodName)) ∈ lw_all := lw_g (lw_at lw_m4 2 rfl) rfl
theorem q779 : (Jvm.Cond.code ({ cls := "RingMeetsModel", name := "whom", desc := "(II)I" } : Jvm.MethodName) prog_16_method_28_code (4 : Nat) (Option.some Jvm.ClassFile.FieldType.int)) ∈ lw_all := lw_g (lw_at lw_m4 3 rfl) rfl
theorem q780 : (Jvm.Cond.methodLink "RingMeetsModel" (111 : Nat) ({ cls := "RingMeetsModel", name := "isRule", desc := "(I)Z" } : Jvm.MethodName)) ∈ lw_all := lw_g (lw_at lw_m4 4 rfl) rfl
theorem q781 : (Jvm.Cond.privateMethod ({ cls := "RingMeetsModel", name := "isRule", desc := "(I)Z" } : Jvm.MethodName)) ∈ lw_tbl := lw_at lw_m4 5 rfl
theorem q782 : (Jvm.Cond.instanceMethod ({ cls := "RingMeetsModel", name := "isRule", desc := "(I)Z" } : Jvm.MethodName)) ∈ lw_all := lw_g (lw_at lw_m4 6 rfl) rfl
theorem q783 : (Jvm.Cond.code ({ cls := "RingMeetsModel", name := "isRule", desc := "(I)Z" } : Jvm.MethodName) prog_16_method_6_code (2 : Nat) (Option.some Jvm.ClassFile.FieldType.boolean)) ∈ lw_all := lw_g (lw_at lw_m4 7 rfl) rfl
theorem q785 : (Jvm.Cond.instanceMethod ({ cls := "RingMeetsModel", name := "drop", desc := "(I)I" } : Jvm.MethodName)) ∈ lw_all := lw_g (lw_at lw_m4 9 rfl) rfl
theorem q786 : (Jvm.Cond.selects "RingMeetsModel" ({ cls := "RingMeetsModel", name := "drop", desc := "(I)I" } : Jvm.MethodName) ({ cls := "RingMeetsModel", name := "drop", desc := "(I)I" } : Jvm.MethodName)) ∈ lw_all := lw_g (lw_at lw_m4 10 rfl) rfl
theorem q787 : (Jvm.Cond.code ({ cls := "RingMeetsModel", name := "drop", desc := "(I)I" } : Jvm.MethodName) prog_16_method_29_code (3 : Nat) (Option.some Jvm.ClassFile.FieldType.int)) ∈ lw_all := lw_g (lw_at lw_m4 11 rfl) rfl
theorem q789 : (Jvm.Cond.instanceMethod ({ cls := "RingMeetsModel", name := "of", desc := "(II)I" } : Jvm.MethodName)) ∈ lw_all := lw_g (lw_at lw_m4 13 rfl) rfl
theorem q790 : (Jvm.Cond.selects "RingMeetsModel" ({ cls := "RingMeetsModel", name := "of", desc := "(II)I" } : Jvm.MethodName) ({ cls := "RingMeetsModel", name := "of", desc := "(II)I" } : Jvm.MethodName)) ∈ lw_all := lw_g (lw_at lw_m4 14 rfl) rfl
theorem q791 : (Jvm.Cond.code ({ cls := "RingMeetsModel", name := "of", desc := "(II)I" } : Jvm.MethodName) prog_16_method_30_code (3 : Nat) (Option.some Jvm.ClassFile.FieldType.int)) ∈ lw_all := lw_g (lw_at lw_m4 15 rfl) rfl
theorem q793 : (Jvm.Cond.instanceMethod ({ cls := "RingMeetsModel", name := "does", desc := "(II)I" } : Jvm.MethodName)) ∈ lw_all := lw_g (lw_at lw_m4 17 rfl) rfl
theorem q794 : (Jvm.Cond.selects "RingMeetsModel" ({ cls := "RingMeetsModel", name := "does", desc := "(II)I" } : Jvm.MethodName) ({ cls := "RingMeetsModel", name := "does", desc := "(II)I" } : Jvm.MethodName)) ∈ lw_all := lw_g (lw_at lw_m4 18 rfl) rfl
theorem q795 : (Jvm.Cond.code ({ cls := "RingMeetsModel", name := "does", desc := "(II)I" } : Jvm.MethodName) prog_16_method_35_code (5 : Nat) (Option.some Jvm.ClassFile.FieldType.int)) ∈ lw_all := lw_g (lw_at lw_m4 19 rfl) rfl
theorem q796 : (Jvm.Cond.methodLink "RingMeetsModel" (118 : Nat) ({ cls := "RingMeetsModel", name := "ruleOf", desc := "(IIZ)I" } : Jvm.MethodName)) ∈ lw_all := lw_g (lw_at lw_m4 20 rfl) rfl
theorem q797 : (Jvm.Cond.privateMethod ({ cls := "RingMeetsModel", name := "ruleOf", desc := "(IIZ)I" } : Jvm.MethodName)) ∈ lw_tbl := lw_at lw_m4 21 rfl
theorem q798 : (Jvm.Cond.instanceMethod ({ cls := "RingMeetsModel", name := "ruleOf", desc := "(IIZ)I" } : Jvm.MethodName)) ∈ lw_all := lw_g (lw_at lw_m4 22 rfl) rfl
theorem q799 : (Jvm.Cond.code ({ cls := "RingMeetsModel", name := "ruleOf", desc := "(IIZ)I" } : Jvm.MethodName) prog_16_method_32_code (5 : Nat) (Option.some Jvm.ClassFile.FieldType.int)) ∈ lw_all := lw_g (lw_at lw_m4 23 rfl) rfl
theorem q800 : (Jvm.Cond.methodLink "RingMeetsModel" (114 : Nat) ({ cls := "RingMeetsModel", name := "fits", desc := "(IIIZ)Z" } : Jvm.MethodName)) ∈ lw_all := lw_g (lw_at lw_m4 24 rfl) rfl
theorem q801 : (Jvm.Cond.privateMethod ({ cls := "RingMeetsModel", name := "fits", desc := "(IIIZ)Z" } : Jvm.MethodName)) ∈ lw_tbl := lw_at lw_m4 25 rfl
theorem q802 : (Jvm.Cond.instanceMethod ({ cls := "RingMeetsModel", name := "fits", desc := "(IIIZ)Z" } : Jvm.MethodName)) ∈ lw_all := lw_g (lw_at lw_m4 26 rfl) rfl
theorem q803 : (Jvm.Cond.code ({ cls := "RingMeetsModel", name := "fits", desc := "(IIIZ)Z" } : Jvm.MethodName) prog_16_method_31_code (8 : Nat) (Option.some Jvm.ClassFile.FieldType.boolean)) ∈ lw_all := lw_g (lw_at lw_m4 27 rfl) rfl
theorem q804 : (Jvm.Cond.methodLink "RingMeetsModel" (122 : Nat) ({ cls := "RingMeetsModel", name := "doneBy", desc := "(I)I" } : Jvm.MethodName)) ∈ lw_all := lw_g (lw_at lw_m4 28 rfl) rfl
theorem q805 : (Jvm.Cond.privateMethod ({ cls := "RingMeetsModel", name := "doneBy", desc := "(I)I" } : Jvm.MethodName)) ∈ lw_tbl := lw_at lw_m4 29 rfl
theorem q806 : (Jvm.Cond.instanceMethod ({ cls := "RingMeetsModel", name := "doneBy", desc := "(I)I" } : Jvm.MethodName)) ∈ lw_all := lw_g (lw_at lw_m4 30 rfl) rfl
theorem q807 : (Jvm.Cond.code ({ cls := "RingMeetsModel", name := "doneBy", desc := "(I)I" } : Jvm.MethodName) prog_16_method_33_code (2 : Nat) (Option.some Jvm.ClassFile.FieldType.int)) ∈ lw_all := lw_g (lw_at lw_m4 31 rfl) rfl
theorem q808 : (Jvm.Cond.methodLink "RingMeetsModel" (125 : Nat) ({ cls := "RingMeetsModel", name := "behind", desc := "(III)I" } : Jvm.MethodName)) ∈ lw_all := lw_g (lw_at lw_m4 32 rfl) rfl
theorem q809 : (Jvm.Cond.privateMethod ({ cls := "RingMeetsModel", name := "behind", desc := "(III)I" } : Jvm.MethodName)) ∈ lw_tbl := lw_at lw_m4 33 rfl
theorem q810 : (Jvm.Cond.instanceMethod ({ cls := "RingMeetsModel", name := "behind", desc := "(III)I" } : Jvm.MethodName)) ∈ lw_all := lw_g (lw_at lw_m4 34 rfl) rfl
theorem q811 : (Jvm.Cond.code ({ cls := "RingMeetsModel", name := "behind", desc := "(III)I" } : Jvm.MethodName) prog_16_method_34_code (5 : Nat) (Option.some Jvm.ClassFile.FieldType.int)) ∈ lw_all := lw_g (lw_at lw_m4 35 rfl) rfl
theorem q813 : (Jvm.Cond.instanceMethod ({ cls := "RingMeetsModel", name := "step", desc := "(I)I" } : Jvm.MethodName)) ∈ lw_all := lw_g (lw_at lw_m4 37 rfl) rfl
theorem q814 : (Jvm.Cond.selects "RingMeetsModel" ({ cls := "RingMeetsModel", name := "step", desc := "(I)I" } : Jvm.MethodName) ({ cls := "RingMeetsModel", name := "step", desc := "(I)I" } : Jvm.MethodName)) ∈ lw_all := lw_g (lw_at lw_m4 38 rfl) rfl
theorem q815 : (Jvm.Cond.code ({ cls := "RingMeetsModel", name := "step", desc := "(I)I" } : Jvm.MethodName) prog_16_method_36_code (5 : Nat) (Option.some Jvm.ClassFile.FieldType.int)) ∈ lw_all := lw_g (lw_at lw_m4 39 rfl) rfl
theorem q817 : (Jvm.Cond.instanceMethod ({ cls := "RingMeetsModel", name := "meets", desc := "(II)I" } : Jvm.MethodName)) ∈ lw_all := lw_g (lw_at lw_m4 41 rfl) rfl
theorem q818 : (Jvm.Cond.selects "RingMeetsModel" ({ cls := "RingMeetsModel", name := "meets", desc := "(II)I" } : Jvm.MethodName) ({ cls := "RingMeetsModel", name := "meets", desc := "(II)I" } : Jvm.MethodName)) ∈ lw_all := lw_g (lw_at lw_m4 42 rfl) rfl
theorem q819 : (Jvm.Cond.code ({ cls := "RingMeetsModel", name := "meets", desc := "(II)I" } : Jvm.MethodName) prog_16_method_49_code (4 : Nat) (Option.some Jvm.ClassFile.FieldType.int)) ∈ lw_all := lw_g (lw_at lw_m4 43 rfl) rfl
theorem q820 : (Jvm.Cond.methodLink "RingMeetsModel" (168 : Nat) ({ cls := "RingMeetsModel", name := "isSchedule", desc := "(I)Z" } : Jvm.MethodName)) ∈ lw_all := lw_g (lw_at lw_m4 44 rfl) rfl
theorem q821 : (Jvm.Cond.static ({ cls := "RingMeetsModel", name := "isSchedule", desc := "(I)Z" } : Jvm.MethodName)) ∈ lw_all := lw_g (lw_at lw_m4 45 rfl) rfl
theorem q822 : (Jvm.Cond.code ({ cls := "RingMeetsModel", name := "isSchedule", desc := "(I)Z" } : Jvm.MethodName) prog_16_method_7_code (1 : Nat) (Option.some Jvm.ClassFile.FieldType.boolean)) ∈ lw_all := lw_g (lw_at lw_m4 46 rfl) rfl
theorem q823 : (Jvm.Cond.methodLink "RingMeetsModel" (171 : Nat) ({ cls := "RingMeetsModel", name := "layNow", desc := "(IZ)V" } : Jvm.MethodName)) ∈ lw_all := lw_g (lw_at lw_m4 47 rfl) rfl
theorem q824 : (Jvm.Cond.privateMethod ({ cls := "RingMeetsModel", name := "layNow", desc := "(IZ)V" } : Jvm.MethodName)) ∈ lw_tbl := lw_at lw_m4 48 rfl
theorem q825 : (Jvm.Cond.instanceMethod ({ cls := "RingMeetsModel", name := "layNow", desc := "(IZ)V" } : Jvm.MethodName)) ∈ lw_all := lw_g (lw_at lw_m4 49 rfl) rfl
theorem q826 : (Jvm.Cond.code ({ cls := "RingMeetsModel", name := "layNow", desc := "(IZ)V" } : Jvm.MethodName) prog_16_method_47_code (3 : Nat) (Option.none : Option Jvm.ClassFile.FieldType)) ∈ lw_all := lw_g (lw_at lw_m4 50 rfl) rfl
theorem q827 : (Jvm.Cond.methodLink "RingMeetsModel" (161 : Nat) ({ cls := "RingMeetsModel", name := "begin", desc := "(Z)V" } : Jvm.MethodName)) ∈ lw_all := lw_g (lw_at lw_m4 51 rfl) rfl
theorem q828 : (Jvm.Cond.privateMethod ({ cls := "RingMeetsModel", name := "begin", desc := "(Z)V" } : Jvm.MethodName)) ∈ lw_tbl := lw_at lw_m4 52 rfl
theorem q829 : (Jvm.Cond.instanceMethod ({ cls := "RingMeetsModel", name := "begin", desc := "(Z)V" } : Jvm.MethodName)) ∈ lw_all := lw_g (lw_at lw_m4 53 rfl) rfl
theorem q830 : (Jvm.Cond.code ({ cls := "RingMeetsModel", name := "begin", desc := "(Z)V" } : Jvm.MethodName) prog_16_method_42_code (3 : Nat) (Option.none : Option Jvm.ClassFile.FieldType)) ∈ lw_all := lw_g (lw_at lw_m4 54 rfl) rfl
theorem q831 : (Jvm.Cond.methodLink "RingMeetsModel" (148 : Nat) ({ cls := "RingMeetsModel", name := "note", desc := "(I)V" } : Jvm.MethodName)) ∈ lw_all := lw_g (lw_at lw_m4 55 rfl) rfl
theorem q832 : (Jvm.Cond.privateMethod ({ cls := "RingMeetsModel", name := "note", desc := "(I)V" } : Jvm.MethodName)) ∈ lw_tbl := lw_at lw_m4 56 rfl
theorem q833 : (Jvm.Cond.instanceMethod ({ cls := "RingMeetsModel", name := "note", desc := "(I)V" } : Jvm.MethodName)) ∈ lw_all := lw_g (lw_at lw_m4 57 rfl) rfl
theorem q834 : (Jvm.Cond.code ({ cls := "RingMeetsModel", name := "note", desc := "(I)V" } : Jvm.MethodName) prog_16_method_37_code (7 : Nat) (Option.none : Option Jvm.ClassFile.FieldType)) ∈ lw_all := lw_g (lw_at lw_m4 58 rfl) rfl
theorem q835 : (Jvm.Cond.methodLink "RingMeetsModel" (165 : Nat) ({ cls := "RingMeetsModel", name := "listAll", desc := "(I)V" } : Jvm.MethodName)) ∈ lw_all := lw_g (lw_at lw_m4 59 rfl) rfl
theorem q836 : (Jvm.Cond.privateMethod ({ cls := "RingMeetsModel", name := "listAll", desc := "(I)V" } : Jvm.MethodName)) ∈ lw_tbl := lw_at lw_m4 60 rfl
theorem q837 : (Jvm.Cond.instanceMethod ({ cls := "RingMeetsModel", name := "listAll", desc := "(I)V" } : Jvm.MethodName)) ∈ lw_all := lw_g (lw_at lw_m4 61 rfl) rfl
theorem q838 : (Jvm.Cond.code ({ cls := "RingMeetsModel", name := "listAll", desc := "(I)V" } : Jvm.MethodName) prog_16_method_43_code (6 : Nat) (Option.none : Option Jvm.ClassFile.FieldType)) ∈ lw_all := lw_g (lw_at lw_m4 62 rfl) rfl
theorem q839 : (Jvm.Cond.methodLink "RingMeetsModel" (139 : Nat) ({ cls := "RingMeetsModel", name := "movers", desc := "(I)I" } : Jvm.MethodName)) ∈ lw_all := lw_g (lw_at lw_m4 63 rfl) rfl
theorem q840 : (Jvm.Cond.privateMethod ({ cls := "RingMeetsModel", name := "movers", desc := "(I)I" } : Jvm.MethodName)) ∈ lw_tbl := lw_at lw_m4 64 rfl
theorem q841 : (Jvm.Cond.instanceMethod ({ cls := "RingMeetsModel", name := "movers", desc := "(I)I" } : Jvm.MethodName)) ∈ lw_all := lw_g (lw_at lw_m4 65 rfl) rfl
theorem q842 : (Jvm.Cond.code ({ cls := "RingMeetsModel", name := "movers", desc := "(I)I" } : Jvm.MethodName) prog_16_method_38_code (2 : Nat) (Option.some Jvm.ClassFile.FieldType.int)) ∈ lw_all := lw_g (lw_at lw_m4 66 rfl) rfl
theorem q843 : (Jvm.Cond.methodLink "RingMeetsModel" (142 : Nat) ({ cls := "RingMeetsModel", name := "mayBe", desc := "(III)Z" } : Jvm.MethodName)) ∈ lw_all := lw_g (lw_at lw_m4 67 rfl) rfl
theorem q844 : (Jvm.Cond.static ({ cls := "RingMeetsModel", name := "mayBe", desc := "(III)Z" } : Jvm.MethodName)) ∈ lw_all := lw_g (lw_at lw_m4 68 rfl) rfl
theorem q845 : (Jvm.Cond.code ({ cls := "RingMeetsModel", name := "mayBe", desc := "(III)Z" } : Jvm.MethodName) prog_16_method_40_code (3 : Nat) (Option.some Jvm.ClassFile.FieldType.boolean)) ∈ lw_all := lw_g (lw_at lw_m4 69 rfl) rfl
theorem q846 : (Jvm.Cond.methodLink "RingMeetsModel" (145 : Nat) ({ cls := "RingMeetsModel", name := "behindStep", desc := "(II)I" } : Jvm.MethodName)) ∈ lw_all := lw_g (lw_at lw_m4 70 rfl) rfl
theorem q847 : (Jvm.Cond.privateMethod ({ cls := "RingMeetsModel", name := "behindStep", desc := "(II)I" } : Jvm.MethodName)) ∈ lw_tbl := lw_at lw_m4 71 rfl
theorem q848 : (Jvm.Cond.instanceMethod ({ cls := "RingMeetsModel", name := "behindStep", desc := "(II)I" } : Jvm.MethodName)) ∈ lw_all := lw_g (lw_at lw_m4 72 rfl) rfl
theorem q849 : (Jvm.Cond.code ({ cls := "RingMeetsModel", name := "behindStep", desc := "(II)I" } : Jvm.MethodName) prog_16_method_39_code (7 : Nat) (Option.some Jvm.ClassFile.FieldType.int)) ∈ lw_all := lw_g (lw_at lw_m4 73 rfl) rfl
theorem q850 : (Jvm.Cond.methodLink "RingMeetsModel" (152 : Nat) ({ cls := "RingMeetsModel", name := "isMet", desc := "(I)Z" } : Jvm.MethodName)) ∈ lw_all := lw_g (lw_at lw_m4 74 rfl) rfl
theorem q851 : (Jvm.Cond.privateMethod ({ cls := "RingMeetsModel", name := "isMet", desc := "(I)Z" } : Jvm.MethodName)) ∈ lw_tbl := lw_at lw_m4 75 rfl
theorem q852 : (Jvm.Cond.instanceMethod ({ cls := "RingMeetsModel", name := "isMet", desc := "(I)Z" } : Jvm.MethodName)) ∈ lw_all := lw_g (lw_at lw_m4 76 rfl) rfl
theorem q853 : (Jvm.Cond.code ({ cls := "RingMeetsModel", name := "isMet", desc := "(I)Z" } : Jvm.MethodName) prog_16_method_41_code (2 : Nat) (Option.some Jvm.ClassFile.FieldType.boolean)) ∈ lw_all := lw_g (lw_at lw_m4 77 rfl) rfl
theorem q854 : (Jvm.Cond.methodLink "RingMeetsModel" (155 : Nat) ({ cls := "RingMeetsModel", name := "layRound", desc := "(II)Z" } : Jvm.MethodName)) ∈ lw_all := lw_g (lw_at lw_m4 78 rfl) rfl
theorem q855 : (Jvm.Cond.privateMethod ({ cls := "RingMeetsModel", name := "layRound", desc := "(II)Z" } : Jvm.MethodName)) ∈ lw_tbl := lw_at lw_m4 79 rfl
theorem q856 : (Jvm.Cond.instanceMethod ({ cls := "RingMeetsModel", name := "layRound", desc := "(II)Z" } : Jvm.MethodName)) ∈ lw_all := lw_g (lw_at lw_m4 80 rfl) rfl
theorem q857 : (Jvm.Cond.code ({ cls := "RingMeetsModel", name := "layRound", desc := "(II)Z" } : Jvm.MethodName) prog_16_method_44_code (6 : Nat) (Option.some Jvm.ClassFile.FieldType.boolean)) ∈ lw_all := lw_g (lw_at lw_m4 81 rfl) rfl
theorem q858 : (Jvm.Cond.methodLink "RingMeetsModel" (158 : Nat) ({ cls := "RingMeetsModel", name := "look", desc := "(III)Z" } : Jvm.MethodName)) ∈ lw_all := lw_g (lw_at lw_m4 82 rfl) rfl
theorem q859 : (Jvm.Cond.privateMethod ({ cls := "RingMeetsModel", name := "look", desc := "(III)Z" } : Jvm.MethodName)) ∈ lw_tbl := lw_at lw_m4 83 rfl
theorem q860 : (Jvm.Cond.instanceMethod ({ cls := "RingMeetsModel", name := "look", desc := "(III)Z" } : Jvm.MethodName)) ∈ lw_all := lw_g (lw_at lw_m4 84 rfl) rfl
theorem q861 : (Jvm.Cond.code ({ cls := "RingMeetsModel", name := "look", desc := "(III)Z" } : Jvm.MethodName) prog_16_method_45_code (9 : Nat) (Option.some Jvm.ClassFile.FieldType.boolean)) ∈ lw_all := lw_g (lw_at lw_m4 85 rfl) rfl
theorem q862 : (Jvm.Cond.methodLink "RingMeetsModel" (175 : Nat) ({ cls := "RingMeetsModel", name := "kindOf", desc := "(I)I" } : Jvm.MethodName)) ∈ lw_all := lw_g (lw_at lw_m4 86 rfl) rfl
theorem q863 : (Jvm.Cond.privateMethod ({ cls := "RingMeetsModel", name := "kindOf", desc := "(I)I" } : Jvm.MethodName)) ∈ lw_tbl := lw_at lw_m4 87 rfl
theorem q864 : (Jvm.Cond.instanceMethod ({ cls := "RingMeetsModel", name := "kindOf", desc := "(I)I" } : Jvm.MethodName)) ∈ lw_all := lw_g (lw_at lw_m4 88 rfl) rfl
theorem q865 : (Jvm.Cond.code ({ cls := "RingMeetsModel", name := "kindOf", desc := "(I)I" } : Jvm.MethodName) prog_16_method_46_code (2 : Nat) (Option.some Jvm.ClassFile.FieldType.int)) ∈ lw_all := lw_g (lw_at lw_m4 89 rfl) rfl
theorem q866 : (Jvm.Cond.methodLink "RingMeetsModel" (178 : Nat) ({ cls := "RingMeetsModel", name := "stuck", desc := "()I" } : Jvm.MethodName)) ∈ lw_all := lw_g (lw_at lw_m4 90 rfl) rfl
theorem q867 : (Jvm.Cond.privateMethod ({ cls := "RingMeetsModel", name := "stuck", desc := "()I" } : Jvm.MethodName)) ∈ lw_tbl := lw_at lw_m4 91 rfl
theorem q868 : (Jvm.Cond.instanceMethod ({ cls := "RingMeetsModel", name := "stuck", desc := "()I" } : Jvm.MethodName)) ∈ lw_all := lw_g (lw_at lw_m4 92 rfl) rfl
theorem q869 : (Jvm.Cond.code ({ cls := "RingMeetsModel", name := "stuck", desc := "()I" } : Jvm.MethodName) prog_16_method_48_code (3 : Nat) (Option.some Jvm.ClassFile.FieldType.int)) ∈ lw_all := lw_g (lw_at lw_m4 93 rfl) rfl
theorem q871 : (Jvm.Cond.instanceMethod ({ cls := "RingMeetsModel", name := "first", desc := "(I)I" } : Jvm.MethodName)) ∈ lw_all := lw_g (lw_at lw_m4 95 rfl) rfl
theorem q872 : (Jvm.Cond.selects "RingMeetsModel" ({ cls := "RingMeetsModel", name := "first", desc := "(I)I" } : Jvm.MethodName) ({ cls := "RingMeetsModel", name := "first", desc := "(I)I" } : Jvm.MethodName)) ∈ lw_all := lw_g (lw_at lw_m4 96 rfl) rfl
theorem q873 : (Jvm.Cond.code ({ cls := "RingMeetsModel", name := "first", desc := "(I)I" } : Jvm.MethodName) prog_16_method_50_code (5 : Nat) (Option.some Jvm.ClassFile.FieldType.int)) ∈ lw_all := lw_g (lw_at lw_m4 97 rfl) rfl
theorem q875 : (Jvm.Cond.instanceMethod ({ cls := "RingMeetsModel", name := "blind", desc := "(I)I" } : Jvm.MethodName)) ∈ lw_all := lw_g (lw_at lw_m4 99 rfl) rfl
theorem q876 : (Jvm.Cond.selects "RingMeetsModel" ({ cls := "RingMeetsModel", name := "blind", desc := "(I)I" } : Jvm.MethodName) ({ cls := "RingMeetsModel", name := "blind", desc := "(I)I" } : Jvm.MethodName)) ∈ lw_all := lw_g (lw_at lw_m4 100 rfl) rfl
theorem q877 : (Jvm.Cond.code ({ cls := "RingMeetsModel", name := "blind", desc := "(I)I" } : Jvm.MethodName) prog_16_method_51_code (3 : Nat) (Option.some Jvm.ClassFile.FieldType.int)) ∈ lw_all := lw_g (lw_at lw_m4 101 rfl) rfl
theorem q879 : (Jvm.Cond.instanceMethod ({ cls := "RingMeetsModel", name := "used", desc := "(I)I" } : Jvm.MethodName)) ∈ lw_all := lw_g (lw_at lw_m4 103 rfl) rfl
theorem q880 : (Jvm.Cond.selects "RingMeetsModel" ({ cls := "RingMeetsModel", name := "used", desc := "(I)I" } : Jvm.MethodName) ({ cls := "RingMeetsModel", name := "used", desc := "(I)I" } : Jvm.MethodName)) ∈ lw_all := lw_g (lw_at lw_m4 104 rfl) rfl
theorem q881 : (Jvm.Cond.code ({ cls := "RingMeetsModel", name := "used", desc := "(I)I" } : Jvm.MethodName) prog_16_method_52_code (2 : Nat) (Option.some Jvm.ClassFile.FieldType.int)) ∈ lw_all := lw_g (lw_at lw_m4 105 rfl) rfl
theorem q883 : (Jvm.Cond.instanceMethod ({ cls := "RingMeetsModel", name := "all", desc := "(III)I" } : Jvm.MethodName)) ∈ lw_all := lw_g (lw_at lw_m4 107 rfl) rfl
theorem q884 : (Jvm.Cond.selects "RingMeetsModel" ({ cls := "RingMeetsModel", name := "all", desc := "(III)I" } : Jvm.MethodName) ({ cls := "RingMeetsModel", name := "all", desc := "(III)I" } : Jvm.MethodName)) ∈ lw_all := lw_g (lw_at lw_m4 108 rfl) rfl
theorem q885 : (Jvm.Cond.code ({ cls := "RingMeetsModel", name := "all", desc := "(III)I" } : Jvm.MethodName) prog_16_method_53_code (6 : Nat) (Option.some Jvm.ClassFile.FieldType.int)) ∈ lw_all := lw_g (lw_at lw_m4 109 rfl) rfl
theorem q886 : (Jvm.Cond.methodLink "RingMeetsModel" (181 : Nat) ({ cls := "RingMeetsModel", name := "singles", desc := "(I)I" } : Jvm.MethodName)) ∈ lw_all := lw_g (lw_at lw_m4 110 rfl) rfl
theorem q887 : (Jvm.Cond.privateMethod ({ cls := "RingMeetsModel", name := "singles", desc := "(I)I" } : Jvm.MethodName)) ∈ lw_tbl := lw_at lw_m4 111 rfl
theorem q888 : (Jvm.Cond.instanceMethod ({ cls := "RingMeetsModel", name := "singles", desc := "(I)I" } : Jvm.MethodName)) ∈ lw_all := lw_g (lw_at lw_m4 112 rfl) rfl
theorem q889 : (Jvm.Cond.code ({ cls := "RingMeetsModel", name := "singles", desc := "(I)I" } : Jvm.MethodName) prog_16_method_54_code (4 : Nat) (Option.some Jvm.ClassFile.FieldType.int)) ∈ lw_all := lw_g (lw_at lw_m4 113 rfl) rfl
theorem q891 : (Jvm.Cond.instanceMethod ({ cls := "RingMeetsModel", name := "image", desc := "(I)I" } : Jvm.MethodName)) ∈ lw_all := lw_g (lw_at lw_m4 115 rfl) rfl
theorem q892 : (Jvm.Cond.selects "RingMeetsModel" ({ cls := "RingMeetsModel", name := "image", desc := "(I)I" } : Jvm.MethodName) ({ cls := "RingMeetsModel", name := "image", desc := "(I)I" } : Jvm.MethodName)) ∈ lw_all := lw_g (lw_at lw_m4 116 rfl) rfl
theorem q893 : (Jvm.Cond.code ({ cls := "RingMeetsModel", name := "image", desc := "(I)I" } : Jvm.MethodName) prog_16_method_55_code (3 : Nat) (Option.some Jvm.ClassFile.FieldType.int)) ∈ lw_all := lw_g (lw_at lw_m4 117 rfl) rfl
theorem q895 : (Jvm.Cond.instanceMethod ({ cls := "RingMeetsModel", name := "restore", desc := "(I)I" } : Jvm.MethodName)) ∈ lw_all := lw_g (lw_at lw_m4 119 rfl) rfl
theorem q896 : (Jvm.Cond.selects "RingMeetsModel" ({ cls := "RingMeetsModel", name := "restore", desc := "(I)I" } : Jvm.MethodName) ({ cls := "RingMeetsModel", name := "restore", desc := "(I)I" } : Jvm.MethodName)) ∈ lw_all := lw_g (lw_at lw_m4 120 rfl) rfl
theorem q897 : (Jvm.Cond.code ({ cls := "RingMeetsModel", name := "restore", desc := "(I)I" } : Jvm.MethodName) prog_16_method_56_code (3 : Nat) (Option.some Jvm.ClassFile.FieldType.int)) ∈ lw_all := lw_g (lw_at lw_m4 121 rfl) rfl
theorem q899 : (Jvm.Cond.instanceMethod ({ cls := "RingMeetsModel", name := "count", desc := "(I)I" } : Jvm.MethodName)) ∈ lw_all := lw_g (lw_at lw_m4 123 rfl) rfl
theorem q900 : (Jvm.Cond.selects "RingMeetsModel" ({ cls := "RingMeetsModel", name := "count", desc := "(I)I" } : Jvm.MethodName) ({ cls := "RingMeetsModel", name := "count", desc := "(I)I" } : Jvm.MethodName)) ∈ lw_all := lw_g (lw_at lw_m4 124 rfl) rfl
theorem q901 : (Jvm.Cond.code ({ cls := "RingMeetsModel", name := "count", desc := "(I)I" } : Jvm.MethodName) prog_16_method_58_code (2 : Nat) (Option.some Jvm.ClassFile.FieldType.int)) ∈ lw_all := lw_g (lw_at lw_m4 125 rfl) rfl
theorem q902 : (Jvm.Cond.methodLink "RingMeetsModel" (184 : Nat) ({ cls := "RingMeetsModel", name := "towers", desc := "()I" } : Jvm.MethodName)) ∈ lw_all := lw_g (lw_at lw_m4 126 rfl) rfl
theorem q903 : (Jvm.Cond.privateMethod ({ cls := "RingMeetsModel", name := "towers", desc := "()I" } : Jvm.MethodName)) ∈ lw_tbl := lw_at lw_m4 127 rfl
theorem q904 : (Jvm.Cond.instanceMethod ({ cls := "RingMeetsModel", name := "towers", desc := "()I" } : Jvm.MethodName)) ∈ lw_all := lw_g (lw_at lw_m4 128 rfl) rfl
theorem q905 : (Jvm.Cond.code ({ cls := "RingMeetsModel", name := "towers", desc := "()I" } : Jvm.MethodName) prog_16_method_57_code (3 : Nat) (Option.some Jvm.ClassFile.FieldType.int)) ∈ lw_all := lw_g (lw_at lw_m4 129 rfl) rfl
theorem in_X6 : ∀ w ∈ wsX60, w ∈ lw_all := lw_in wsX60 [654, 656, 658, 660, 662, 664, 666, 668, 670, 672, 674, 676, 678, 680] (by decide +kernel) (by decide +kernel)
