/-! RingMeets -/
set_option maxRecDepth 100000
def RX0 : String := "RingMeets"
def TX0 : u_T := fun k => match k with
  | 0 => ("RingMeets", "desk", "LRingMeets$Desk;", true)
  | 1 => ("RingMeets", "images", "[LRingMeets$Desk;", true)
  | 2 => ("RingMeets", "isKept", "[Z", true)
  | 3 => ("RingMeets", "turned", "LRingMeets$Likeness;", true)
  | 4 => ("RingMeets", "mirrored", "LRingMeets$Likeness;", true)
  | 5 => ("RingMeets", "numberOf", "[I", true)
  | 6 => ("RingMeets", "standsOf", "[I", true)
  | 7 => ("RingMeets", "towersOf", "[I", true)
  | 8 => ("RingMeets", "firstStep", "[I", true)
  | 9 => ("RingMeets", "steps", "[I", true)
  | 10 => ("RingMeets", "soon", "[I", true)
  | 11 => ("RingMeets", "late", "[I", true)
  | _ => ("RingMeets", "target", "[I", true)
def tyX0 : Nat → FieldType := fun k => match k with
  | 0 => .object "RingMeets$Desk"
  | 1 => .array (.object "RingMeets$Desk")
  | 2 => .array .boolean
  | 3 => .object "RingMeets$Likeness"
  | 4 => .object "RingMeets$Likeness"
  | 5 => .array .int
  | 6 => .array .int
  | 7 => .array .int
  | 8 => .array .int
  | 9 => .array .int
  | 10 => .array .int
  | 11 => .array .int
  | _ => .array .int
abbrev wsX00 : List Cond := u_ws RX0 TX0 13
set_option maxRecDepth 100000 in
theorem nmX0 : ∀ a, a < 13 → ∀ b, b < 13 → a ≠ b → (TX0 a).2.1 ≠ (TX0 b).2.1 := by decide +kernel
set_option maxRecDepth 100000 in
theorem tyX0_ok : ∀ k, k < 13 → parseFieldDescriptor (TX0 k).2.2.1 = some (tyX0 k) := by decide +kernel
abbrev cX0_init : ByteArray := prog_1_method_3_code
def yX0_init : MethodName := ⟨RX0, "<init>", "()V"⟩
def dkwX0_init_6 : List UInt8 := [188, 10, 181, 0, 67, 177]
abbrev dktX0_init_6 : List UInt8 := dkwX0_init_6 ++ []
def dkwX0_init_5 : List UInt8 := [181, 0, 58, 42, 17, 15, 160, 188, 10, 181, 0, 61, 42, 17, 15, 160, 188, 10, 181, 0, 64, 42, 16, 10]
abbrev dktX0_init_5 : List UInt8 := dkwX0_init_5 ++ dktX0_init_6
def dkwX0_init_4 : List UInt8 := [17, 15, 160, 188, 10, 181, 0, 51, 42, 17, 15, 161, 188, 10, 181, 0, 54, 42, 18, 57, 188, 10]
abbrev dktX0_init_4 : List UInt8 := dkwX0_init_4 ++ dktX0_init_5
def dkwX0_init_3 : List UInt8 := [183, 0, 39, 181, 0, 40, 42, 18, 43, 188, 10, 181, 0, 44, 42, 17, 15, 160, 188, 10, 181, 0, 48, 42]
abbrev dktX0_init_3 : List UInt8 := dkwX0_init_3 ++ dktX0_init_4
def dkwX0_init_2 : List UInt8 := [188, 4, 181, 0, 24, 42, 187, 0, 28, 89, 42, 183, 0, 30, 181, 0, 33, 42, 187, 0, 37, 89, 42]
abbrev dktX0_init_2 : List UInt8 := dkwX0_init_2 ++ dktX0_init_3
def dkwX0_init_1 : List UInt8 := [187, 0, 13, 89, 183, 0, 15, 83, 89, 4, 187, 0, 13, 89, 183, 0, 15, 83, 181, 0, 20, 42, 5]
abbrev dktX0_init_1 : List UInt8 := dkwX0_init_1 ++ dktX0_init_2
def dkwX0_init_0 : List UInt8 := [42, 183, 0, 7, 42, 187, 0, 13, 89, 183, 0, 15, 181, 0, 16, 42, 5, 189, 0, 13, 89, 3]
abbrev dktX0_init_0 : List UInt8 := dkwX0_init_0 ++ dktX0_init_1
theorem dksX0_init_0 : cX0_init.data.toList.drop 0 = dktX0_init_0 := by decide +kernel
theorem dksX0_init_1 : cX0_init.data.toList.drop 22 = dktX0_init_1 := dk_seg dksX0_init_0 22 rfl rfl
theorem dksX0_init_2 : cX0_init.data.toList.drop 45 = dktX0_init_2 := dk_seg dksX0_init_1 23 rfl rfl
theorem dksX0_init_3 : cX0_init.data.toList.drop 68 = dktX0_init_3 := dk_seg dksX0_init_2 23 rfl rfl
theorem dksX0_init_4 : cX0_init.data.toList.drop 92 = dktX0_init_4 := dk_seg dksX0_init_3 24 rfl rfl
theorem dksX0_init_5 : cX0_init.data.toList.drop 114 = dktX0_init_5 := dk_seg dksX0_init_4 22 rfl rfl
theorem dksX0_init_6 : cX0_init.data.toList.drop 138 = dktX0_init_6 := dk_seg dksX0_init_5 24 rfl rfl
theorem dX0_init_0 : decode cX0_init 0 = .ok (.aload_n 0, 1) := dk_42 (dk_at dksX0_init_0 0 rfl rfl)
theorem dX0_init_1 : decode cX0_init 1 = .ok (.invokespecial 7, 3) := dk_183 0 7 (dk_at dksX0_init_0 1 rfl rfl)
theorem dX0_init_4 : decode cX0_init 4 = .ok (.aload_n 0, 1) := dk_42 (dk_at dksX0_init_0 4 rfl rfl)
theorem dX0_init_5 : decode cX0_init 5 = .ok (.new 13, 3) := dk_187 0 13 (dk_at dksX0_init_0 5 rfl rfl)
theorem dX0_init_8 : decode cX0_init 8 = .ok (.dup, 1) := dk_89 (dk_at dksX0_init_0 8 rfl rfl)
theorem dX0_init_9 : decode cX0_init 9 = .ok (.invokespecial 15, 3) := dk_183 0 15 (dk_at dksX0_init_0 9 rfl rfl)
theorem dX0_init_12 : decode cX0_init 12 = .ok (.putfield 16, 3) := dk_181 0 16 (dk_at dksX0_init_0 12 rfl rfl)
theorem dX0_init_15 : decode cX0_init 15 = .ok (.aload_n 0, 1) := dk_42 (dk_at dksX0_init_0 15 rfl rfl)
theorem dX0_init_16 : decode cX0_init 16 = .ok (.iconst 2, 1) := dk_5 (dk_at dksX0_init_0 16 rfl rfl)
theorem dX0_init_17 : decode cX0_init 17 = .ok (.anewarray 13, 3) := dk_189 0 13 (dk_at dksX0_init_0 17 rfl rfl)
theorem dX0_init_20 : decode cX0_init 20 = .ok (.dup, 1) := dk_89 (dk_at dksX0_init_0 20 rfl rfl)
theorem dX0_init_21 : decode cX0_init 21 = .ok (.iconst 0, 1) := dk_3 (dk_at dksX0_init_0 21 rfl rfl)
theorem dX0_init_22 : decode cX0_init 22 = .ok (.new 13, 3) := dk_187 0 13 (dk_at dksX0_init_1 0 rfl rfl)
theorem dX0_init_25 : decode cX0_init 25 = .ok (.dup, 1) := dk_89 (dk_at dksX0_init_1 3 rfl rfl)
theorem dX0_init_26 : decode cX0_init 26 = .ok (.invokespecial 15, 3) := dk_183 0 15 (dk_at dksX0_init_1 4 rfl rfl)
theorem dX0_init_29 : decode cX0_init 29 = .ok (.aastore, 1) := dk_83 (dk_at dksX0_init_1 7 rfl rfl)
theorem dX0_init_30 : decode cX0_init 30 = .ok (.dup, 1) := dk_89 (dk_at dksX0_init_1 8 rfl rfl)
theorem dX0_init_31 : decode cX0_init 31 = .ok (.iconst 1, 1) := dk_4 (dk_at dksX0_init_1 9 rfl rfl)
theorem dX0_init_32 : decode cX0_init 32 = .ok (.new 13, 3) := dk_187 0 13 (dk_at dksX0_init_1 10 rfl rfl)
theorem dX0_init_35 : decode cX0_init 35 = .ok (.dup, 1) := dk_89 (dk_at dksX0_init_1 13 rfl rfl)
theorem dX0_init_36 : decode cX0_init 36 = .ok (.invokespecial 15, 3) := dk_183 0 15 (dk_at dksX0_init_1 14 rfl rfl)
theorem dX0_init_39 : decode cX0_init 39 = .ok (.aastore, 1) := dk_83 (dk_at dksX0_init_1 17 rfl rfl)
theorem dX0_init_40 : decode cX0_init 40 = .ok (.putfield 20, 3) := dk_181 0 20 (dk_at dksX0_init_1 18 rfl rfl)
theorem dX0_init_43 : decode cX0_init 43 = .ok (.aload_n 0, 1) := dk_42 (dk_at dksX0_init_1 21 rfl rfl)
theorem dX0_init_44 : decode cX0_init 44 = .ok (.iconst 2, 1) := dk_5 (dk_at dksX0_init_1 22 rfl rfl)
theorem dX0_init_45 : decode cX0_init 45 = .ok (.newarray .boolean, 2) := dk_188_4 (dk_at dksX0_init_2 0 rfl rfl)
theorem dX0_init_47 : decode cX0_init 47 = .ok (.putfield 24, 3) := dk_181 0 24 (dk_at dksX0_init_2 2 rfl rfl)
theorem dX0_init_50 : decode cX0_init 50 = .ok (.aload_n 0, 1) := dk_42 (dk_at dksX0_init_2 5 rfl rfl)
theorem dX0_init_51 : decode cX0_init 51 = .ok (.new 28, 3) := dk_187 0 28 (dk_at dksX0_init_2 6 rfl rfl)
theorem dX0_init_54 : decode cX0_init 54 = .ok (.dup, 1) := dk_89 (dk_at dksX0_init_2 9 rfl rfl)
theorem dX0_init_55 : decode cX0_init 55 = .ok (.aload_n 0, 1) := dk_42 (dk_at dksX0_init_2 10 rfl rfl)
theorem dX0_init_56 : decode cX0_init 56 = .ok (.invokespecial 30, 3) := dk_183 0 30 (dk_at dksX0_init_2 11 rfl rfl)
theorem dX0_init_59 : decode cX0_init 59 = .ok (.putfield 33, 3) := dk_181 0 33 (dk_at dksX0_init_2 14 rfl rfl)
theorem dX0_init_62 : decode cX0_init 62 = .ok (.aload_n 0, 1) := dk_42 (dk_at dksX0_init_2 17 rfl rfl)
theorem dX0_init_63 : decode cX0_init 63 = .ok (.new 37, 3) := dk_187 0 37 (dk_at dksX0_init_2 18 rfl rfl)
theorem dX0_init_66 : decode cX0_init 66 = .ok (.dup, 1) := dk_89 (dk_at dksX0_init_2 21 rfl rfl)
theorem dX0_init_67 : decode cX0_init 67 = .ok (.aload_n 0, 1) := dk_42 (dk_at dksX0_init_2 22 rfl rfl)
theorem dX0_init_68 : decode cX0_init 68 = .ok (.invokespecial 39, 3) := dk_183 0 39 (dk_at dksX0_init_3 0 rfl rfl)
theorem dX0_init_71 : decode cX0_init 71 = .ok (.putfield 40, 3) := dk_181 0 40 (dk_at dksX0_init_3 3 rfl rfl)
theorem dX0_init_74 : decode cX0_init 74 = .ok (.aload_n 0, 1) := dk_42 (dk_at dksX0_init_3 6 rfl rfl)
theorem dX0_init_75 : decode cX0_init 75 = .ok (.ldc 43, 2) := dk_18 43 (dk_at dksX0_init_3 7 rfl rfl)
theorem dX0_init_77 : decode cX0_init 77 = .ok (.newarray .int, 2) := dk_188_10 (dk_at dksX0_init_3 9 rfl rfl)
theorem dX0_init_79 : decode cX0_init 79 = .ok (.putfield 44, 3) := dk_181 0 44 (dk_at dksX0_init_3 11 rfl rfl)
theorem dX0_init_82 : decode cX0_init 82 = .ok (.aload_n 0, 1) := dk_42 (dk_at dksX0_init_3 14 rfl rfl)
theorem dX0_init_83 : decode cX0_init 83 = .ok (.sipush 4000, 3) := dk_17 15 160 (dk_at dksX0_init_3 15 rfl rfl)
theorem dX0_init_86 : decode cX0_init 86 = .ok (.newarray .int, 2) := dk_188_10 (dk_at dksX0_init_3 18 rfl rfl)
theorem dX0_init_88 : decode cX0_init 88 = .ok (.putfield 48, 3) := dk_181 0 48 (dk_at dksX0_init_3 20 rfl rfl)
theorem dX0_init_91 : decode cX0_init 91 = .ok (.aload_n 0, 1) := dk_42 (dk_at dksX0_init_3 23 rfl rfl)
theorem dX0_init_92 : decode cX0_init 92 = .ok (.sipush 4000, 3) := dk_17 15 160 (dk_at dksX0_init_4 0 rfl rfl)
theorem dX0_init_95 : decode cX0_init 95 = .ok (.newarray .int, 2) := dk_188_10 (dk_at dksX0_init_4 3 rfl rfl)
theorem dX0_init_97 : decode cX0_init 97 = .ok (.putfield 51, 3) := dk_181 0 51 (dk_at dksX0_init_4 5 rfl rfl)
theorem dX0_init_100 : decode cX0_init 100 = .ok (.aload_n 0, 1) := dk_42 (dk_at dksX0_init_4 8 rfl rfl)
theorem dX0_init_101 : decode cX0_init 101 = .ok (.sipush 4001, 3) := dk_17 15 161 (dk_at dksX0_init_4 9 rfl rfl)
theorem dX0_init_104 : decode cX0_init 104 = .ok (.newarray .int, 2) := dk_188_10 (dk_at dksX0_init_4 12 rfl rfl)
theorem dX0_init_106 : decode cX0_init 106 = .ok (.putfield 54, 3) := dk_181 0 54 (dk_at dksX0_init_4 14 rfl rfl)
theorem dX0_init_109 : decode cX0_init 109 = .ok (.aload_n 0, 1) := dk_42 (dk_at dksX0_init_4 17 rfl rfl)
theorem dX0_init_110 : decode cX0_init 110 = .ok (.ldc 57, 2) := dk_18 57 (dk_at dksX0_init_4 18 rfl rfl)
theorem dX0_init_112 : decode cX0_init 112 = .ok (.newarray .int, 2) := dk_188_10 (dk_at dksX0_init_4 20 rfl rfl)
theorem dX0_init_114 : decode cX0_init 114 = .ok (.putfield 58, 3) := dk_181 0 58 (dk_at dksX0_init_5 0 rfl rfl)
theorem dX0_init_117 : decode cX0_init 117 = .ok (.aload_n 0, 1) := dk_42 (dk_at dksX0_init_5 3 rfl rfl)
theorem dX0_init_118 : decode cX0_init 118 = .ok (.sipush 4000, 3) := dk_17 15 160 (dk_at dksX0_init_5 4 rfl rfl)
theorem dX0_init_121 : decode cX0_init 121 = .ok (.newarray .int, 2) := dk_188_10 (dk_at dksX0_init_5 7 rfl rfl)
theorem dX0_init_123 : decode cX0_init 123 = .ok (.putfield 61, 3) := dk_181 0 61 (dk_at dksX0_init_5 9 rfl rfl)
theorem dX0_init_126 : decode cX0_init 126 = .ok (.aload_n 0, 1) := dk_42 (dk_at dksX0_init_5 12 rfl rfl)
theorem dX0_init_127 : decode cX0_init 127 = .ok (.sipush 4000, 3) := dk_17 15 160 (dk_at dksX0_init_5 13 rfl rfl)
theorem dX0_init_130 : decode cX0_init 130 = .ok (.newarray .int, 2) := dk_188_10 (dk_at dksX0_init_5 16 rfl rfl)
theorem dX0_init_132 : decode cX0_init 132 = .ok (.putfield 64, 3) := dk_181 0 64 (dk_at dksX0_init_5 18 rfl rfl)
theorem dX0_init_135 : decode cX0_init 135 = .ok (.aload_n 0, 1) := dk_42 (dk_at dksX0_init_5 21 rfl rfl)
theorem dX0_init_136 : decode cX0_init 136 = .ok (.bipush 10, 2) := dk_16 10 (dk_at dksX0_init_5 22 rfl rfl)
theorem dX0_init_138 : decode cX0_init 138 = .ok (.newarray .int, 2) := dk_188_10 (dk_at dksX0_init_6 0 rfl rfl)
theorem dX0_init_140 : decode cX0_init 140 = .ok (.putfield 67, 3) := dk_181 0 67 (dk_at dksX0_init_6 2 rfl rfl)
theorem dX0_init_143 : decode cX0_init 143 = .ok (.return_, 1) := dk_177 (dk_at dksX0_init_6 5 rfl rfl)
abbrev cX0_ring : ByteArray := prog_1_method_7_code
def yX0_ring : MethodName := ⟨RX0, "ring", "(I)I"⟩
def dkwX0_ring_2 : List UInt8 := [29, 3, 79, 132, 3, 1, 167, 255, 237, 28, 172]
abbrev dktX0_ring_2 : List UInt8 := dkwX0_ring_2 ++ []
def dkwX0_ring_1 : List UInt8 := [61, 42, 180, 0, 16, 27, 181, 0, 70, 3, 62, 29, 16, 10, 162, 0, 19, 42, 180, 0, 16, 180, 0, 82]
abbrev dktX0_ring_1 : List UInt8 := dkwX0_ring_1 ++ dktX0_ring_2
def dkwX0_ring_0 : List UInt8 := [27, 133, 20, 0, 85, 20, 0, 87, 184, 0, 1, 154, 0, 6, 16, 254, 172, 42, 180, 0, 16, 180, 0, 70]
abbrev dktX0_ring_0 : List UInt8 := dkwX0_ring_0 ++ dktX0_ring_1
theorem dksX0_ring_0 : cX0_ring.data.toList.drop 0 = dktX0_ring_0 := by decide +kernel
theorem dksX0_ring_1 : cX0_ring.data.toList.drop 24 = dktX0_ring_1 := dk_seg dksX0_ring_0 24 rfl rfl
theorem dksX0_ring_2 : cX0_ring.data.toList.drop 48 = dktX0_ring_2 := dk_seg dksX0_ring_1 24 rfl rfl
theorem dX0_ring_0 : decode cX0_ring 0 = .ok (.iload_n 1, 1) := dk_27 (dk_at dksX0_ring_0 0 rfl rfl)
theorem dX0_ring_1 : decode cX0_ring 1 = .ok (.i2l, 1) := dk_133 (dk_at dksX0_ring_0 1 rfl rfl)
theorem dX0_ring_2 : decode cX0_ring 2 = .ok (.ldc2_w 85, 3) := dk_20 0 85 (dk_at dksX0_ring_0 2 rfl rfl)
theorem dX0_ring_5 : decode cX0_ring 5 = .ok (.ldc2_w 87, 3) := dk_20 0 87 (dk_at dksX0_ring_0 5 rfl rfl)
theorem dX0_ring_8 : decode cX0_ring 8 = .ok (.invokestatic 1, 3) := dk_184 0 1 (dk_at dksX0_ring_0 8 rfl rfl)
theorem dX0_ring_11 : decode cX0_ring 11 = .ok (.ifCond .ne 6, 3) := dk_154 0 6 (dk_at dksX0_ring_0 11 rfl rfl)
theorem dX0_ring_14 : decode cX0_ring 14 = .ok (.bipush (-2), 2) := dk_16 254 (dk_at dksX0_ring_0 14 rfl rfl)
theorem dX0_ring_16 : decode cX0_ring 16 = .ok (.ireturn, 1) := dk_172 (dk_at dksX0_ring_0 16 rfl rfl)
theorem dX0_ring_17 : decode cX0_ring 17 = .ok (.aload_n 0, 1) := dk_42 (dk_at dksX0_ring_0 17 rfl rfl)
theorem dX0_ring_18 : decode cX0_ring 18 = .ok (.getfield 16, 3) := dk_180 0 16 (dk_at dksX0_ring_0 18 rfl rfl)
theorem dX0_ring_21 : decode cX0_ring 21 = .ok (.getfield 70, 3) := dk_180 0 70 (dk_at dksX0_ring_0 21 rfl rfl)
theorem dX0_ring_24 : decode cX0_ring 24 = .ok (.istore_n 2, 1) := dk_61 (dk_at dksX0_ring_1 0 rfl rfl)
theorem dX0_ring_25 : decode cX0_ring 25 = .ok (.aload_n 0, 1) := dk_42 (dk_at dksX0_ring_1 1 rfl rfl)
theorem dX0_ring_26 : decode cX0_ring 26 = .ok (.getfield 16, 3) := dk_180 0 16 (dk_at dksX0_ring_1 2 rfl rfl)
theorem dX0_ring_29 : decode cX0_ring 29 = .ok (.iload_n 1, 1) := dk_27 (dk_at dksX0_ring_1 5 rfl rfl)
theorem dX0_ring_30 : decode cX0_ring 30 = .ok (.putfield 70, 3) := dk_181 0 70 (dk_at dksX0_ring_1 6 rfl rfl)
theorem dX0_ring_33 : decode cX0_ring 33 = .ok (.iconst 0, 1) := dk_3 (dk_at dksX0_ring_1 9 rfl rfl)
theorem dX0_ring_34 : decode cX0_ring 34 = .ok (.istore_n 3, 1) := dk_62 (dk_at dksX0_ring_1 10 rfl rfl)
theorem dX0_ring_35 : decode cX0_ring 35 = .ok (.iload_n 3, 1) := dk_29 (dk_at dksX0_ring_1 11 rfl rfl)
theorem dX0_ring_36 : decode cX0_ring 36 = .ok (.bipush 10, 2) := dk_16 10 (dk_at dksX0_ring_1 12 rfl rfl)
theorem dX0_ring_38 : decode cX0_ring 38 = .ok (.if_icmp .ge 19, 3) := dk_162 0 19 (dk_at dksX0_ring_1 14 rfl rfl)
theorem dX0_ring_41 : decode cX0_ring 41 = .ok (.aload_n 0, 1) := dk_42 (dk_at dksX0_ring_1 17 rfl rfl)
theorem dX0_ring_42 : decode cX0_ring 42 = .ok (.getfield 16, 3) := dk_180 0 16 (dk_at dksX0_ring_1 18 rfl rfl)
theorem dX0_ring_45 : decode cX0_ring 45 = .ok (.getfield 82, 3) := dk_180 0 82 (dk_at dksX0_ring_1 21 rfl rfl)
theorem dX0_ring_48 : decode cX0_ring 48 = .ok (.iload_n 3, 1) := dk_29 (dk_at dksX0_ring_2 0 rfl rfl)
theorem dX0_ring_49 : decode cX0_ring 49 = .ok (.iconst 0, 1) := dk_3 (dk_at dksX0_ring_2 1 rfl rfl)
theorem dX0_ring_50 : decode cX0_ring 50 = .ok (.iastore, 1) := dk_79 (dk_at dksX0_ring_2 2 rfl rfl)
theorem dX0_ring_51 : decode cX0_ring 51 = .ok (.iinc 3 1, 3) := dk_132 3 1 (dk_at dksX0_ring_2 3 rfl rfl)
theorem dX0_ring_54 : decode cX0_ring 54 = .ok (.goto (-19), 3) := dk_167 255 237 (dk_at dksX0_ring_2 6 rfl rfl)
theorem dX0_ring_57 : decode cX0_ring 57 = .ok (.iload_n 2, 1) := dk_28 (dk_at dksX0_ring_2 9 rfl rfl)
theorem dX0_ring_58 : decode cX0_ring 58 = .ok (.ireturn, 1) := dk_172 (dk_at dksX0_ring_2 10 rfl rfl)
abbrev cX0_isIn : ByteArray := prog_1_method_1_code
def yX0_isIn : MethodName := ⟨RX0, "isIn", "(JJJ)Z"⟩
def dkwX0_isIn_0 : List UInt8 := [30, 32, 148, 155, 0, 14, 30, 22, 4, 148, 157, 0, 7, 4, 167, 0, 4, 3, 172]
abbrev dktX0_isIn_0 : List UInt8 := dkwX0_isIn_0 ++ []
theorem dksX0_isIn_0 : cX0_isIn.data.toList.drop 0 = dktX0_isIn_0 := by decide +kernel
theorem dX0_isIn_0 : decode cX0_isIn 0 = .ok (.lload_n 0, 1) := dk_30 (dk_at dksX0_isIn_0 0 rfl rfl)
theorem dX0_isIn_1 : decode cX0_isIn 1 = .ok (.lload_n 2, 1) := dk_32 (dk_at dksX0_isIn_0 1 rfl rfl)
theorem dX0_isIn_2 : decode cX0_isIn 2 = .ok (.lcmp, 1) := dk_148 (dk_at dksX0_isIn_0 2 rfl rfl)
theorem dX0_isIn_3 : decode cX0_isIn 3 = .ok (.ifCond .lt 14, 3) := dk_155 0 14 (dk_at dksX0_isIn_0 3 rfl rfl)
theorem dX0_isIn_6 : decode cX0_isIn 6 = .ok (.lload_n 0, 1) := dk_30 (dk_at dksX0_isIn_0 6 rfl rfl)
theorem dX0_isIn_7 : decode cX0_isIn 7 = .ok (.lload 4, 2) := dk_22 4 (dk_at dksX0_isIn_0 7 rfl rfl)
theorem dX0_isIn_9 : decode cX0_isIn 9 = .ok (.lcmp, 1) := dk_148 (dk_at dksX0_isIn_0 9 rfl rfl)
theorem dX0_isIn_10 : decode cX0_isIn 10 = .ok (.ifCond .gt 7, 3) := dk_157 0 7 (dk_at dksX0_isIn_0 10 rfl rfl)
theorem dX0_isIn_13 : decode cX0_isIn 13 = .ok (.iconst 1, 1) := dk_4 (dk_at dksX0_isIn_0 13 rfl rfl)
theorem dX0_isIn_14 : decode cX0_isIn 14 = .ok (.goto 4, 3) := dk_167 0 4 (dk_at dksX0_isIn_0 14 rfl rfl)
theorem dX0_isIn_17 : decode cX0_isIn 17 = .ok (.iconst 0, 1) := dk_3 (dk_at dksX0_isIn_0 17 rfl rfl)
theorem dX0_isIn_18 : decode cX0_isIn 18 = .ok (.ireturn, 1) := dk_172 (dk_at dksX0_isIn_0 18 rfl rfl)
abbrev cX0_stand : ByteArray := prog_1_method_8_code
def yX0_stand : MethodName := ⟨RX0, "stand", "(II)I"⟩
def dkwX0_stand_2 : List UInt8 := [164, 0, 6, 16, 252, 172, 42, 180, 0, 16, 180, 0, 82, 27, 28, 79, 29, 172]
abbrev dktX0_stand_2 : List UInt8 := dkwX0_stand_2 ++ []
def dkwX0_stand_1 : List UInt8 := [172, 42, 180, 0, 16, 180, 0, 82, 27, 46, 62, 42, 180, 0, 16, 182, 0, 91, 29, 100, 28, 96, 8]
abbrev dktX0_stand_1 : List UInt8 := dkwX0_stand_1 ++ dktX0_stand_2
def dkwX0_stand_0 : List UInt8 := [42, 27, 182, 0, 78, 154, 0, 5, 2, 172, 28, 133, 9, 20, 0, 89, 184, 0, 1, 154, 0, 6, 16, 254]
abbrev dktX0_stand_0 : List UInt8 := dkwX0_stand_0 ++ dktX0_stand_1
theorem dksX0_stand_0 : cX0_stand.data.toList.drop 0 = dktX0_stand_0 := by decide +kernel
theorem dksX0_stand_1 : cX0_stand.data.toList.drop 24 = dktX0_stand_1 := dk_seg dksX0_stand_0 24 rfl rfl
theorem dksX0_stand_2 : cX0_stand.data.toList.drop 47 = dktX0_stand_2 := dk_seg dksX0_stand_1 23 rfl rfl
theorem dX0_stand_0 : decode cX0_stand 0 = .ok (.aload_n 0, 1) := dk_42 (dk_at dksX0_stand_0 0 rfl rfl)
theorem dX0_stand_1 : decode cX0_stand 1 = .ok (.iload_n 1, 1) := dk_27 (dk_at dksX0_stand_0 1 rfl rfl)
theorem dX0_stand_2 : decode cX0_stand 2 = .ok (.invokevirtual 78, 3) := dk_182 0 78 (dk_at dksX0_stand_0 2 rfl rfl)
theorem dX0_stand_5 : decode cX0_stand 5 = .ok (.ifCond .ne 5, 3) := dk_154 0 5 (dk_at dksX0_stand_0 5 rfl rfl)
theorem dX0_stand_8 : decode cX0_stand 8 = .ok (.iconst (-1), 1) := dk_2 (dk_at dksX0_stand_0 8 rfl rfl)
theorem dX0_stand_9 : decode cX0_stand 9 = .ok (.ireturn, 1) := dk_172 (dk_at dksX0_stand_0 9 rfl rfl)
theorem dX0_stand_10 : decode cX0_stand 10 = .ok (.iload_n 2, 1) := dk_28 (dk_at dksX0_stand_0 10 rfl rfl)
theorem dX0_stand_11 : decode cX0_stand 11 = .ok (.i2l, 1) := dk_133 (dk_at dksX0_stand_0 11 rfl rfl)
theorem dX0_stand_12 : decode cX0_stand 12 = .ok (.lconst 0, 1) := dk_9 (dk_at dksX0_stand_0 12 rfl rfl)
theorem dX0_stand_13 : decode cX0_stand 13 = .ok (.ldc2_w 89, 3) := dk_20 0 89 (dk_at dksX0_stand_0 13 rfl rfl)
theorem dX0_stand_16 : decode cX0_stand 16 = .ok (.invokestatic 1, 3) := dk_184 0 1 (dk_at dksX0_stand_0 16 rfl rfl)
theorem dX0_stand_19 : decode cX0_stand 19 = .ok (.ifCond .ne 6, 3) := dk_154 0 6 (dk_at dksX0_stand_0 19 rfl rfl)
theorem dX0_stand_22 : decode cX0_stand 22 = .ok (.bipush (-2), 2) := dk_16 254 (dk_at dksX0_stand_0 22 rfl rfl)
theorem dX0_stand_24 : decode cX0_stand 24 = .ok (.ireturn, 1) := dk_172 (dk_at dksX0_stand_1 0 rfl rfl)
theorem dX0_stand_25 : decode cX0_stand 25 = .ok (.aload_n 0, 1) := dk_42 (dk_at dksX0_stand_1 1 rfl rfl)
theorem dX0_stand_26 : decode cX0_stand 26 = .ok (.getfield 16, 3) := dk_180 0 16 (dk_at dksX0_stand_1 2 rfl rfl)
theorem dX0_stand_29 : decode cX0_stand 29 = .ok (.getfield 82, 3) := dk_180 0 82 (dk_at dksX0_stand_1 5 rfl rfl)
theorem dX0_stand_32 : decode cX0_stand 32 = .ok (.iload_n 1, 1) := dk_27 (dk_at dksX0_stand_1 8 rfl rfl)
theorem dX0_stand_33 : decode cX0_stand 33 = .ok (.iaload, 1) := dk_46 (dk_at dksX0_stand_1 9 rfl rfl)
theorem dX0_stand_34 : decode cX0_stand 34 = .ok (.istore_n 3, 1) := dk_62 (dk_at dksX0_stand_1 10 rfl rfl)
theorem dX0_stand_35 : decode cX0_stand 35 = .ok (.aload_n 0, 1) := dk_42 (dk_at dksX0_stand_1 11 rfl rfl)
theorem dX0_stand_36 : decode cX0_stand 36 = .ok (.getfield 16, 3) := dk_180 0 16 (dk_at dksX0_stand_1 12 rfl rfl)
theorem dX0_stand_39 : decode cX0_stand 39 = .ok (.invokevirtual 91, 3) := dk_182 0 91 (dk_at dksX0_stand_1 15 rfl rfl)
theorem dX0_stand_42 : decode cX0_stand 42 = .ok (.iload_n 3, 1) := dk_29 (dk_at dksX0_stand_1 18 rfl rfl)
theorem dX0_stand_43 : decode cX0_stand 43 = .ok (.isub, 1) := dk_100 (dk_at dksX0_stand_1 19 rfl rfl)
theorem dX0_stand_44 : decode cX0_stand 44 = .ok (.iload_n 2, 1) := dk_28 (dk_at dksX0_stand_1 20 rfl rfl)
theorem dX0_stand_45 : decode cX0_stand 45 = .ok (.iadd, 1) := dk_96 (dk_at dksX0_stand_1 21 rfl rfl)
theorem dX0_stand_46 : decode cX0_stand 46 = .ok (.iconst 5, 1) := dk_8 (dk_at dksX0_stand_1 22 rfl rfl)
theorem dX0_stand_47 : decode cX0_stand 47 = .ok (.if_icmp .le 6, 3) := dk_164 0 6 (dk_at dksX0_stand_2 0 rfl rfl)
theorem dX0_stand_50 : decode cX0_stand 50 = .ok (.bipush (-4), 2) := dk_16 252 (dk_at dksX0_stand_2 3 rfl rfl)
theorem dX0_stand_52 : decode cX0_stand 52 = .ok (.ireturn, 1) := dk_172 (dk_at dksX0_stand_2 5 rfl rfl)
theorem dX0_stand_53 : decode cX0_stand 53 = .ok (.aload_n 0, 1) := dk_42 (dk_at dksX0_stand_2 6 rfl rfl)
theorem dX0_stand_54 : decode cX0_stand 54 = .ok (.getfield 16, 3) := dk_180 0 16 (dk_at dksX0_stand_2 7 rfl rfl)
theorem dX0_stand_57 : decode cX0_stand 57 = .ok (.getfield 82, 3) := dk_180 0 82 (dk_at dksX0_stand_2 10 rfl rfl)
theorem dX0_stand_60 : decode cX0_stand 60 = .ok (.iload_n 1, 1) := dk_27 (dk_at dksX0_stand_2 13 rfl rfl)
theorem dX0_stand_61 : decode cX0_stand 61 = .ok (.iload_n 2, 1) := dk_28 (dk_at dksX0_stand_2 14 rfl rfl)
theorem dX0_stand_62 : decode cX0_stand 62 = .ok (.iastore, 1) := dk_79 (dk_at dksX0_stand_2 15 rfl rfl)
theorem dX0_stand_63 : decode cX0_stand 63 = .ok (.iload_n 3, 1) := dk_29 (dk_at dksX0_stand_2 16 rfl rfl)
theorem dX0_stand_64 : decode cX0_stand 64 = .ok (.ireturn, 1) := dk_172 (dk_at dksX0_stand_2 17 rfl rfl)
abbrev cX0_isCell : ByteArray := prog_1_method_4_code
def yX0_isCell : MethodName := ⟨RX0, "isCell", "(I)Z"⟩
def dkwX0_isCell_0 : List UInt8 := [27, 133, 9, 42, 180, 0, 16, 180, 0, 70, 133, 10, 101, 184, 0, 1, 172]
abbrev dktX0_isCell_0 : List UInt8 := dkwX0_isCell_0 ++ []
theorem dksX0_isCell_0 : cX0_isCell.data.toList.drop 0 = dktX0_isCell_0 := by decide +kernel
theorem dX0_isCell_0 : decode cX0_isCell 0 = .ok (.iload_n 1, 1) := dk_27 (dk_at dksX0_isCell_0 0 rfl rfl)
theorem dX0_isCell_1 : decode cX0_isCell 1 = .ok (.i2l, 1) := dk_133 (dk_at dksX0_isCell_0 1 rfl rfl)
theorem dX0_isCell_2 : decode cX0_isCell 2 = .ok (.lconst 0, 1) := dk_9 (dk_at dksX0_isCell_0 2 rfl rfl)
theorem dX0_isCell_3 : decode cX0_isCell 3 = .ok (.aload_n 0, 1) := dk_42 (dk_at dksX0_isCell_0 3 rfl rfl)
theorem dX0_isCell_4 : decode cX0_isCell 4 = .ok (.getfield 16, 3) := dk_180 0 16 (dk_at dksX0_isCell_0 4 rfl rfl)
theorem dX0_isCell_7 : decode cX0_isCell 7 = .ok (.getfield 70, 3) := dk_180 0 70 (dk_at dksX0_isCell_0 7 rfl rfl)
theorem dX0_isCell_10 : decode cX0_isCell 10 = .ok (.i2l, 1) := dk_133 (dk_at dksX0_isCell_0 10 rfl rfl)
theorem dX0_isCell_11 : decode cX0_isCell 11 = .ok (.lconst 1, 1) := dk_10 (dk_at dksX0_isCell_0 11 rfl rfl)
theorem dX0_isCell_12 : decode cX0_isCell 12 = .ok (.lsub, 1) := dk_101 (dk_at dksX0_isCell_0 12 rfl rfl)
theorem dX0_isCell_13 : decode cX0_isCell 13 = .ok (.invokestatic 1, 3) := dk_184 0 1 (dk_at dksX0_isCell_0 13 rfl rfl)
theorem dX0_isCell_16 : decode cX0_isCell 16 = .ok (.ireturn, 1) := dk_172 (dk_at dksX0_isCell_0 16 rfl rfl)
abbrev cX0_gap : ByteArray := prog_1_method_14_code
def yX0_gap : MethodName := ⟨RX0, "gap", "(III)I"⟩
def dkwX0_gap_4 : List UInt8 := [182, 0, 128, 167, 0, 5, 16, 250, 172]
abbrev dktX0_gap_4 : List UInt8 := dkwX0_gap_4 ++ []
def dkwX0_gap_3 : List UInt8 := [54, 6, 29, 133, 9, 21, 5, 133, 10, 101, 184, 0, 1, 153, 0, 16, 42, 21, 4, 27, 21, 6, 29]
abbrev dktX0_gap_3 : List UInt8 := dkwX0_gap_3 ++ dktX0_gap_4
def dkwX0_gap_2 : List UInt8 := [154, 0, 7, 4, 167, 0, 19, 28, 4, 160, 0, 7, 2, 167, 0, 10, 42, 21, 4, 27, 182, 0, 125]
abbrev dktX0_gap_2 : List UInt8 := dkwX0_gap_2 ++ dktX0_gap_3
def dkwX0_gap_1 : List UInt8 := [172, 42, 182, 0, 122, 54, 4, 21, 4, 184, 0, 108, 54, 5, 29, 2, 160, 0, 6, 21, 5, 172, 28]
abbrev dktX0_gap_1 : List UInt8 := dkwX0_gap_1 ++ dktX0_gap_2
def dkwX0_gap_0 : List UInt8 := [42, 27, 182, 0, 117, 154, 0, 5, 2, 172, 28, 133, 9, 20, 0, 120, 184, 0, 1, 154, 0, 6, 16, 254]
abbrev dktX0_gap_0 : List UInt8 := dkwX0_gap_0 ++ dktX0_gap_1
theorem dksX0_gap_0 : cX0_gap.data.toList.drop 0 = dktX0_gap_0 := by decide +kernel
theorem dksX0_gap_1 : cX0_gap.data.toList.drop 24 = dktX0_gap_1 := dk_seg dksX0_gap_0 24 rfl rfl
theorem dksX0_gap_2 : cX0_gap.data.toList.drop 47 = dktX0_gap_2 := dk_seg dksX0_gap_1 23 rfl rfl
theorem dksX0_gap_3 : cX0_gap.data.toList.drop 70 = dktX0_gap_3 := dk_seg dksX0_gap_2 23 rfl rfl
theorem dksX0_gap_4 : cX0_gap.data.toList.drop 93 = dktX0_gap_4 := dk_seg dksX0_gap_3 23 rfl rfl
theorem dX0_gap_0 : decode cX0_gap 0 = .ok (.aload_n 0, 1) := dk_42 (dk_at dksX0_gap_0 0 rfl rfl)
theorem dX0_gap_1 : decode cX0_gap 1 = .ok (.iload_n 1, 1) := dk_27 (dk_at dksX0_gap_0 1 rfl rfl)
theorem dX0_gap_2 : decode cX0_gap 2 = .ok (.invokevirtual 117, 3) := dk_182 0 117 (dk_at dksX0_gap_0 2 rfl rfl)
theorem dX0_gap_5 : decode cX0_gap 5 = .ok (.ifCond .ne 5, 3) := dk_154 0 5 (dk_at dksX0_gap_0 5 rfl rfl)
theorem dX0_gap_8 : decode cX0_gap 8 = .ok (.iconst (-1), 1) := dk_2 (dk_at dksX0_gap_0 8 rfl rfl)
theorem dX0_gap_9 : decode cX0_gap 9 = .ok (.ireturn, 1) := dk_172 (dk_at dksX0_gap_0 9 rfl rfl)
theorem dX0_gap_10 : decode cX0_gap 10 = .ok (.iload_n 2, 1) := dk_28 (dk_at dksX0_gap_0 10 rfl rfl)
theorem dX0_gap_11 : decode cX0_gap 11 = .ok (.i2l, 1) := dk_133 (dk_at dksX0_gap_0 11 rfl rfl)
theorem dX0_gap_12 : decode cX0_gap 12 = .ok (.lconst 0, 1) := dk_9 (dk_at dksX0_gap_0 12 rfl rfl)
theorem dX0_gap_13 : decode cX0_gap 13 = .ok (.ldc2_w 120, 3) := dk_20 0 120 (dk_at dksX0_gap_0 13 rfl rfl)
theorem dX0_gap_16 : decode cX0_gap 16 = .ok (.invokestatic 1, 3) := dk_184 0 1 (dk_at dksX0_gap_0 16 rfl rfl)
theorem dX0_gap_19 : decode cX0_gap 19 = .ok (.ifCond .ne 6, 3) := dk_154 0 6 (dk_at dksX0_gap_0 19 rfl rfl)
theorem dX0_gap_22 : decode cX0_gap 22 = .ok (.bipush (-2), 2) := dk_16 254 (dk_at dksX0_gap_0 22 rfl rfl)
theorem dX0_gap_24 : decode cX0_gap 24 = .ok (.ireturn, 1) := dk_172 (dk_at dksX0_gap_1 0 rfl rfl)
theorem dX0_gap_25 : decode cX0_gap 25 = .ok (.aload_n 0, 1) := dk_42 (dk_at dksX0_gap_1 1 rfl rfl)
theorem dX0_gap_26 : decode cX0_gap 26 = .ok (.invokevirtual 122, 3) := dk_182 0 122 (dk_at dksX0_gap_1 2 rfl rfl)
theorem dX0_gap_29 : decode cX0_gap 29 = .ok (.istore 4, 2) := dk_54 4 (dk_at dksX0_gap_1 5 rfl rfl)
theorem dX0_gap_31 : decode cX0_gap 31 = .ok (.iload 4, 2) := dk_21 4 (dk_at dksX0_gap_1 7 rfl rfl)
theorem dX0_gap_33 : decode cX0_gap 33 = .ok (.invokestatic 108, 3) := dk_184 0 108 (dk_at dksX0_gap_1 9 rfl rfl)
theorem dX0_gap_36 : decode cX0_gap 36 = .ok (.istore 5, 2) := dk_54 5 (dk_at dksX0_gap_1 12 rfl rfl)
theorem dX0_gap_38 : decode cX0_gap 38 = .ok (.iload_n 3, 1) := dk_29 (dk_at dksX0_gap_1 14 rfl rfl)
theorem dX0_gap_39 : decode cX0_gap 39 = .ok (.iconst (-1), 1) := dk_2 (dk_at dksX0_gap_1 15 rfl rfl)
theorem dX0_gap_40 : decode cX0_gap 40 = .ok (.if_icmp .ne 6, 3) := dk_160 0 6 (dk_at dksX0_gap_1 16 rfl rfl)
theorem dX0_gap_43 : decode cX0_gap 43 = .ok (.iload 5, 2) := dk_21 5 (dk_at dksX0_gap_1 19 rfl rfl)
theorem dX0_gap_45 : decode cX0_gap 45 = .ok (.ireturn, 1) := dk_172 (dk_at dksX0_gap_1 21 rfl rfl)
theorem dX0_gap_46 : decode cX0_gap 46 = .ok (.iload_n 2, 1) := dk_28 (dk_at dksX0_gap_1 22 rfl rfl)
theorem dX0_gap_47 : decode cX0_gap 47 = .ok (.ifCond .ne 7, 3) := dk_154 0 7 (dk_at dksX0_gap_2 0 rfl rfl)
theorem dX0_gap_50 : decode cX0_gap 50 = .ok (.iconst 1, 1) := dk_4 (dk_at dksX0_gap_2 3 rfl rfl)
theorem dX0_gap_51 : decode cX0_gap 51 = .ok (.goto 19, 3) := dk_167 0 19 (dk_at dksX0_gap_2 4 rfl rfl)
theorem dX0_gap_54 : decode cX0_gap 54 = .ok (.iload_n 2, 1) := dk_28 (dk_at dksX0_gap_2 7 rfl rfl)
theorem dX0_gap_55 : decode cX0_gap 55 = .ok (.iconst 1, 1) := dk_4 (dk_at dksX0_gap_2 8 rfl rfl)
theorem dX0_gap_56 : decode cX0_gap 56 = .ok (.if_icmp .ne 7, 3) := dk_160 0 7 (dk_at dksX0_gap_2 9 rfl rfl)
theorem dX0_gap_59 : decode cX0_gap 59 = .ok (.iconst (-1), 1) := dk_2 (dk_at dksX0_gap_2 12 rfl rfl)
theorem dX0_gap_60 : decode cX0_gap 60 = .ok (.goto 10, 3) := dk_167 0 10 (dk_at dksX0_gap_2 13 rfl rfl)
theorem dX0_gap_63 : decode cX0_gap 63 = .ok (.aload_n 0, 1) := dk_42 (dk_at dksX0_gap_2 16 rfl rfl)
theorem dX0_gap_64 : decode cX0_gap 64 = .ok (.iload 4, 2) := dk_21 4 (dk_at dksX0_gap_2 17 rfl rfl)
theorem dX0_gap_66 : decode cX0_gap 66 = .ok (.iload_n 1, 1) := dk_27 (dk_at dksX0_gap_2 19 rfl rfl)
theorem dX0_gap_67 : decode cX0_gap 67 = .ok (.invokevirtual 125, 3) := dk_182 0 125 (dk_at dksX0_gap_2 20 rfl rfl)
theorem dX0_gap_70 : decode cX0_gap 70 = .ok (.istore 6, 2) := dk_54 6 (dk_at dksX0_gap_3 0 rfl rfl)
theorem dX0_gap_72 : decode cX0_gap 72 = .ok (.iload_n 3, 1) := dk_29 (dk_at dksX0_gap_3 2 rfl rfl)
theorem dX0_gap_73 : decode cX0_gap 73 = .ok (.i2l, 1) := dk_133 (dk_at dksX0_gap_3 3 rfl rfl)
theorem dX0_gap_74 : decode cX0_gap 74 = .ok (.lconst 0, 1) := dk_9 (dk_at dksX0_gap_3 4 rfl rfl)
theorem dX0_gap_75 : decode cX0_gap 75 = .ok (.iload 5, 2) := dk_21 5 (dk_at dksX0_gap_3 5 rfl rfl)
theorem dX0_gap_77 : decode cX0_gap 77 = .ok (.i2l, 1) := dk_133 (dk_at dksX0_gap_3 7 rfl rfl)
theorem dX0_gap_78 : decode cX0_gap 78 = .ok (.lconst 1, 1) := dk_10 (dk_at dksX0_gap_3 8 rfl rfl)
theorem dX0_gap_79 : decode cX0_gap 79 = .ok (.lsub, 1) := dk_101 (dk_at dksX0_gap_3 9 rfl rfl)
theorem dX0_gap_80 : decode cX0_gap 80 = .ok (.invokestatic 1, 3) := dk_184 0 1 (dk_at dksX0_gap_3 10 rfl rfl)
theorem dX0_gap_83 : decode cX0_gap 83 = .ok (.ifCond .eq 16, 3) := dk_153 0 16 (dk_at dksX0_gap_3 13 rfl rfl)
theorem dX0_gap_86 : decode cX0_gap 86 = .ok (.aload_n 0, 1) := dk_42 (dk_at dksX0_gap_3 16 rfl rfl)
theorem dX0_gap_87 : decode cX0_gap 87 = .ok (.iload 4, 2) := dk_21 4 (dk_at dksX0_gap_3 17 rfl rfl)
theorem dX0_gap_89 : decode cX0_gap 89 = .ok (.iload_n 1, 1) := dk_27 (dk_at dksX0_gap_3 19 rfl rfl)
theorem dX0_gap_90 : decode cX0_gap 90 = .ok (.iload 6, 2) := dk_21 6 (dk_at dksX0_gap_3 20 rfl rfl)
theorem dX0_gap_92 : decode cX0_gap 92 = .ok (.iload_n 3, 1) := dk_29 (dk_at dksX0_gap_3 22 rfl rfl)
theorem dX0_gap_93 : decode cX0_gap 93 = .ok (.invokevirtual 128, 3) := dk_182 0 128 (dk_at dksX0_gap_4 0 rfl rfl)
theorem dX0_gap_96 : decode cX0_gap 96 = .ok (.goto 5, 3) := dk_167 0 5 (dk_at dksX0_gap_4 3 rfl rfl)
theorem dX0_gap_99 : decode cX0_gap 99 = .ok (.bipush (-6), 2) := dk_16 250 (dk_at dksX0_gap_4 6 rfl rfl)
theorem dX0_gap_101 : decode cX0_gap 101 = .ok (.ireturn, 1) := dk_172 (dk_at dksX0_gap_4 8 rfl rfl)
abbrev cX0_isStand : ByteArray := prog_1_method_6_code
def yX0_isStand : MethodName := ⟨RX0, "isStand", "(I)Z"⟩
def dkwX0_isStand_1 : List UInt8 := [3, 172]
abbrev dktX0_isStand_1 : List UInt8 := dkwX0_isStand_1 ++ []
def dkwX0_isStand_0 : List UInt8 := [42, 27, 182, 0, 78, 153, 0, 19, 42, 180, 0, 16, 180, 0, 82, 27, 46, 158, 0, 7, 4, 167, 0, 4]
abbrev dktX0_isStand_0 : List UInt8 := dkwX0_isStand_0 ++ dktX0_isStand_1
theorem dksX0_isStand_0 : cX0_isStand.data.toList.drop 0 = dktX0_isStand_0 := by decide +kernel
theorem dksX0_isStand_1 : cX0_isStand.data.toList.drop 24 = dktX0_isStand_1 := dk_seg dksX0_isStand_0 24 rfl rfl
theorem dX0_isStand_0 : decode cX0_isStand 0 = .ok (.aload_n 0, 1) := dk_42 (dk_at dksX0_isStand_0 0 rfl rfl)
theorem dX0_isStand_1 : decode cX0_isStand 1 = .ok (.iload_n 1, 1) := dk_27 (dk_at dksX0_isStand_0 1 rfl rfl)
theorem dX0_isStand_2 : decode cX0_isStand 2 = .ok (.invokevirtual 78, 3) := dk_182 0 78 (dk_at dksX0_isStand_0 2 rfl rfl)
theorem dX0_isStand_5 : decode cX0_isStand 5 = .ok (.ifCond .eq 19, 3) := dk_153 0 19 (dk_at dksX0_isStand_0 5 rfl rfl)
theorem dX0_isStand_8 : decode cX0_isStand 8 = .ok (.aload_n 0, 1) := dk_42 (dk_at dksX0_isStand_0 8 rfl rfl)
theorem dX0_isStand_9 : decode cX0_isStand 9 = .ok (.getfield 16, 3) := dk_180 0 16 (dk_at dksX0_isStand_0 9 rfl rfl)
theorem dX0_isStand_12 : decode cX0_isStand 12 = .ok (.getfield 82, 3) := dk_180 0 82 (dk_at dksX0_isStand_0 12 rfl rfl)
theorem dX0_isStand_15 : decode cX0_isStand 15 = .ok (.iload_n 1, 1) := dk_27 (dk_at dksX0_isStand_0 15 rfl rfl)
theorem dX0_isStand_16 : decode cX0_isStand 16 = .ok (.iaload, 1) := dk_46 (dk_at dksX0_isStand_0 16 rfl rfl)
theorem dX0_isStand_17 : decode cX0_isStand 17 = .ok (.ifCond .le 7, 3) := dk_158 0 7 (dk_at dksX0_isStand_0 17 rfl rfl)
theorem dX0_isStand_20 : decode cX0_isStand 20 = .ok (.iconst 1, 1) := dk_4 (dk_at dksX0_isStand_0 20 rfl rfl)
theorem dX0_isStand_21 : decode cX0_isStand 21 = .ok (.goto 4, 3) := dk_167 0 4 (dk_at dksX0_isStand_0 21 rfl rfl)
theorem dX0_isStand_24 : decode cX0_isStand 24 = .ok (.iconst 0, 1) := dk_3 (dk_at dksX0_isStand_1 0 rfl rfl)
theorem dX0_isStand_25 : decode cX0_isStand 25 = .ok (.ireturn, 1) := dk_172 (dk_at dksX0_isStand_1 1 rfl rfl)
abbrev cX0_stands : ByteArray := prog_1_method_5_code
def yX0_stands : MethodName := ⟨RX0, "stands", "()I"⟩
def dkwX0_stands_0 : List UInt8 := [42, 180, 0, 16, 4, 182, 0, 74, 172]
abbrev dktX0_stands_0 : List UInt8 := dkwX0_stands_0 ++ []
theorem dksX0_stands_0 : cX0_stands.data.toList.drop 0 = dktX0_stands_0 := by decide +kernel
theorem dX0_stands_0 : decode cX0_stands 0 = .ok (.aload_n 0, 1) := dk_42 (dk_at dksX0_stands_0 0 rfl rfl)
theorem dX0_stands_1 : decode cX0_stands 1 = .ok (.getfield 16, 3) := dk_180 0 16 (dk_at dksX0_stands_0 1 rfl rfl)
theorem dX0_stands_4 : decode cX0_stands 4 = .ok (.iconst 1, 1) := dk_4 (dk_at dksX0_stands_0 4 rfl rfl)
theorem dX0_stands_5 : decode cX0_stands 5 = .ok (.invokevirtual 74, 3) := dk_182 0 74 (dk_at dksX0_stands_0 5 rfl rfl)
theorem dX0_stands_8 : decode cX0_stands 8 = .ok (.ireturn, 1) := dk_172 (dk_at dksX0_stands_0 8 rfl rfl)
abbrev cX0_sideOf : ByteArray := prog_1_method_13_code
def yX0_sideOf : MethodName := ⟨RX0, "sideOf", "(II)I"⟩
def dkwX0_sideOf_0 : List UInt8 := [42, 27, 28, 4, 28, 2, 182, 0, 113, 157, 0, 7, 4, 167, 0, 4, 2, 172]
abbrev dktX0_sideOf_0 : List UInt8 := dkwX0_sideOf_0 ++ []
theorem dksX0_sideOf_0 : cX0_sideOf.data.toList.drop 0 = dktX0_sideOf_0 := by decide +kernel
theorem dX0_sideOf_0 : decode cX0_sideOf 0 = .ok (.aload_n 0, 1) := dk_42 (dk_at dksX0_sideOf_0 0 rfl rfl)
theorem dX0_sideOf_1 : decode cX0_sideOf 1 = .ok (.iload_n 1, 1) := dk_27 (dk_at dksX0_sideOf_0 1 rfl rfl)
theorem dX0_sideOf_2 : decode cX0_sideOf 2 = .ok (.iload_n 2, 1) := dk_28 (dk_at dksX0_sideOf_0 2 rfl rfl)
theorem dX0_sideOf_3 : decode cX0_sideOf 3 = .ok (.iconst 1, 1) := dk_4 (dk_at dksX0_sideOf_0 3 rfl rfl)
theorem dX0_sideOf_4 : decode cX0_sideOf 4 = .ok (.iload_n 2, 1) := dk_28 (dk_at dksX0_sideOf_0 4 rfl rfl)
theorem dX0_sideOf_5 : decode cX0_sideOf 5 = .ok (.iconst (-1), 1) := dk_2 (dk_at dksX0_sideOf_0 5 rfl rfl)
theorem dX0_sideOf_6 : decode cX0_sideOf 6 = .ok (.invokevirtual 113, 3) := dk_182 0 113 (dk_at dksX0_sideOf_0 6 rfl rfl)
theorem dX0_sideOf_9 : decode cX0_sideOf 9 = .ok (.ifCond .gt 7, 3) := dk_157 0 7 (dk_at dksX0_sideOf_0 9 rfl rfl)
theorem dX0_sideOf_12 : decode cX0_sideOf 12 = .ok (.iconst 1, 1) := dk_4 (dk_at dksX0_sideOf_0 12 rfl rfl)
theorem dX0_sideOf_13 : decode cX0_sideOf 13 = .ok (.goto 4, 3) := dk_167 0 4 (dk_at dksX0_sideOf_0 13 rfl rfl)
theorem dX0_sideOf_16 : decode cX0_sideOf 16 = .ok (.iconst (-1), 1) := dk_2 (dk_at dksX0_sideOf_0 16 rfl rfl)
theorem dX0_sideOf_17 : decode cX0_sideOf 17 = .ok (.ireturn, 1) := dk_172 (dk_at dksX0_sideOf_0 17 rfl rfl)
abbrev cX0_compared : ByteArray := prog_1_method_12_code
def yX0_compared : MethodName := ⟨RX0, "compared", "(IIIII)I"⟩
def dkwX0_compared_3 : List UInt8 := [21, 10, 104, 182, 0, 101, 54, 7, 132, 8, 255, 167, 255, 189, 3, 172]
abbrev dktX0_compared_3 : List UInt8 := dkwX0_compared_3 ++ []
def dkwX0_compared_2 : List UInt8 := [21, 9, 21, 10, 100, 172, 42, 21, 6, 29, 21, 9, 104, 182, 0, 101, 54, 6, 42, 21, 7, 21, 5]
abbrev dktX0_compared_2 : List UInt8 := dkwX0_compared_2 ++ dktX0_compared_3
def dkwX0_compared_1 : List UInt8 := [182, 0, 104, 54, 9, 42, 27, 21, 7, 21, 5, 182, 0, 104, 54, 10, 21, 9, 21, 10, 159, 0, 9]
abbrev dktX0_compared_1 : List UInt8 := dkwX0_compared_1 ++ dktX0_compared_2
def dkwX0_compared_0 : List UInt8 := [28, 54, 6, 21, 4, 54, 7, 27, 184, 0, 108, 54, 8, 21, 8, 158, 0, 68, 42, 27, 21, 6, 29]
abbrev dktX0_compared_0 : List UInt8 := dkwX0_compared_0 ++ dktX0_compared_1
theorem dksX0_compared_0 : cX0_compared.data.toList.drop 0 = dktX0_compared_0 := by decide +kernel
theorem dksX0_compared_1 : cX0_compared.data.toList.drop 23 = dktX0_compared_1 := dk_seg dksX0_compared_0 23 rfl rfl
theorem dksX0_compared_2 : cX0_compared.data.toList.drop 46 = dktX0_compared_2 := dk_seg dksX0_compared_1 23 rfl rfl
theorem dksX0_compared_3 : cX0_compared.data.toList.drop 69 = dktX0_compared_3 := dk_seg dksX0_compared_2 23 rfl rfl
theorem dX0_compared_0 : decode cX0_compared 0 = .ok (.iload_n 2, 1) := dk_28 (dk_at dksX0_compared_0 0 rfl rfl)
theorem dX0_compared_1 : decode cX0_compared 1 = .ok (.istore 6, 2) := dk_54 6 (dk_at dksX0_compared_0 1 rfl rfl)
theorem dX0_compared_3 : decode cX0_compared 3 = .ok (.iload 4, 2) := dk_21 4 (dk_at dksX0_compared_0 3 rfl rfl)
theorem dX0_compared_5 : decode cX0_compared 5 = .ok (.istore 7, 2) := dk_54 7 (dk_at dksX0_compared_0 5 rfl rfl)
theorem dX0_compared_7 : decode cX0_compared 7 = .ok (.iload_n 1, 1) := dk_27 (dk_at dksX0_compared_0 7 rfl rfl)
theorem dX0_compared_8 : decode cX0_compared 8 = .ok (.invokestatic 108, 3) := dk_184 0 108 (dk_at dksX0_compared_0 8 rfl rfl)
theorem dX0_compared_11 : decode cX0_compared 11 = .ok (.istore 8, 2) := dk_54 8 (dk_at dksX0_compared_0 11 rfl rfl)
theorem dX0_compared_13 : decode cX0_compared 13 = .ok (.iload 8, 2) := dk_21 8 (dk_at dksX0_compared_0 13 rfl rfl)
theorem dX0_compared_15 : decode cX0_compared 15 = .ok (.ifCond .le 68, 3) := dk_158 0 68 (dk_at dksX0_compared_0 15 rfl rfl)
theorem dX0_compared_18 : decode cX0_compared 18 = .ok (.aload_n 0, 1) := dk_42 (dk_at dksX0_compared_0 18 rfl rfl)
theorem dX0_compared_19 : decode cX0_compared 19 = .ok (.iload_n 1, 1) := dk_27 (dk_at dksX0_compared_0 19 rfl rfl)
theorem dX0_compared_20 : decode cX0_compared 20 = .ok (.iload 6, 2) := dk_21 6 (dk_at dksX0_compared_0 20 rfl rfl)
theorem dX0_compared_22 : decode cX0_compared 22 = .ok (.iload_n 3, 1) := dk_29 (dk_at dksX0_compared_0 22 rfl rfl)
theorem dX0_compared_23 : decode cX0_compared 23 = .ok (.invokevirtual 104, 3) := dk_182 0 104 (dk_at dksX0_compared_1 0 rfl rfl)
theorem dX0_compared_26 : decode cX0_compared 26 = .ok (.istore 9, 2) := dk_54 9 (dk_at dksX0_compared_1 3 rfl rfl)
theorem dX0_compared_28 : decode cX0_compared 28 = .ok (.aload_n 0, 1) := dk_42 (dk_at dksX0_compared_1 5 rfl rfl)
theorem dX0_compared_29 : decode cX0_compared 29 = .ok (.iload_n 1, 1) := dk_27 (dk_at dksX0_compared_1 6 rfl rfl)
theorem dX0_compared_30 : decode cX0_compared 30 = .ok (.iload 7, 2) := dk_21 7 (dk_at dksX0_compared_1 7 rfl rfl)
theorem dX0_compared_32 : decode cX0_compared 32 = .ok (.iload 5, 2) := dk_21 5 (dk_at dksX0_compared_1 9 rfl rfl)
theorem dX0_compared_34 : decode cX0_compared 34 = .ok (.invokevirtual 104, 3) := dk_182 0 104 (dk_at dksX0_compared_1 11 rfl rfl)
theorem dX0_compared_37 : decode cX0_compared 37 = .ok (.istore 10, 2) := dk_54 10 (dk_at dksX0_compared_1 14 rfl rfl)
theorem dX0_compared_39 : decode cX0_compared 39 = .ok (.iload 9, 2) := dk_21 9 (dk_at dksX0_compared_1 16 rfl rfl)
theorem dX0_compared_41 : decode cX0_compared 41 = .ok (.iload 10, 2) := dk_21 10 (dk_at dksX0_compared_1 18 rfl rfl)
theorem dX0_compared_43 : decode cX0_compared 43 = .ok (.if_icmp .eq 9, 3) := dk_159 0 9 (dk_at dksX0_compared_1 20 rfl rfl)
theorem dX0_compared_46 : decode cX0_compared 46 = .ok (.iload 9, 2) := dk_21 9 (dk_at dksX0_compared_2 0 rfl rfl)
theorem dX0_compared_48 : decode cX0_compared 48 = .ok (.iload 10, 2) := dk_21 10 (dk_at dksX0_compared_2 2 rfl rfl)
theorem dX0_compared_50 : decode cX0_compared 50 = .ok (.isub, 1) := dk_100 (dk_at dksX0_compared_2 4 rfl rfl)
theorem dX0_compared_51 : decode cX0_compared 51 = .ok (.ireturn, 1) := dk_172 (dk_at dksX0_compared_2 5 rfl rfl)
theorem dX0_compared_52 : decode cX0_compared 52 = .ok (.aload_n 0, 1) := dk_42 (dk_at dksX0_compared_2 6 rfl rfl)
theorem dX0_compared_53 : decode cX0_compared 53 = .ok (.iload 6, 2) := dk_21 6 (dk_at dksX0_compared_2 7 rfl rfl)
theorem dX0_compared_55 : decode cX0_compared 55 = .ok (.iload_n 3, 1) := dk_29 (dk_at dksX0_compared_2 9 rfl rfl)
theorem dX0_compared_56 : decode cX0_compared 56 = .ok (.iload 9, 2) := dk_21 9 (dk_at dksX0_compared_2 10 rfl rfl)
theorem dX0_compared_58 : decode cX0_compared 58 = .ok (.imul, 1) := dk_104 (dk_at dksX0_compared_2 12 rfl rfl)
theorem dX0_compared_59 : decode cX0_compared 59 = .ok (.invokevirtual 101, 3) := dk_182 0 101 (dk_at dksX0_compared_2 13 rfl rfl)
theorem dX0_compared_62 : decode cX0_compared 62 = .ok (.istore 6, 2) := dk_54 6 (dk_at dksX0_compared_2 16 rfl rfl)
theorem dX0_compared_64 : decode cX0_compared 64 = .ok (.aload_n 0, 1) := dk_42 (dk_at dksX0_compared_2 18 rfl rfl)
theorem dX0_compared_65 : decode cX0_compared 65 = .ok (.iload 7, 2) := dk_21 7 (dk_at dksX0_compared_2 19 rfl rfl)
theorem dX0_compared_67 : decode cX0_compared 67 = .ok (.iload 5, 2) := dk_21 5 (dk_at dksX0_compared_2 21 rfl rfl)
theorem dX0_compared_69 : decode cX0_compared 69 = .ok (.iload 10, 2) := dk_21 10 (dk_at dksX0_compared_3 0 rfl rfl)
theorem dX0_compared_71 : decode cX0_compared 71 = .ok (.imul, 1) := dk_104 (dk_at dksX0_compared_3 2 rfl rfl)
theorem dX0_compared_72 : decode cX0_compared 72 = .ok (.invokevirtual 101, 3) := dk_182 0 101 (dk_at dksX0_compared_3 3 rfl rfl)
theorem dX0_compared_75 : decode cX0_compared 75 = .ok (.istore 7, 2) := dk_54 7 (dk_at dksX0_compared_3 6 rfl rfl)
theorem dX0_compared_77 : decode cX0_compared 77 = .ok (.iinc 8 (-1), 3) := dk_132 8 255 (dk_at dksX0_compared_3 8 rfl rfl)
theorem dX0_compared_80 : decode cX0_compared 80 = .ok (.goto (-67), 3) := dk_167 255 189 (dk_at dksX0_compared_3 11 rfl rfl)
theorem dX0_compared_83 : decode cX0_compared 83 = .ok (.iconst 0, 1) := dk_3 (dk_at dksX0_compared_3 14 rfl rfl)
theorem dX0_compared_84 : decode cX0_compared 84 = .ok (.ireturn, 1) := dk_172 (dk_at dksX0_compared_3 15 rfl rfl)
abbrev cX0_gapOf : ByteArray := prog_1_method_10_code
def yX0_gapOf : MethodName := ⟨RX0, "gapOf", "(III)I"⟩
def dkwX0_gapOf_1 : List UInt8 := [182, 0, 101, 54, 5, 132, 4, 1, 167, 255, 235, 21, 4, 172]
abbrev dktX0_gapOf_1 : List UInt8 := dkwX0_gapOf_1 ++ []
def dkwX0_gapOf_0 : List UInt8 := [4, 54, 4, 42, 28, 29, 182, 0, 101, 54, 5, 27, 21, 5, 122, 4, 126, 154, 0, 18, 42, 21, 5, 29]
abbrev dktX0_gapOf_0 : List UInt8 := dkwX0_gapOf_0 ++ dktX0_gapOf_1
theorem dksX0_gapOf_0 : cX0_gapOf.data.toList.drop 0 = dktX0_gapOf_0 := by decide +kernel
theorem dksX0_gapOf_1 : cX0_gapOf.data.toList.drop 24 = dktX0_gapOf_1 := dk_seg dksX0_gapOf_0 24 rfl rfl
theorem dX0_gapOf_0 : decode cX0_gapOf 0 = .ok (.iconst 1, 1) := dk_4 (dk_at dksX0_gapOf_0 0 rfl rfl)
theorem dX0_gapOf_1 : decode cX0_gapOf 1 = .ok (.istore 4, 2) := dk_54 4 (dk_at dksX0_gapOf_0 1 rfl rfl)
theorem dX0_gapOf_3 : decode cX0_gapOf 3 = .ok (.aload_n 0, 1) := dk_42 (dk_at dksX0_gapOf_0 3 rfl rfl)
theorem dX0_gapOf_4 : decode cX0_gapOf 4 = .ok (.iload_n 2, 1) := dk_28 (dk_at dksX0_gapOf_0 4 rfl rfl)
theorem dX0_gapOf_5 : decode cX0_gapOf 5 = .ok (.iload_n 3, 1) := dk_29 (dk_at dksX0_gapOf_0 5 rfl rfl)
theorem dX0_gapOf_6 : decode cX0_gapOf 6 = .ok (.invokevirtual 101, 3) := dk_182 0 101 (dk_at dksX0_gapOf_0 6 rfl rfl)
theorem dX0_gapOf_9 : decode cX0_gapOf 9 = .ok (.istore 5, 2) := dk_54 5 (dk_at dksX0_gapOf_0 9 rfl rfl)
theorem dX0_gapOf_11 : decode cX0_gapOf 11 = .ok (.iload_n 1, 1) := dk_27 (dk_at dksX0_gapOf_0 11 rfl rfl)
theorem dX0_gapOf_12 : decode cX0_gapOf 12 = .ok (.iload 5, 2) := dk_21 5 (dk_at dksX0_gapOf_0 12 rfl rfl)
theorem dX0_gapOf_14 : decode cX0_gapOf 14 = .ok (.ishr, 1) := dk_122 (dk_at dksX0_gapOf_0 14 rfl rfl)
theorem dX0_gapOf_15 : decode cX0_gapOf 15 = .ok (.iconst 1, 1) := dk_4 (dk_at dksX0_gapOf_0 15 rfl rfl)
theorem dX0_gapOf_16 : decode cX0_gapOf 16 = .ok (.iand, 1) := dk_126 (dk_at dksX0_gapOf_0 16 rfl rfl)
theorem dX0_gapOf_17 : decode cX0_gapOf 17 = .ok (.ifCond .ne 18, 3) := dk_154 0 18 (dk_at dksX0_gapOf_0 17 rfl rfl)
theorem dX0_gapOf_20 : decode cX0_gapOf 20 = .ok (.aload_n 0, 1) := dk_42 (dk_at dksX0_gapOf_0 20 rfl rfl)
theorem dX0_gapOf_21 : decode cX0_gapOf 21 = .ok (.iload 5, 2) := dk_21 5 (dk_at dksX0_gapOf_0 21 rfl rfl)
theorem dX0_gapOf_23 : decode cX0_gapOf 23 = .ok (.iload_n 3, 1) := dk_29 (dk_at dksX0_gapOf_0 23 rfl rfl)
theorem dX0_gapOf_24 : decode cX0_gapOf 24 = .ok (.invokevirtual 101, 3) := dk_182 0 101 (dk_at dksX0_gapOf_1 0 rfl rfl)
theorem dX0_gapOf_27 : decode cX0_gapOf 27 = .ok (.istore 5, 2) := dk_54 5 (dk_at dksX0_gapOf_1 3 rfl rfl)
theorem dX0_gapOf_29 : decode cX0_gapOf 29 = .ok (.iinc 4 1, 3) := dk_132 4 1 (dk_at dksX0_gapOf_1 5 rfl rfl)
theorem dX0_gapOf_32 : decode cX0_gapOf 32 = .ok (.goto (-21), 3) := dk_167 255 235 (dk_at dksX0_gapOf_1 8 rfl rfl)
theorem dX0_gapOf_35 : decode cX0_gapOf 35 = .ok (.iload 4, 2) := dk_21 4 (dk_at dksX0_gapOf_1 11 rfl rfl)
theorem dX0_gapOf_37 : decode cX0_gapOf 37 = .ok (.ireturn, 1) := dk_172 (dk_at dksX0_gapOf_1 13 rfl rfl)
abbrev cX0_beyond : ByteArray := prog_1_method_9_code
def yX0_beyond : MethodName := ⟨RX0, "beyond", "(II)I"⟩
def dkwX0_beyond_0 : List UInt8 := [27, 28, 96, 42, 180, 0, 16, 180, 0, 70, 184, 0, 95, 172]
abbrev dktX0_beyond_0 : List UInt8 := dkwX0_beyond_0 ++ []
theorem dksX0_beyond_0 : cX0_beyond.data.toList.drop 0 = dktX0_beyond_0 := by decide +kernel
theorem dX0_beyond_0 : decode cX0_beyond 0 = .ok (.iload_n 1, 1) := dk_27 (dk_at dksX0_beyond_0 0 rfl rfl)
theorem dX0_beyond_1 : decode cX0_beyond 1 = .ok (.iload_n 2, 1) := dk_28 (dk_at dksX0_beyond_0 1 rfl rfl)
theorem dX0_beyond_2 : decode cX0_beyond 2 = .ok (.iadd, 1) := dk_96 (dk_at dksX0_beyond_0 2 rfl rfl)
theorem dX0_beyond_3 : decode cX0_beyond 3 = .ok (.aload_n 0, 1) := dk_42 (dk_at dksX0_beyond_0 3 rfl rfl)
theorem dX0_beyond_4 : decode cX0_beyond 4 = .ok (.getfield 16, 3) := dk_180 0 16 (dk_at dksX0_beyond_0 4 rfl rfl)
theorem dX0_beyond_7 : decode cX0_beyond 7 = .ok (.getfield 70, 3) := dk_180 0 70 (dk_at dksX0_beyond_0 7 rfl rfl)
theorem dX0_beyond_10 : decode cX0_beyond 10 = .ok (.invokestatic 95, 3) := dk_184 0 95 (dk_at dksX0_beyond_0 10 rfl rfl)
theorem dX0_beyond_13 : decode cX0_beyond 13 = .ok (.ireturn, 1) := dk_172 (dk_at dksX0_beyond_0 13 rfl rfl)
abbrev cX0_gapAt : ByteArray := prog_1_method_11_code
def yX0_gapAt : MethodName := ⟨RX0, "gapAt", "(IIII)I"⟩
def dkwX0_gapAt_1 : List UInt8 := [182, 0, 104, 104, 182, 0, 101, 54, 5, 132, 6, 1, 167, 255, 228, 42, 27, 21, 5, 29, 182, 0, 104, 172]
abbrev dktX0_gapAt_1 : List UInt8 := dkwX0_gapAt_1 ++ []
def dkwX0_gapAt_0 : List UInt8 := [28, 54, 5, 3, 54, 6, 21, 6, 21, 4, 162, 0, 27, 42, 21, 5, 29, 42, 27, 21, 5, 29]
abbrev dktX0_gapAt_0 : List UInt8 := dkwX0_gapAt_0 ++ dktX0_gapAt_1
theorem dksX0_gapAt_0 : cX0_gapAt.data.toList.drop 0 = dktX0_gapAt_0 := by decide +kernel
theorem dksX0_gapAt_1 : cX0_gapAt.data.toList.drop 22 = dktX0_gapAt_1 := dk_seg dksX0_gapAt_0 22 rfl rfl
theorem dX0_gapAt_0 : decode cX0_gapAt 0 = .ok (.iload_n 2, 1) := dk_28 (dk_at dksX0_gapAt_0 0 rfl rfl)
theorem dX0_gapAt_1 : decode cX0_gapAt 1 = .ok (.istore 5, 2) := dk_54 5 (dk_at dksX0_gapAt_0 1 rfl rfl)
theorem dX0_gapAt_3 : decode cX0_gapAt 3 = .ok (.iconst 0, 1) := dk_3 (dk_at dksX0_gapAt_0 3 rfl rfl)
theorem dX0_gapAt_4 : decode cX0_gapAt 4 = .ok (.istore 6, 2) := dk_54 6 (dk_at dksX0_gapAt_0 4 rfl rfl)
theorem dX0_gapAt_6 : decode cX0_gapAt 6 = .ok (.iload 6, 2) := dk_21 6 (dk_at dksX0_gapAt_0 6 rfl rfl)
theorem dX0_gapAt_8 : decode cX0_gapAt 8 = .ok (.iload 4, 2) := dk_21 4 (dk_at dksX0_gapAt_0 8 rfl rfl)
theorem dX0_gapAt_10 : decode cX0_gapAt 10 = .ok (.if_icmp .ge 27, 3) := dk_162 0 27 (dk_at dksX0_gapAt_0 10 rfl rfl)
theorem dX0_gapAt_13 : decode cX0_gapAt 13 = .ok (.aload_n 0, 1) := dk_42 (dk_at dksX0_gapAt_0 13 rfl rfl)
theorem dX0_gapAt_14 : decode cX0_gapAt 14 = .ok (.iload 5, 2) := dk_21 5 (dk_at dksX0_gapAt_0 14 rfl rfl)
theorem dX0_gapAt_16 : decode cX0_gapAt 16 = .ok (.iload_n 3, 1) := dk_29 (dk_at dksX0_gapAt_0 16 rfl rfl)
theorem dX0_gapAt_17 : decode cX0_gapAt 17 = .ok (.aload_n 0, 1) := dk_42 (dk_at dksX0_gapAt_0 17 rfl rfl)
theorem dX0_gapAt_18 : decode cX0_gapAt 18 = .ok (.iload_n 1, 1) := dk_27 (dk_at dksX0_gapAt_0 18 rfl rfl)
theorem dX0_gapAt_19 : decode cX0_gapAt 19 = .ok (.iload 5, 2) := dk_21 5 (dk_at dksX0_gapAt_0 19 rfl rfl)
theorem dX0_gapAt_21 : decode cX0_gapAt 21 = .ok (.iload_n 3, 1) := dk_29 (dk_at dksX0_gapAt_0 21 rfl rfl)
theorem dX0_gapAt_22 : decode cX0_gapAt 22 = .ok (.invokevirtual 104, 3) := dk_182 0 104 (dk_at dksX0_gapAt_1 0 rfl rfl)
theorem dX0_gapAt_25 : decode cX0_gapAt 25 = .ok (.imul, 1) := dk_104 (dk_at dksX0_gapAt_1 3 rfl rfl)
theorem dX0_gapAt_26 : decode cX0_gapAt 26 = .ok (.invokevirtual 101, 3) := dk_182 0 101 (dk_at dksX0_gapAt_1 4 rfl rfl)
theorem dX0_gapAt_29 : decode cX0_gapAt 29 = .ok (.istore 5, 2) := dk_54 5 (dk_at dksX0_gapAt_1 7 rfl rfl)
theorem dX0_gapAt_31 : decode cX0_gapAt 31 = .ok (.iinc 6 1, 3) := dk_132 6 1 (dk_at dksX0_gapAt_1 9 rfl rfl)
theorem dX0_gapAt_34 : decode cX0_gapAt 34 = .ok (.goto (-28), 3) := dk_167 255 228 (dk_at dksX0_gapAt_1 12 rfl rfl)
theorem dX0_gapAt_37 : decode cX0_gapAt 37 = .ok (.aload_n 0, 1) := dk_42 (dk_at dksX0_gapAt_1 15 rfl rfl)
theorem dX0_gapAt_38 : decode cX0_gapAt 38 = .ok (.iload_n 1, 1) := dk_27 (dk_at dksX0_gapAt_1 16 rfl rfl)
theorem dX0_gapAt_39 : decode cX0_gapAt 39 = .ok (.iload 5, 2) := dk_21 5 (dk_at dksX0_gapAt_1 17 rfl rfl)
theorem dX0_gapAt_41 : decode cX0_gapAt 41 = .ok (.iload_n 3, 1) := dk_29 (dk_at dksX0_gapAt_1 19 rfl rfl)
theorem dX0_gapAt_42 : decode cX0_gapAt 42 = .ok (.invokevirtual 104, 3) := dk_182 0 104 (dk_at dksX0_gapAt_1 20 rfl rfl)
theorem dX0_gapAt_45 : decode cX0_gapAt 45 = .ok (.ireturn, 1) := dk_172 (dk_at dksX0_gapAt_1 23 rfl rfl)
abbrev cX0_shape : ByteArray := prog_1_method_19_code
def yX0_shape : MethodName := ⟨RX0, "shape", "(I)I"⟩
def dkwX0_shape_5 : List UInt8 := [182, 0, 172, 172, 42, 28, 182, 0, 175, 172, 42, 28, 182, 0, 178, 172, 16, 254, 172]
abbrev dktX0_shape_5 : List UInt8 := dkwX0_shape_5 ++ []
def dkwX0_shape_4 : List UInt8 := [154, 0, 18, 42, 180, 0, 40, 28, 182, 0, 169, 154, 0, 7, 4, 167, 0, 4, 3, 172, 42, 28]
abbrev dktX0_shape_4 : List UInt8 := dkwX0_shape_4 ++ dktX0_shape_5
def dkwX0_shape_3 : List UInt8 := [182, 0, 169, 153, 0, 7, 4, 167, 0, 4, 3, 172, 28, 153, 0, 29, 42, 180, 0, 33, 28, 182, 0, 169]
abbrev dktX0_shape_3 : List UInt8 := dkwX0_shape_3 ++ dktX0_shape_4
def dkwX0_shape_2 : List UInt8 := [42, 180, 0, 33, 28, 182, 0, 169, 153, 0, 7, 4, 167, 0, 4, 3, 172, 42, 180, 0, 40, 28]
abbrev dktX0_shape_2 : List UInt8 := dkwX0_shape_2 ++ dktX0_shape_3
def dkwX0_shape_1 : List UInt8 := [170, 0, 0, 0, 0, 122, 0, 0, 0, 0, 0, 0, 0, 5, 0, 0, 0, 38, 0, 0, 0, 55, 0, 0, 0, 72, 0, 0, 0, 104, 0, 0, 0, 110, 0, 0, 0, 116]
abbrev dktX0_shape_1 : List UInt8 := dkwX0_shape_1 ++ dktX0_shape_2
def dkwX0_shape_0 : List UInt8 := [42, 182, 0, 122, 61, 27]
abbrev dktX0_shape_0 : List UInt8 := dkwX0_shape_0 ++ dktX0_shape_1
theorem dksX0_shape_0 : cX0_shape.data.toList.drop 0 = dktX0_shape_0 := by decide +kernel
theorem dksX0_shape_1 : cX0_shape.data.toList.drop 6 = dktX0_shape_1 := dk_seg dksX0_shape_0 6 rfl rfl
theorem dksX0_shape_2 : cX0_shape.data.toList.drop 44 = dktX0_shape_2 := dk_seg dksX0_shape_1 38 rfl rfl
theorem dksX0_shape_3 : cX0_shape.data.toList.drop 66 = dktX0_shape_3 := dk_seg dksX0_shape_2 22 rfl rfl
theorem dksX0_shape_4 : cX0_shape.data.toList.drop 90 = dktX0_shape_4 := dk_seg dksX0_shape_3 24 rfl rfl
theorem dksX0_shape_5 : cX0_shape.data.toList.drop 112 = dktX0_shape_5 := dk_seg dksX0_shape_4 22 rfl rfl
theorem dX0_shape_0 : decode cX0_shape 0 = .ok (.aload_n 0, 1) := dk_42 (dk_at dksX0_shape_0 0 rfl rfl)
theorem dX0_shape_1 : decode cX0_shape 1 = .ok (.invokevirtual 122, 3) := dk_182 0 122 (dk_at dksX0_shape_0 1 rfl rfl)
theorem dX0_shape_4 : decode cX0_shape 4 = .ok (.istore_n 2, 1) := dk_61 (dk_at dksX0_shape_0 4 rfl rfl)
theorem dX0_shape_5 : decode cX0_shape 5 = .ok (.iload_n 1, 1) := dk_27 (dk_at dksX0_shape_0 5 rfl rfl)
theorem dX0_shape_6 : decode cX0_shape 6 = .ok (.tableswitch 122 0 5 #[38, 55, 72, 104, 110, 116], 38) := by decide +kernel
theorem dX0_shape_44 : decode cX0_shape 44 = .ok (.aload_n 0, 1) := dk_42 (dk_at dksX0_shape_2 0 rfl rfl)
theorem dX0_shape_45 : decode cX0_shape 45 = .ok (.getfield 33, 3) := dk_180 0 33 (dk_at dksX0_shape_2 1 rfl rfl)
theorem dX0_shape_48 : decode cX0_shape 48 = .ok (.iload_n 2, 1) := dk_28 (dk_at dksX0_shape_2 4 rfl rfl)
theorem dX0_shape_49 : decode cX0_shape 49 = .ok (.invokevirtual 169, 3) := dk_182 0 169 (dk_at dksX0_shape_2 5 rfl rfl)
theorem dX0_shape_52 : decode cX0_shape 52 = .ok (.ifCond .eq 7, 3) := dk_153 0 7 (dk_at dksX0_shape_2 8 rfl rfl)
theorem dX0_shape_55 : decode cX0_shape 55 = .ok (.iconst 1, 1) := dk_4 (dk_at dksX0_shape_2 11 rfl rfl)
theorem dX0_shape_56 : decode cX0_shape 56 = .ok (.goto 4, 3) := dk_167 0 4 (dk_at dksX0_shape_2 12 rfl rfl)
theorem dX0_shape_59 : decode cX0_shape 59 = .ok (.iconst 0, 1) := dk_3 (dk_at dksX0_shape_2 15 rfl rfl)
theorem dX0_shape_60 : decode cX0_shape 60 = .ok (.ireturn, 1) := dk_172 (dk_at dksX0_shape_2 16 rfl rfl)
theorem dX0_shape_61 : decode cX0_shape 61 = .ok (.aload_n 0, 1) := dk_42 (dk_at dksX0_shape_2 17 rfl rfl)
theorem dX0_shape_62 : decode cX0_shape 62 = .ok (.getfield 40, 3) := dk_180 0 40 (dk_at dksX0_shape_2 18 rfl rfl)
theorem dX0_shape_65 : decode cX0_shape 65 = .ok (.iload_n 2, 1) := dk_28 (dk_at dksX0_shape_2 21 rfl rfl)
theorem dX0_shape_66 : decode cX0_shape 66 = .ok (.invokevirtual 169, 3) := dk_182 0 169 (dk_at dksX0_shape_3 0 rfl rfl)
theorem dX0_shape_69 : decode cX0_shape 69 = .ok (.ifCond .eq 7, 3) := dk_153 0 7 (dk_at dksX0_shape_3 3 rfl rfl)
theorem dX0_shape_72 : decode cX0_shape 72 = .ok (.iconst 1, 1) := dk_4 (dk_at dksX0_shape_3 6 rfl rfl)
theorem dX0_shape_73 : decode cX0_shape 73 = .ok (.goto 4, 3) := dk_167 0 4 (dk_at dksX0_shape_3 7 rfl rfl)
theorem dX0_shape_76 : decode cX0_shape 76 = .ok (.iconst 0, 1) := dk_3 (dk_at dksX0_shape_3 10 rfl rfl)
theorem dX0_shape_77 : decode cX0_shape 77 = .ok (.ireturn, 1) := dk_172 (dk_at dksX0_shape_3 11 rfl rfl)
theorem dX0_shape_78 : decode cX0_shape 78 = .ok (.iload_n 2, 1) := dk_28 (dk_at dksX0_shape_3 12 rfl rfl)
theorem dX0_shape_79 : decode cX0_shape 79 = .ok (.ifCond .eq 29, 3) := dk_153 0 29 (dk_at dksX0_shape_3 13 rfl rfl)
theorem dX0_shape_82 : decode cX0_shape 82 = .ok (.aload_n 0, 1) := dk_42 (dk_at dksX0_shape_3 16 rfl rfl)
theorem dX0_shape_83 : decode cX0_shape 83 = .ok (.getfield 33, 3) := dk_180 0 33 (dk_at dksX0_shape_3 17 rfl rfl)
theorem dX0_shape_86 : decode cX0_shape 86 = .ok (.iload_n 2, 1) := dk_28 (dk_at dksX0_shape_3 20 rfl rfl)
theorem dX0_shape_87 : decode cX0_shape 87 = .ok (.invokevirtual 169, 3) := dk_182 0 169 (dk_at dksX0_shape_3 21 rfl rfl)
theorem dX0_shape_90 : decode cX0_shape 90 = .ok (.ifCond .ne 18, 3) := dk_154 0 18 (dk_at dksX0_shape_4 0 rfl rfl)
theorem dX0_shape_93 : decode cX0_shape 93 = .ok (.aload_n 0, 1) := dk_42 (dk_at dksX0_shape_4 3 rfl rfl)
theorem dX0_shape_94 : decode cX0_shape 94 = .ok (.getfield 40, 3) := dk_180 0 40 (dk_at dksX0_shape_4 4 rfl rfl)
theorem dX0_shape_97 : decode cX0_shape 97 = .ok (.iload_n 2, 1) := dk_28 (dk_at dksX0_shape_4 7 rfl rfl)
theorem dX0_shape_98 : decode cX0_shape 98 = .ok (.invokevirtual 169, 3) := dk_182 0 169 (dk_at dksX0_shape_4 8 rfl rfl)
theorem dX0_shape_101 : decode cX0_shape 101 = .ok (.ifCond .ne 7, 3) := dk_154 0 7 (dk_at dksX0_shape_4 11 rfl rfl)
theorem dX0_shape_104 : decode cX0_shape 104 = .ok (.iconst 1, 1) := dk_4 (dk_at dksX0_shape_4 14 rfl rfl)
theorem dX0_shape_105 : decode cX0_shape 105 = .ok (.goto 4, 3) := dk_167 0 4 (dk_at dksX0_shape_4 15 rfl rfl)
theorem dX0_shape_108 : decode cX0_shape 108 = .ok (.iconst 0, 1) := dk_3 (dk_at dksX0_shape_4 18 rfl rfl)
theorem dX0_shape_109 : decode cX0_shape 109 = .ok (.ireturn, 1) := dk_172 (dk_at dksX0_shape_4 19 rfl rfl)
theorem dX0_shape_110 : decode cX0_shape 110 = .ok (.aload_n 0, 1) := dk_42 (dk_at dksX0_shape_4 20 rfl rfl)
theorem dX0_shape_111 : decode cX0_shape 111 = .ok (.iload_n 2, 1) := dk_28 (dk_at dksX0_shape_4 21 rfl rfl)
theorem dX0_shape_112 : decode cX0_shape 112 = .ok (.invokevirtual 172, 3) := dk_182 0 172 (dk_at dksX0_shape_5 0 rfl rfl)
theorem dX0_shape_115 : decode cX0_shape 115 = .ok (.ireturn, 1) := dk_172 (dk_at dksX0_shape_5 3 rfl rfl)
theorem dX0_shape_116 : decode cX0_shape 116 = .ok (.aload_n 0, 1) := dk_42 (dk_at dksX0_shape_5 4 rfl rfl)
theorem dX0_shape_117 : decode cX0_shape 117 = .ok (.iload_n 2, 1) := dk_28 (dk_at dksX0_shape_5 5 rfl rfl)
theorem dX0_shape_118 : decode cX0_shape 118 = .ok (.invokevirtual 175, 3) := dk_182 0 175 (dk_at dksX0_shape_5 6 rfl rfl)
theorem dX0_shape_121 : decode cX0_shape 121 = .ok (.ireturn, 1) := dk_172 (dk_at dksX0_shape_5 9 rfl rfl)
theorem dX0_shape_122 : decode cX0_shape 122 = .ok (.aload_n 0, 1) := dk_42 (dk_at dksX0_shape_5 10 rfl rfl)
theorem dX0_shape_123 : decode cX0_shape 123 = .ok (.iload_n 2, 1) := dk_28 (dk_at dksX0_shape_5 11 rfl rfl)
theorem dX0_shape_124 : decode cX0_shape 124 = .ok (.invokevirtual 178, 3) := dk_182 0 178 (dk_at dksX0_shape_5 12 rfl rfl)
theorem dX0_shape_127 : decode cX0_shape 127 = .ok (.ireturn, 1) := dk_172 (dk_at dksX0_shape_5 15 rfl rfl)
theorem dX0_shape_128 : decode cX0_shape 128 = .ok (.bipush (-2), 2) := dk_16 254 (dk_at dksX0_shape_5 16 rfl rfl)
theorem dX0_shape_130 : decode cX0_shape 130 = .ok (.ireturn, 1) := dk_172 (dk_at dksX0_shape_5 18 rfl rfl)
abbrev cX0_evenOnes : ByteArray := prog_1_method_15_code
def yX0_evenOnes : MethodName := ⟨RX0, "evenOnes", "(I)I"⟩
def dkwX0_evenOnes_2 : List UInt8 := [182, 0, 154, 153, 0, 7, 4, 167, 0, 4, 3, 96, 61, 167, 255, 210, 28, 172]
abbrev dktX0_evenOnes_2 : List UInt8 := dkwX0_evenOnes_2 ++ []
def dkwX0_evenOnes_1 : List UInt8 := [185, 0, 147, 1, 0, 192, 0, 109, 182, 0, 151, 54, 4, 28, 42, 180, 0, 40, 27, 21, 4, 21, 4]
abbrev dktX0_evenOnes_1 : List UInt8 := dkwX0_evenOnes_1 ++ dktX0_evenOnes_2
def dkwX0_evenOnes_0 : List UInt8 := [3, 61, 187, 0, 132, 89, 27, 183, 0, 134, 182, 0, 137, 78, 45, 185, 0, 141, 1, 0, 153, 0, 43, 45]
abbrev dktX0_evenOnes_0 : List UInt8 := dkwX0_evenOnes_0 ++ dktX0_evenOnes_1
theorem dksX0_evenOnes_0 : cX0_evenOnes.data.toList.drop 0 = dktX0_evenOnes_0 := by decide +kernel
theorem dksX0_evenOnes_1 : cX0_evenOnes.data.toList.drop 24 = dktX0_evenOnes_1 := dk_seg dksX0_evenOnes_0 24 rfl rfl
theorem dksX0_evenOnes_2 : cX0_evenOnes.data.toList.drop 47 = dktX0_evenOnes_2 := dk_seg dksX0_evenOnes_1 23 rfl rfl
theorem dX0_evenOnes_0 : decode cX0_evenOnes 0 = .ok (.iconst 0, 1) := dk_3 (dk_at dksX0_evenOnes_0 0 rfl rfl)
theorem dX0_evenOnes_1 : decode cX0_evenOnes 1 = .ok (.istore_n 2, 1) := dk_61 (dk_at dksX0_evenOnes_0 1 rfl rfl)
theorem dX0_evenOnes_2 : decode cX0_evenOnes 2 = .ok (.new 132, 3) := dk_187 0 132 (dk_at dksX0_evenOnes_0 2 rfl rfl)
theorem dX0_evenOnes_5 : decode cX0_evenOnes 5 = .ok (.dup, 1) := dk_89 (dk_at dksX0_evenOnes_0 5 rfl rfl)
theorem dX0_evenOnes_6 : decode cX0_evenOnes 6 = .ok (.iload_n 1, 1) := dk_27 (dk_at dksX0_evenOnes_0 6 rfl rfl)
theorem dX0_evenOnes_7 : decode cX0_evenOnes 7 = .ok (.invokespecial 134, 3) := dk_183 0 134 (dk_at dksX0_evenOnes_0 7 rfl rfl)
theorem dX0_evenOnes_10 : decode cX0_evenOnes 10 = .ok (.invokevirtual 137, 3) := dk_182 0 137 (dk_at dksX0_evenOnes_0 10 rfl rfl)
theorem dX0_evenOnes_13 : decode cX0_evenOnes 13 = .ok (.astore_n 3, 1) := dk_78 (dk_at dksX0_evenOnes_0 13 rfl rfl)
theorem dX0_evenOnes_14 : decode cX0_evenOnes 14 = .ok (.aload_n 3, 1) := dk_45 (dk_at dksX0_evenOnes_0 14 rfl rfl)
theorem dX0_evenOnes_15 : decode cX0_evenOnes 15 = .ok (.invokeinterface 141 1, 5) := by decide +kernel
theorem dX0_evenOnes_20 : decode cX0_evenOnes 20 = .ok (.ifCond .eq 43, 3) := dk_153 0 43 (dk_at dksX0_evenOnes_0 20 rfl rfl)
theorem dX0_evenOnes_23 : decode cX0_evenOnes 23 = .ok (.aload_n 3, 1) := dk_45 (dk_at dksX0_evenOnes_0 23 rfl rfl)
theorem dX0_evenOnes_24 : decode cX0_evenOnes 24 = .ok (.invokeinterface 147 1, 5) := by decide +kernel
theorem dX0_evenOnes_29 : decode cX0_evenOnes 29 = .ok (.checkcast 109, 3) := dk_192 0 109 (dk_at dksX0_evenOnes_1 5 rfl rfl)
theorem dX0_evenOnes_32 : decode cX0_evenOnes 32 = .ok (.invokevirtual 151, 3) := dk_182 0 151 (dk_at dksX0_evenOnes_1 8 rfl rfl)
theorem dX0_evenOnes_35 : decode cX0_evenOnes 35 = .ok (.istore 4, 2) := dk_54 4 (dk_at dksX0_evenOnes_1 11 rfl rfl)
theorem dX0_evenOnes_37 : decode cX0_evenOnes 37 = .ok (.iload_n 2, 1) := dk_28 (dk_at dksX0_evenOnes_1 13 rfl rfl)
theorem dX0_evenOnes_38 : decode cX0_evenOnes 38 = .ok (.aload_n 0, 1) := dk_42 (dk_at dksX0_evenOnes_1 14 rfl rfl)
theorem dX0_evenOnes_39 : decode cX0_evenOnes 39 = .ok (.getfield 40, 3) := dk_180 0 40 (dk_at dksX0_evenOnes_1 15 rfl rfl)
theorem dX0_evenOnes_42 : decode cX0_evenOnes 42 = .ok (.iload_n 1, 1) := dk_27 (dk_at dksX0_evenOnes_1 18 rfl rfl)
theorem dX0_evenOnes_43 : decode cX0_evenOnes 43 = .ok (.iload 4, 2) := dk_21 4 (dk_at dksX0_evenOnes_1 19 rfl rfl)
theorem dX0_evenOnes_45 : decode cX0_evenOnes 45 = .ok (.iload 4, 2) := dk_21 4 (dk_at dksX0_evenOnes_1 21 rfl rfl)
theorem dX0_evenOnes_47 : decode cX0_evenOnes 47 = .ok (.invokevirtual 154, 3) := dk_182 0 154 (dk_at dksX0_evenOnes_2 0 rfl rfl)
theorem dX0_evenOnes_50 : decode cX0_evenOnes 50 = .ok (.ifCond .eq 7, 3) := dk_153 0 7 (dk_at dksX0_evenOnes_2 3 rfl rfl)
theorem dX0_evenOnes_53 : decode cX0_evenOnes 53 = .ok (.iconst 1, 1) := dk_4 (dk_at dksX0_evenOnes_2 6 rfl rfl)
theorem dX0_evenOnes_54 : decode cX0_evenOnes 54 = .ok (.goto 4, 3) := dk_167 0 4 (dk_at dksX0_evenOnes_2 7 rfl rfl)
theorem dX0_evenOnes_57 : decode cX0_evenOnes 57 = .ok (.iconst 0, 1) := dk_3 (dk_at dksX0_evenOnes_2 10 rfl rfl)
theorem dX0_evenOnes_58 : decode cX0_evenOnes 58 = .ok (.iadd, 1) := dk_96 (dk_at dksX0_evenOnes_2 11 rfl rfl)
theorem dX0_evenOnes_59 : decode cX0_evenOnes 59 = .ok (.istore_n 2, 1) := dk_61 (dk_at dksX0_evenOnes_2 12 rfl rfl)
theorem dX0_evenOnes_60 : decode cX0_evenOnes 60 = .ok (.goto (-46), 3) := dk_167 255 210 (dk_at dksX0_evenOnes_2 13 rfl rfl)
theorem dX0_evenOnes_63 : decode cX0_evenOnes 63 = .ok (.iload_n 2, 1) := dk_28 (dk_at dksX0_evenOnes_2 16 rfl rfl)
theorem dX0_evenOnes_64 : decode cX0_evenOnes 64 = .ok (.ireturn, 1) := dk_172 (dk_at dksX0_evenOnes_2 17 rfl rfl)
abbrev cX0_views : ByteArray := prog_1_method_16_code
def yX0_views : MethodName := ⟨RX0, "views", "(I)I"⟩
def dkwX0_views_0 : List UInt8 := [187, 0, 160, 89, 42, 183, 0, 162, 27, 182, 0, 163, 172]
abbrev dktX0_views_0 : List UInt8 := dkwX0_views_0 ++ []
theorem dksX0_views_0 : cX0_views.data.toList.drop 0 = dktX0_views_0 := by decide +kernel
theorem dX0_views_0 : decode cX0_views 0 = .ok (.new 160, 3) := dk_187 0 160 (dk_at dksX0_views_0 0 rfl rfl)
theorem dX0_views_3 : decode cX0_views 3 = .ok (.dup, 1) := dk_89 (dk_at dksX0_views_0 3 rfl rfl)
theorem dX0_views_4 : decode cX0_views 4 = .ok (.aload_n 0, 1) := dk_42 (dk_at dksX0_views_0 4 rfl rfl)
theorem dX0_views_5 : decode cX0_views 5 = .ok (.invokespecial 162, 3) := dk_183 0 162 (dk_at dksX0_views_0 5 rfl rfl)
theorem dX0_views_8 : decode cX0_views 8 = .ok (.iload_n 1, 1) := dk_27 (dk_at dksX0_views_0 8 rfl rfl)
theorem dX0_views_9 : decode cX0_views 9 = .ok (.invokevirtual 163, 3) := dk_182 0 163 (dk_at dksX0_views_0 9 rfl rfl)
theorem dX0_views_12 : decode cX0_views 12 = .ok (.ireturn, 1) := dk_172 (dk_at dksX0_views_0 12 rfl rfl)
abbrev cX0_turnsBy : ByteArray := prog_1_method_17_code
def yX0_turnsBy : MethodName := ⟨RX0, "turnsBy", "(I)I"⟩
def dkwX0_turnsBy_1 : List UInt8 := [154, 0, 8, 16, 250, 167, 0, 4, 28, 172]
abbrev dktX0_turnsBy_1 : List UInt8 := dkwX0_turnsBy_1 ++ []
def dkwX0_turnsBy_0 : List UInt8 := [4, 61, 27, 153, 0, 19, 42, 27, 28, 182, 0, 166, 27, 159, 0, 9, 132, 2, 1, 167, 255, 239, 27]
abbrev dktX0_turnsBy_0 : List UInt8 := dkwX0_turnsBy_0 ++ dktX0_turnsBy_1
theorem dksX0_turnsBy_0 : cX0_turnsBy.data.toList.drop 0 = dktX0_turnsBy_0 := by decide +kernel
theorem dksX0_turnsBy_1 : cX0_turnsBy.data.toList.drop 23 = dktX0_turnsBy_1 := dk_seg dksX0_turnsBy_0 23 rfl rfl
theorem dX0_turnsBy_0 : decode cX0_turnsBy 0 = .ok (.iconst 1, 1) := dk_4 (dk_at dksX0_turnsBy_0 0 rfl rfl)
theorem dX0_turnsBy_1 : decode cX0_turnsBy 1 = .ok (.istore_n 2, 1) := dk_61 (dk_at dksX0_turnsBy_0 1 rfl rfl)
theorem dX0_turnsBy_2 : decode cX0_turnsBy 2 = .ok (.iload_n 1, 1) := dk_27 (dk_at dksX0_turnsBy_0 2 rfl rfl)
theorem dX0_turnsBy_3 : decode cX0_turnsBy 3 = .ok (.ifCond .eq 19, 3) := dk_153 0 19 (dk_at dksX0_turnsBy_0 3 rfl rfl)
theorem dX0_turnsBy_6 : decode cX0_turnsBy 6 = .ok (.aload_n 0, 1) := dk_42 (dk_at dksX0_turnsBy_0 6 rfl rfl)
theorem dX0_turnsBy_7 : decode cX0_turnsBy 7 = .ok (.iload_n 1, 1) := dk_27 (dk_at dksX0_turnsBy_0 7 rfl rfl)
theorem dX0_turnsBy_8 : decode cX0_turnsBy 8 = .ok (.iload_n 2, 1) := dk_28 (dk_at dksX0_turnsBy_0 8 rfl rfl)
theorem dX0_turnsBy_9 : decode cX0_turnsBy 9 = .ok (.invokevirtual 166, 3) := dk_182 0 166 (dk_at dksX0_turnsBy_0 9 rfl rfl)
theorem dX0_turnsBy_12 : decode cX0_turnsBy 12 = .ok (.iload_n 1, 1) := dk_27 (dk_at dksX0_turnsBy_0 12 rfl rfl)
theorem dX0_turnsBy_13 : decode cX0_turnsBy 13 = .ok (.if_icmp .eq 9, 3) := dk_159 0 9 (dk_at dksX0_turnsBy_0 13 rfl rfl)
theorem dX0_turnsBy_16 : decode cX0_turnsBy 16 = .ok (.iinc 2 1, 3) := dk_132 2 1 (dk_at dksX0_turnsBy_0 16 rfl rfl)
theorem dX0_turnsBy_19 : decode cX0_turnsBy 19 = .ok (.goto (-17), 3) := dk_167 255 239 (dk_at dksX0_turnsBy_0 19 rfl rfl)
theorem dX0_turnsBy_22 : decode cX0_turnsBy 22 = .ok (.iload_n 1, 1) := dk_27 (dk_at dksX0_turnsBy_0 22 rfl rfl)
theorem dX0_turnsBy_23 : decode cX0_turnsBy 23 = .ok (.ifCond .ne 8, 3) := dk_154 0 8 (dk_at dksX0_turnsBy_1 0 rfl rfl)
theorem dX0_turnsBy_26 : decode cX0_turnsBy 26 = .ok (.bipush (-6), 2) := dk_16 250 (dk_at dksX0_turnsBy_1 3 rfl rfl)
theorem dX0_turnsBy_28 : decode cX0_turnsBy 28 = .ok (.goto 4, 3) := dk_167 0 4 (dk_at dksX0_turnsBy_1 5 rfl rfl)
theorem dX0_turnsBy_31 : decode cX0_turnsBy 31 = .ok (.iload_n 2, 1) := dk_28 (dk_at dksX0_turnsBy_1 8 rfl rfl)
theorem dX0_turnsBy_32 : decode cX0_turnsBy 32 = .ok (.ireturn, 1) := dk_172 (dk_at dksX0_turnsBy_1 9 rfl rfl)
abbrev cX0_turnedSet : ByteArray := prog_1_method_18_code
def yX0_turnedSet : MethodName := ⟨RX0, "turnedSet", "(II)I"⟩
def dkwX0_turnedSet_2 : List UInt8 := [182, 0, 101, 120, 128, 62, 167, 255, 219, 29, 172]
abbrev dktX0_turnedSet_2 : List UInt8 := dkwX0_turnedSet_2 ++ []
def dkwX0_turnedSet_1 : List UInt8 := [153, 0, 33, 25, 4, 185, 0, 147, 1, 0, 192, 0, 109, 182, 0, 151, 54, 5, 29, 4, 42, 21, 5, 28]
abbrev dktX0_turnedSet_1 : List UInt8 := dkwX0_turnedSet_1 ++ dktX0_turnedSet_2
def dkwX0_turnedSet_0 : List UInt8 := [3, 62, 187, 0, 132, 89, 27, 183, 0, 134, 182, 0, 137, 58, 4, 25, 4, 185, 0, 141, 1, 0]
abbrev dktX0_turnedSet_0 : List UInt8 := dkwX0_turnedSet_0 ++ dktX0_turnedSet_1
theorem dksX0_turnedSet_0 : cX0_turnedSet.data.toList.drop 0 = dktX0_turnedSet_0 := by decide +kernel
theorem dksX0_turnedSet_1 : cX0_turnedSet.data.toList.drop 22 = dktX0_turnedSet_1 := dk_seg dksX0_turnedSet_0 22 rfl rfl
theorem dksX0_turnedSet_2 : cX0_turnedSet.data.toList.drop 46 = dktX0_turnedSet_2 := dk_seg dksX0_turnedSet_1 24 rfl rfl
theorem dX0_turnedSet_0 : decode cX0_turnedSet 0 = .ok (.iconst 0, 1) := dk_3 (dk_at dksX0_turnedSet_0 0 rfl rfl)
theorem dX0_turnedSet_1 : decode cX0_turnedSet 1 = .ok (.istore_n 3, 1) := dk_62 (dk_at dksX0_turnedSet_0 1 rfl rfl)
theorem dX0_turnedSet_2 : decode cX0_turnedSet 2 = .ok (.new 132, 3) := dk_187 0 132 (dk_at dksX0_turnedSet_0 2 rfl rfl)
theorem dX0_turnedSet_5 : decode cX0_turnedSet 5 = .ok (.dup, 1) := dk_89 (dk_at dksX0_turnedSet_0 5 rfl rfl)
theorem dX0_turnedSet_6 : decode cX0_turnedSet 6 = .ok (.iload_n 1, 1) := dk_27 (dk_at dksX0_turnedSet_0 6 rfl rfl)
theorem dX0_turnedSet_7 : decode cX0_turnedSet 7 = .ok (.invokespecial 134, 3) := dk_183 0 134 (dk_at dksX0_turnedSet_0 7 rfl rfl)
theorem dX0_turnedSet_10 : decode cX0_turnedSet 10 = .ok (.invokevirtual 137, 3) := dk_182 0 137 (dk_at dksX0_turnedSet_0 10 rfl rfl)
theorem dX0_turnedSet_13 : decode cX0_turnedSet 13 = .ok (.astore 4, 2) := dk_58 4 (dk_at dksX0_turnedSet_0 13 rfl rfl)
theorem dX0_turnedSet_15 : decode cX0_turnedSet 15 = .ok (.aload 4, 2) := dk_25 4 (dk_at dksX0_turnedSet_0 15 rfl rfl)
theorem dX0_turnedSet_17 : decode cX0_turnedSet 17 = .ok (.invokeinterface 141 1, 5) := by decide +kernel
theorem dX0_turnedSet_22 : decode cX0_turnedSet 22 = .ok (.ifCond .eq 33, 3) := dk_153 0 33 (dk_at dksX0_turnedSet_1 0 rfl rfl)
theorem dX0_turnedSet_25 : decode cX0_turnedSet 25 = .ok (.aload 4, 2) := dk_25 4 (dk_at dksX0_turnedSet_1 3 rfl rfl)
theorem dX0_turnedSet_27 : decode cX0_turnedSet 27 = .ok (.invokeinterface 147 1, 5) := by decide +kernel
theorem dX0_turnedSet_32 : decode cX0_turnedSet 32 = .ok (.checkcast 109, 3) := dk_192 0 109 (dk_at dksX0_turnedSet_1 10 rfl rfl)
theorem dX0_turnedSet_35 : decode cX0_turnedSet 35 = .ok (.invokevirtual 151, 3) := dk_182 0 151 (dk_at dksX0_turnedSet_1 13 rfl rfl)
theorem dX0_turnedSet_38 : decode cX0_turnedSet 38 = .ok (.istore 5, 2) := dk_54 5 (dk_at dksX0_turnedSet_1 16 rfl rfl)
theorem dX0_turnedSet_40 : decode cX0_turnedSet 40 = .ok (.iload_n 3, 1) := dk_29 (dk_at dksX0_turnedSet_1 18 rfl rfl)
theorem dX0_turnedSet_41 : decode cX0_turnedSet 41 = .ok (.iconst 1, 1) := dk_4 (dk_at dksX0_turnedSet_1 19 rfl rfl)
theorem dX0_turnedSet_42 : decode cX0_turnedSet 42 = .ok (.aload_n 0, 1) := dk_42 (dk_at dksX0_turnedSet_1 20 rfl rfl)
theorem dX0_turnedSet_43 : decode cX0_turnedSet 43 = .ok (.iload 5, 2) := dk_21 5 (dk_at dksX0_turnedSet_1 21 rfl rfl)
theorem dX0_turnedSet_45 : decode cX0_turnedSet 45 = .ok (.iload_n 2, 1) := dk_28 (dk_at dksX0_turnedSet_1 23 rfl rfl)
theorem dX0_turnedSet_46 : decode cX0_turnedSet 46 = .ok (.invokevirtual 101, 3) := dk_182 0 101 (dk_at dksX0_turnedSet_2 0 rfl rfl)
theorem dX0_turnedSet_49 : decode cX0_turnedSet 49 = .ok (.ishl, 1) := dk_120 (dk_at dksX0_turnedSet_2 3 rfl rfl)
theorem dX0_turnedSet_50 : decode cX0_turnedSet 50 = .ok (.ior, 1) := dk_128 (dk_at dksX0_turnedSet_2 4 rfl rfl)
theorem dX0_turnedSet_51 : decode cX0_turnedSet 51 = .ok (.istore_n 3, 1) := dk_62 (dk_at dksX0_turnedSet_2 5 rfl rfl)
theorem dX0_turnedSet_52 : decode cX0_turnedSet 52 = .ok (.goto (-37), 3) := dk_167 255 219 (dk_at dksX0_turnedSet_2 6 rfl rfl)
theorem dX0_turnedSet_55 : decode cX0_turnedSet 55 = .ok (.iload_n 3, 1) := dk_29 (dk_at dksX0_turnedSet_2 9 rfl rfl)
theorem dX0_turnedSet_56 : decode cX0_turnedSet 56 = .ok (.ireturn, 1) := dk_172 (dk_at dksX0_turnedSet_2 10 rfl rfl)
abbrev cX0_rule : ByteArray := prog_1_method_21_code
def yX0_rule : MethodName := ⟨RX0, "rule", "(IIIII)I"⟩
def dkwX0_rule_6 : List UInt8 := [89, 180, 0, 181, 4, 96, 181, 0, 181, 42, 180, 0, 16, 180, 0, 181, 4, 100, 172]
abbrev dktX0_rule_6 : List UInt8 := dkwX0_rule_6 ++ []
def dkwX0_rule_5 : List UInt8 := [25, 6, 21, 4, 181, 0, 200, 25, 6, 21, 5, 181, 0, 203, 25, 6, 5, 181, 0, 206, 42, 180, 0, 16]
abbrev dktX0_rule_5 : List UInt8 := dkwX0_rule_5 ++ dktX0_rule_6
def dkwX0_rule_4 : List UInt8 := [180, 0, 181, 50, 58, 6, 25, 6, 27, 181, 0, 190, 25, 6, 28, 181, 0, 194, 25, 6, 29, 181, 0, 197]
abbrev dktX0_rule_4 : List UInt8 := dkwX0_rule_4 ++ dktX0_rule_5
def dkwX0_rule_3 : List UInt8 := [180, 0, 181, 16, 10, 160, 0, 6, 16, 252, 172, 42, 180, 0, 16, 180, 0, 186, 42, 180, 0, 16]
abbrev dktX0_rule_3 : List UInt8 := dkwX0_rule_3 ++ dktX0_rule_4
def dkwX0_rule_2 : List UInt8 := [153, 0, 16, 21, 5, 133, 9, 20, 0, 120, 184, 0, 1, 154, 0, 6, 16, 254, 172, 42, 180, 0, 16]
abbrev dktX0_rule_2 : List UInt8 := dkwX0_rule_2 ++ dktX0_rule_3
def dkwX0_rule_1 : List UInt8 := [29, 133, 9, 20, 0, 120, 184, 0, 1, 153, 0, 29, 21, 4, 133, 10, 20, 0, 87, 184, 0, 1]
abbrev dktX0_rule_1 : List UInt8 := dkwX0_rule_1 ++ dktX0_rule_2
def dkwX0_rule_0 : List UInt8 := [27, 133, 9, 20, 0, 89, 184, 0, 1, 153, 0, 53, 28, 133, 9, 20, 0, 184, 184, 0, 1, 153, 0, 41]
abbrev dktX0_rule_0 : List UInt8 := dkwX0_rule_0 ++ dktX0_rule_1
theorem dksX0_rule_0 : cX0_rule.data.toList.drop 0 = dktX0_rule_0 := by decide +kernel
theorem dksX0_rule_1 : cX0_rule.data.toList.drop 24 = dktX0_rule_1 := dk_seg dksX0_rule_0 24 rfl rfl
theorem dksX0_rule_2 : cX0_rule.data.toList.drop 46 = dktX0_rule_2 := dk_seg dksX0_rule_1 22 rfl rfl
theorem dksX0_rule_3 : cX0_rule.data.toList.drop 69 = dktX0_rule_3 := dk_seg dksX0_rule_2 23 rfl rfl
theorem dksX0_rule_4 : cX0_rule.data.toList.drop 91 = dktX0_rule_4 := dk_seg dksX0_rule_3 22 rfl rfl
theorem dksX0_rule_5 : cX0_rule.data.toList.drop 115 = dktX0_rule_5 := dk_seg dksX0_rule_4 24 rfl rfl
theorem dksX0_rule_6 : cX0_rule.data.toList.drop 139 = dktX0_rule_6 := dk_seg dksX0_rule_5 24 rfl rfl
theorem dX0_rule_0 : decode cX0_rule 0 = .ok (.iload_n 1, 1) := dk_27 (dk_at dksX0_rule_0 0 rfl rfl)
theorem dX0_rule_1 : decode cX0_rule 1 = .ok (.i2l, 1) := dk_133 (dk_at dksX0_rule_0 1 rfl rfl)
theorem dX0_rule_2 : decode cX0_rule 2 = .ok (.lconst 0, 1) := dk_9 (dk_at dksX0_rule_0 2 rfl rfl)
theorem dX0_rule_3 : decode cX0_rule 3 = .ok (.ldc2_w 89, 3) := dk_20 0 89 (dk_at dksX0_rule_0 3 rfl rfl)
theorem dX0_rule_6 : decode cX0_rule 6 = .ok (.invokestatic 1, 3) := dk_184 0 1 (dk_at dksX0_rule_0 6 rfl rfl)
theorem dX0_rule_9 : decode cX0_rule 9 = .ok (.ifCond .eq 53, 3) := dk_153 0 53 (dk_at dksX0_rule_0 9 rfl rfl)
theorem dX0_rule_12 : decode cX0_rule 12 = .ok (.iload_n 2, 1) := dk_28 (dk_at dksX0_rule_0 12 rfl rfl)
theorem dX0_rule_13 : decode cX0_rule 13 = .ok (.i2l, 1) := dk_133 (dk_at dksX0_rule_0 13 rfl rfl)
theorem dX0_rule_14 : decode cX0_rule 14 = .ok (.lconst 0, 1) := dk_9 (dk_at dksX0_rule_0 14 rfl rfl)
theorem dX0_rule_15 : decode cX0_rule 15 = .ok (.ldc2_w 184, 3) := dk_20 0 184 (dk_at dksX0_rule_0 15 rfl rfl)
theorem dX0_rule_18 : decode cX0_rule 18 = .ok (.invokestatic 1, 3) := dk_184 0 1 (dk_at dksX0_rule_0 18 rfl rfl)
theorem dX0_rule_21 : decode cX0_rule 21 = .ok (.ifCond .eq 41, 3) := dk_153 0 41 (dk_at dksX0_rule_0 21 rfl rfl)
theorem dX0_rule_24 : decode cX0_rule 24 = .ok (.iload_n 3, 1) := dk_29 (dk_at dksX0_rule_1 0 rfl rfl)
theorem dX0_rule_25 : decode cX0_rule 25 = .ok (.i2l, 1) := dk_133 (dk_at dksX0_rule_1 1 rfl rfl)
theorem dX0_rule_26 : decode cX0_rule 26 = .ok (.lconst 0, 1) := dk_9 (dk_at dksX0_rule_1 2 rfl rfl)
theorem dX0_rule_27 : decode cX0_rule 27 = .ok (.ldc2_w 120, 3) := dk_20 0 120 (dk_at dksX0_rule_1 3 rfl rfl)
theorem dX0_rule_30 : decode cX0_rule 30 = .ok (.invokestatic 1, 3) := dk_184 0 1 (dk_at dksX0_rule_1 6 rfl rfl)
theorem dX0_rule_33 : decode cX0_rule 33 = .ok (.ifCond .eq 29, 3) := dk_153 0 29 (dk_at dksX0_rule_1 9 rfl rfl)
theorem dX0_rule_36 : decode cX0_rule 36 = .ok (.iload 4, 2) := dk_21 4 (dk_at dksX0_rule_1 12 rfl rfl)
theorem dX0_rule_38 : decode cX0_rule 38 = .ok (.i2l, 1) := dk_133 (dk_at dksX0_rule_1 14 rfl rfl)
theorem dX0_rule_39 : decode cX0_rule 39 = .ok (.lconst 1, 1) := dk_10 (dk_at dksX0_rule_1 15 rfl rfl)
theorem dX0_rule_40 : decode cX0_rule 40 = .ok (.ldc2_w 87, 3) := dk_20 0 87 (dk_at dksX0_rule_1 16 rfl rfl)
theorem dX0_rule_43 : decode cX0_rule 43 = .ok (.invokestatic 1, 3) := dk_184 0 1 (dk_at dksX0_rule_1 19 rfl rfl)
theorem dX0_rule_46 : decode cX0_rule 46 = .ok (.ifCond .eq 16, 3) := dk_153 0 16 (dk_at dksX0_rule_2 0 rfl rfl)
theorem dX0_rule_49 : decode cX0_rule 49 = .ok (.iload 5, 2) := dk_21 5 (dk_at dksX0_rule_2 3 rfl rfl)
theorem dX0_rule_51 : decode cX0_rule 51 = .ok (.i2l, 1) := dk_133 (dk_at dksX0_rule_2 5 rfl rfl)
theorem dX0_rule_52 : decode cX0_rule 52 = .ok (.lconst 0, 1) := dk_9 (dk_at dksX0_rule_2 6 rfl rfl)
theorem dX0_rule_53 : decode cX0_rule 53 = .ok (.ldc2_w 120, 3) := dk_20 0 120 (dk_at dksX0_rule_2 7 rfl rfl)
theorem dX0_rule_56 : decode cX0_rule 56 = .ok (.invokestatic 1, 3) := dk_184 0 1 (dk_at dksX0_rule_2 10 rfl rfl)
theorem dX0_rule_59 : decode cX0_rule 59 = .ok (.ifCond .ne 6, 3) := dk_154 0 6 (dk_at dksX0_rule_2 13 rfl rfl)
theorem dX0_rule_62 : decode cX0_rule 62 = .ok (.bipush (-2), 2) := dk_16 254 (dk_at dksX0_rule_2 16 rfl rfl)
theorem dX0_rule_64 : decode cX0_rule 64 = .ok (.ireturn, 1) := dk_172 (dk_at dksX0_rule_2 18 rfl rfl)
theorem dX0_rule_65 : decode cX0_rule 65 = .ok (.aload_n 0, 1) := dk_42 (dk_at dksX0_rule_2 19 rfl rfl)
theorem dX0_rule_66 : decode cX0_rule 66 = .ok (.getfield 16, 3) := dk_180 0 16 (dk_at dksX0_rule_2 20 rfl rfl)
theorem dX0_rule_69 : decode cX0_rule 69 = .ok (.getfield 181, 3) := dk_180 0 181 (dk_at dksX0_rule_3 0 rfl rfl)
theorem dX0_rule_72 : decode cX0_rule 72 = .ok (.bipush 10, 2) := dk_16 10 (dk_at dksX0_rule_3 3 rfl rfl)
theorem dX0_rule_74 : decode cX0_rule 74 = .ok (.if_icmp .ne 6, 3) := dk_160 0 6 (dk_at dksX0_rule_3 5 rfl rfl)
theorem dX0_rule_77 : decode cX0_rule 77 = .ok (.bipush (-4), 2) := dk_16 252 (dk_at dksX0_rule_3 8 rfl rfl)
theorem dX0_rule_79 : decode cX0_rule 79 = .ok (.ireturn, 1) := dk_172 (dk_at dksX0_rule_3 10 rfl rfl)
theorem dX0_rule_80 : decode cX0_rule 80 = .ok (.aload_n 0, 1) := dk_42 (dk_at dksX0_rule_3 11 rfl rfl)
theorem dX0_rule_81 : decode cX0_rule 81 = .ok (.getfield 16, 3) := dk_180 0 16 (dk_at dksX0_rule_3 12 rfl rfl)
theorem dX0_rule_84 : decode cX0_rule 84 = .ok (.getfield 186, 3) := dk_180 0 186 (dk_at dksX0_rule_3 15 rfl rfl)
theorem dX0_rule_87 : decode cX0_rule 87 = .ok (.aload_n 0, 1) := dk_42 (dk_at dksX0_rule_3 18 rfl rfl)
theorem dX0_rule_88 : decode cX0_rule 88 = .ok (.getfield 16, 3) := dk_180 0 16 (dk_at dksX0_rule_3 19 rfl rfl)
theorem dX0_rule_91 : decode cX0_rule 91 = .ok (.getfield 181, 3) := dk_180 0 181 (dk_at dksX0_rule_4 0 rfl rfl)
theorem dX0_rule_94 : decode cX0_rule 94 = .ok (.aaload, 1) := dk_50 (dk_at dksX0_rule_4 3 rfl rfl)
theorem dX0_rule_95 : decode cX0_rule 95 = .ok (.astore 6, 2) := dk_58 6 (dk_at dksX0_rule_4 4 rfl rfl)
theorem dX0_rule_97 : decode cX0_rule 97 = .ok (.aload 6, 2) := dk_25 6 (dk_at dksX0_rule_4 6 rfl rfl)
theorem dX0_rule_99 : decode cX0_rule 99 = .ok (.iload_n 1, 1) := dk_27 (dk_at dksX0_rule_4 8 rfl rfl)
theorem dX0_rule_100 : decode cX0_rule 100 = .ok (.putfield 190, 3) := dk_181 0 190 (dk_at dksX0_rule_4 9 rfl rfl)
theorem dX0_rule_103 : decode cX0_rule 103 = .ok (.aload 6, 2) := dk_25 6 (dk_at dksX0_rule_4 12 rfl rfl)
theorem dX0_rule_105 : decode cX0_rule 105 = .ok (.iload_n 2, 1) := dk_28 (dk_at dksX0_rule_4 14 rfl rfl)
theorem dX0_rule_106 : decode cX0_rule 106 = .ok (.putfield 194, 3) := dk_181 0 194 (dk_at dksX0_rule_4 15 rfl rfl)
theorem dX0_rule_109 : decode cX0_rule 109 = .ok (.aload 6, 2) := dk_25 6 (dk_at dksX0_rule_4 18 rfl rfl)
theorem dX0_rule_111 : decode cX0_rule 111 = .ok (.iload_n 3, 1) := dk_29 (dk_at dksX0_rule_4 20 rfl rfl)
theorem dX0_rule_112 : decode cX0_rule 112 = .ok (.putfield 197, 3) := dk_181 0 197 (dk_at dksX0_rule_4 21 rfl rfl)
theorem dX0_rule_115 : decode cX0_rule 115 = .ok (.aload 6, 2) := dk_25 6 (dk_at dksX0_rule_5 0 rfl rfl)
theorem dX0_rule_117 : decode cX0_rule 117 = .ok (.iload 4, 2) := dk_21 4 (dk_at dksX0_rule_5 2 rfl rfl)
theorem dX0_rule_119 : decode cX0_rule 119 = .ok (.putfield 200, 3) := dk_181 0 200 (dk_at dksX0_rule_5 4 rfl rfl)
theorem dX0_rule_122 : decode cX0_rule 122 = .ok (.aload 6, 2) := dk_25 6 (dk_at dksX0_rule_5 7 rfl rfl)
theorem dX0_rule_124 : decode cX0_rule 124 = .ok (.iload 5, 2) := dk_21 5 (dk_at dksX0_rule_5 9 rfl rfl)
theorem dX0_rule_126 : decode cX0_rule 126 = .ok (.putfield 203, 3) := dk_181 0 203 (dk_at dksX0_rule_5 11 rfl rfl)
theorem dX0_rule_129 : decode cX0_rule 129 = .ok (.aload 6, 2) := dk_25 6 (dk_at dksX0_rule_5 14 rfl rfl)
theorem dX0_rule_131 : decode cX0_rule 131 = .ok (.iconst 2, 1) := dk_5 (dk_at dksX0_rule_5 16 rfl rfl)
theorem dX0_rule_132 : decode cX0_rule 132 = .ok (.putfield 206, 3) := dk_181 0 206 (dk_at dksX0_rule_5 17 rfl rfl)
theorem dX0_rule_135 : decode cX0_rule 135 = .ok (.aload_n 0, 1) := dk_42 (dk_at dksX0_rule_5 20 rfl rfl)
theorem dX0_rule_136 : decode cX0_rule 136 = .ok (.getfield 16, 3) := dk_180 0 16 (dk_at dksX0_rule_5 21 rfl rfl)
theorem dX0_rule_139 : decode cX0_rule 139 = .ok (.dup, 1) := dk_89 (dk_at dksX0_rule_6 0 rfl rfl)
theorem dX0_rule_140 : decode cX0_rule 140 = .ok (.getfield 181, 3) := dk_180 0 181 (dk_at dksX0_rule_6 1 rfl rfl)
theorem dX0_rule_143 : decode cX0_rule 143 = .ok (.iconst 1, 1) := dk_4 (dk_at dksX0_rule_6 4 rfl rfl)
theorem dX0_rule_144 : decode cX0_rule 144 = .ok (.iadd, 1) := dk_96 (dk_at dksX0_rule_6 5 rfl rfl)
theorem dX0_rule_145 : decode cX0_rule 145 = .ok (.putfield 181, 3) := dk_181 0 181 (dk_at dksX0_rule_6 6 rfl rfl)
theorem dX0_rule_148 : decode cX0_rule 148 = .ok (.aload_n 0, 1) := dk_42 (dk_at dksX0_rule_6 9 rfl rfl)
theorem dX0_rule_149 : decode cX0_rule 149 = .ok (.getfield 16, 3) := dk_180 0 16 (dk_at dksX0_rule_6 10 rfl rfl)
theorem dX0_rule_152 : decode cX0_rule 152 = .ok (.getfield 181, 3) := dk_180 0 181 (dk_at dksX0_rule_6 13 rfl rfl)
theorem dX0_rule_155 : decode cX0_rule 155 = .ok (.iconst 1, 1) := dk_4 (dk_at dksX0_rule_6 16 rfl rfl)
theorem dX0_rule_156 : decode cX0_rule 156 = .ok (.isub, 1) := dk_100 (dk_at dksX0_rule_6 17 rfl rfl)
theorem dX0_rule_157 : decode cX0_rule 157 = .ok (.ireturn, 1) := dk_172 (dk_at dksX0_rule_6 18 rfl rfl)
abbrev cX0_whom : ByteArray := prog_1_method_22_code
def yX0_whom : MethodName := ⟨RX0, "whom", "(II)I"⟩
def dkwX0_whom_2 : List UInt8 := [181, 0, 206, 29, 172]
abbrev dktX0_whom_2 : List UInt8 := dkwX0_whom_2 ++ []
def dkwX0_whom_1 : List UInt8 := [172, 42, 180, 0, 16, 180, 0, 186, 27, 50, 180, 0, 206, 62, 42, 180, 0, 16, 180, 0, 186, 27, 50, 28]
abbrev dktX0_whom_1 : List UInt8 := dkwX0_whom_1 ++ dktX0_whom_2
def dkwX0_whom_0 : List UInt8 := [42, 27, 182, 0, 209, 154, 0, 5, 2, 172, 28, 133, 9, 20, 0, 120, 184, 0, 1, 154, 0, 6, 16, 254]
abbrev dktX0_whom_0 : List UInt8 := dkwX0_whom_0 ++ dktX0_whom_1
theorem dksX0_whom_0 : cX0_whom.data.toList.drop 0 = dktX0_whom_0 := by decide +kernel
theorem dksX0_whom_1 : cX0_whom.data.toList.drop 24 = dktX0_whom_1 := dk_seg dksX0_whom_0 24 rfl rfl
theorem dksX0_whom_2 : cX0_whom.data.toList.drop 48 = dktX0_whom_2 := dk_seg dksX0_whom_1 24 rfl rfl
theorem dX0_whom_0 : decode cX0_whom 0 = .ok (.aload_n 0, 1) := dk_42 (dk_at dksX0_whom_0 0 rfl rfl)
theorem dX0_whom_1 : decode cX0_whom 1 = .ok (.iload_n 1, 1) := dk_27 (dk_at dksX0_whom_0 1 rfl rfl)
theorem dX0_whom_2 : decode cX0_whom 2 = .ok (.invokevirtual 209, 3) := dk_182 0 209 (dk_at dksX0_whom_0 2 rfl rfl)
theorem dX0_whom_5 : decode cX0_whom 5 = .ok (.ifCond .ne 5, 3) := dk_154 0 5 (dk_at dksX0_whom_0 5 rfl rfl)
theorem dX0_whom_8 : decode cX0_whom 8 = .ok (.iconst (-1), 1) := dk_2 (dk_at dksX0_whom_0 8 rfl rfl)
theorem dX0_whom_9 : decode cX0_whom 9 = .ok (.ireturn, 1) := dk_172 (dk_at dksX0_whom_0 9 rfl rfl)
theorem dX0_whom_10 : decode cX0_whom 10 = .ok (.iload_n 2, 1) := dk_28 (dk_at dksX0_whom_0 10 rfl rfl)
theorem dX0_whom_11 : decode cX0_whom 11 = .ok (.i2l, 1) := dk_133 (dk_at dksX0_whom_0 11 rfl rfl)
theorem dX0_whom_12 : decode cX0_whom 12 = .ok (.lconst 0, 1) := dk_9 (dk_at dksX0_whom_0 12 rfl rfl)
theorem dX0_whom_13 : decode cX0_whom 13 = .ok (.ldc2_w 120, 3) := dk_20 0 120 (dk_at dksX0_whom_0 13 rfl rfl)
theorem dX0_whom_16 : decode cX0_whom 16 = .ok (.invokestatic 1, 3) := dk_184 0 1 (dk_at dksX0_whom_0 16 rfl rfl)
theorem dX0_whom_19 : decode cX0_whom 19 = .ok (.ifCond .ne 6, 3) := dk_154 0 6 (dk_at dksX0_whom_0 19 rfl rfl)
theorem dX0_whom_22 : decode cX0_whom 22 = .ok (.bipush (-2), 2) := dk_16 254 (dk_at dksX0_whom_0 22 rfl rfl)
theorem dX0_whom_24 : decode cX0_whom 24 = .ok (.ireturn, 1) := dk_172 (dk_at dksX0_whom_1 0 rfl rfl)
theorem dX0_whom_25 : decode cX0_whom 25 = .ok (.aload_n 0, 1) := dk_42 (dk_at dksX0_whom_1 1 rfl rfl)
theorem dX0_whom_26 : decode cX0_whom 26 = .ok (.getfield 16, 3) := dk_180 0 16 (dk_at dksX0_whom_1 2 rfl rfl)
theorem dX0_whom_29 : decode cX0_whom 29 = .ok (.getfield 186, 3) := dk_180 0 186 (dk_at dksX0_whom_1 5 rfl rfl)
theorem dX0_whom_32 : decode cX0_whom 32 = .ok (.iload_n 1, 1) := dk_27 (dk_at dksX0_whom_1 8 rfl rfl)
theorem dX0_whom_33 : decode cX0_whom 33 = .ok (.aaload, 1) := dk_50 (dk_at dksX0_whom_1 9 rfl rfl)
theorem dX0_whom_34 : decode cX0_whom 34 = .ok (.getfield 206, 3) := dk_180 0 206 (dk_at dksX0_whom_1 10 rfl rfl)
theorem dX0_whom_37 : decode cX0_whom 37 = .ok (.istore_n 3, 1) := dk_62 (dk_at dksX0_whom_1 13 rfl rfl)
theorem dX0_whom_38 : decode cX0_whom 38 = .ok (.aload_n 0, 1) := dk_42 (dk_at dksX0_whom_1 14 rfl rfl)
theorem dX0_whom_39 : decode cX0_whom 39 = .ok (.getfield 16, 3) := dk_180 0 16 (dk_at dksX0_whom_1 15 rfl rfl)
theorem dX0_whom_42 : decode cX0_whom 42 = .ok (.getfield 186, 3) := dk_180 0 186 (dk_at dksX0_whom_1 18 rfl rfl)
theorem dX0_whom_45 : decode cX0_whom 45 = .ok (.iload_n 1, 1) := dk_27 (dk_at dksX0_whom_1 21 rfl rfl)
theorem dX0_whom_46 : decode cX0_whom 46 = .ok (.aaload, 1) := dk_50 (dk_at dksX0_whom_1 22 rfl rfl)
theorem dX0_whom_47 : decode cX0_whom 47 = .ok (.iload_n 2, 1) := dk_28 (dk_at dksX0_whom_1 23 rfl rfl)
theorem dX0_whom_48 : decode cX0_whom 48 = .ok (.putfield 206, 3) := dk_181 0 206 (dk_at dksX0_whom_2 0 rfl rfl)
theorem dX0_whom_51 : decode cX0_whom 51 = .ok (.iload_n 3, 1) := dk_29 (dk_at dksX0_whom_2 3 rfl rfl)
theorem dX0_whom_52 : decode cX0_whom 52 = .ok (.ireturn, 1) := dk_172 (dk_at dksX0_whom_2 4 rfl rfl)
abbrev cX0_isRule : ByteArray := prog_1_method_20_code
def yX0_isRule : MethodName := ⟨RX0, "isRule", "(I)Z"⟩
def dkwX0_isRule_0 : List UInt8 := [27, 133, 9, 42, 180, 0, 16, 180, 0, 181, 133, 10, 101, 184, 0, 1, 172]
abbrev dktX0_isRule_0 : List UInt8 := dkwX0_isRule_0 ++ []
theorem dksX0_isRule_0 : cX0_isRule.data.toList.drop 0 = dktX0_isRule_0 := by decide +kernel
theorem dX0_isRule_0 : decode cX0_isRule 0 = .ok (.iload_n 1, 1) := dk_27 (dk_at dksX0_isRule_0 0 rfl rfl)
theorem dX0_isRule_1 : decode cX0_isRule 1 = .ok (.i2l, 1) := dk_133 (dk_at dksX0_isRule_0 1 rfl rfl)
theorem dX0_isRule_2 : decode cX0_isRule 2 = .ok (.lconst 0, 1) := dk_9 (dk_at dksX0_isRule_0 2 rfl rfl)
theorem dX0_isRule_3 : decode cX0_isRule 3 = .ok (.aload_n 0, 1) := dk_42 (dk_at dksX0_isRule_0 3 rfl rfl)
theorem dX0_isRule_4 : decode cX0_isRule 4 = .ok (.getfield 16, 3) := dk_180 0 16 (dk_at dksX0_isRule_0 4 rfl rfl)
theorem dX0_isRule_7 : decode cX0_isRule 7 = .ok (.getfield 181, 3) := dk_180 0 181 (dk_at dksX0_isRule_0 7 rfl rfl)
theorem dX0_isRule_10 : decode cX0_isRule 10 = .ok (.i2l, 1) := dk_133 (dk_at dksX0_isRule_0 10 rfl rfl)
theorem dX0_isRule_11 : decode cX0_isRule 11 = .ok (.lconst 1, 1) := dk_10 (dk_at dksX0_isRule_0 11 rfl rfl)
theorem dX0_isRule_12 : decode cX0_isRule 12 = .ok (.lsub, 1) := dk_101 (dk_at dksX0_isRule_0 12 rfl rfl)
theorem dX0_isRule_13 : decode cX0_isRule 13 = .ok (.invokestatic 1, 3) := dk_184 0 1 (dk_at dksX0_isRule_0 13 rfl rfl)
theorem dX0_isRule_16 : decode cX0_isRule 16 = .ok (.ireturn, 1) := dk_172 (dk_at dksX0_isRule_0 16 rfl rfl)
abbrev cX0_drop : ByteArray := prog_1_method_23_code
def yX0_drop : MethodName := ⟨RX0, "drop", "(I)I"⟩
def dkwX0_drop_3 : List UInt8 := [180, 0, 16, 180, 0, 181, 172]
abbrev dktX0_drop_3 : List UInt8 := dkwX0_drop_3 ++ []
def dkwX0_drop_2 : List UInt8 := [182, 0, 212, 132, 2, 1, 167, 255, 217, 42, 180, 0, 16, 89, 180, 0, 181, 4, 100, 181, 0, 181, 42]
abbrev dktX0_drop_2 : List UInt8 := dkwX0_drop_2 ++ dktX0_drop_3
def dkwX0_drop_1 : List UInt8 := [162, 0, 32, 42, 180, 0, 16, 180, 0, 186, 28, 50, 42, 180, 0, 16, 180, 0, 186, 28, 4, 96, 50]
abbrev dktX0_drop_1 : List UInt8 := dkwX0_drop_1 ++ dktX0_drop_2
def dkwX0_drop_0 : List UInt8 := [42, 27, 182, 0, 209, 154, 0, 5, 2, 172, 27, 61, 28, 4, 96, 42, 180, 0, 16, 180, 0, 181]
abbrev dktX0_drop_0 : List UInt8 := dkwX0_drop_0 ++ dktX0_drop_1
theorem dksX0_drop_0 : cX0_drop.data.toList.drop 0 = dktX0_drop_0 := by decide +kernel
theorem dksX0_drop_1 : cX0_drop.data.toList.drop 22 = dktX0_drop_1 := dk_seg dksX0_drop_0 22 rfl rfl
theorem dksX0_drop_2 : cX0_drop.data.toList.drop 45 = dktX0_drop_2 := dk_seg dksX0_drop_1 23 rfl rfl
theorem dksX0_drop_3 : cX0_drop.data.toList.drop 68 = dktX0_drop_3 := dk_seg dksX0_drop_2 23 rfl rfl
theorem dX0_drop_0 : decode cX0_drop 0 = .ok (.aload_n 0, 1) := dk_42 (dk_at dksX0_drop_0 0 rfl rfl)
theorem dX0_drop_1 : decode cX0_drop 1 = .ok (.iload_n 1, 1) := dk_27 (dk_at dksX0_drop_0 1 rfl rfl)
theorem dX0_drop_2 : decode cX0_drop 2 = .ok (.invokevirtual 209, 3) := dk_182 0 209 (dk_at dksX0_drop_0 2 rfl rfl)
theorem dX0_drop_5 : decode cX0_drop 5 = .ok (.ifCond .ne 5, 3) := dk_154 0 5 (dk_at dksX0_drop_0 5 rfl rfl)
theorem dX0_drop_8 : decode cX0_drop 8 = .ok (.iconst (-1), 1) := dk_2 (dk_at dksX0_drop_0 8 rfl rfl)
theorem dX0_drop_9 : decode cX0_drop 9 = .ok (.ireturn, 1) := dk_172 (dk_at dksX0_drop_0 9 rfl rfl)
theorem dX0_drop_10 : decode cX0_drop 10 = .ok (.iload_n 1, 1) := dk_27 (dk_at dksX0_drop_0 10 rfl rfl)
theorem dX0_drop_11 : decode cX0_drop 11 = .ok (.istore_n 2, 1) := dk_61 (dk_at dksX0_drop_0 11 rfl rfl)
theorem dX0_drop_12 : decode cX0_drop 12 = .ok (.iload_n 2, 1) := dk_28 (dk_at dksX0_drop_0 12 rfl rfl)
theorem dX0_drop_13 : decode cX0_drop 13 = .ok (.iconst 1, 1) := dk_4 (dk_at dksX0_drop_0 13 rfl rfl)
theorem dX0_drop_14 : decode cX0_drop 14 = .ok (.iadd, 1) := dk_96 (dk_at dksX0_drop_0 14 rfl rfl)
theorem dX0_drop_15 : decode cX0_drop 15 = .ok (.aload_n 0, 1) := dk_42 (dk_at dksX0_drop_0 15 rfl rfl)
theorem dX0_drop_16 : decode cX0_drop 16 = .ok (.getfield 16, 3) := dk_180 0 16 (dk_at dksX0_drop_0 16 rfl rfl)
theorem dX0_drop_19 : decode cX0_drop 19 = .ok (.getfield 181, 3) := dk_180 0 181 (dk_at dksX0_drop_0 19 rfl rfl)
theorem dX0_drop_22 : decode cX0_drop 22 = .ok (.if_icmp .ge 32, 3) := dk_162 0 32 (dk_at dksX0_drop_1 0 rfl rfl)
theorem dX0_drop_25 : decode cX0_drop 25 = .ok (.aload_n 0, 1) := dk_42 (dk_at dksX0_drop_1 3 rfl rfl)
theorem dX0_drop_26 : decode cX0_drop 26 = .ok (.getfield 16, 3) := dk_180 0 16 (dk_at dksX0_drop_1 4 rfl rfl)
theorem dX0_drop_29 : decode cX0_drop 29 = .ok (.getfield 186, 3) := dk_180 0 186 (dk_at dksX0_drop_1 7 rfl rfl)
theorem dX0_drop_32 : decode cX0_drop 32 = .ok (.iload_n 2, 1) := dk_28 (dk_at dksX0_drop_1 10 rfl rfl)
theorem dX0_drop_33 : decode cX0_drop 33 = .ok (.aaload, 1) := dk_50 (dk_at dksX0_drop_1 11 rfl rfl)
theorem dX0_drop_34 : decode cX0_drop 34 = .ok (.aload_n 0, 1) := dk_42 (dk_at dksX0_drop_1 12 rfl rfl)
theorem dX0_drop_35 : decode cX0_drop 35 = .ok (.getfield 16, 3) := dk_180 0 16 (dk_at dksX0_drop_1 13 rfl rfl)
theorem dX0_drop_38 : decode cX0_drop 38 = .ok (.getfield 186, 3) := dk_180 0 186 (dk_at dksX0_drop_1 16 rfl rfl)
theorem dX0_drop_41 : decode cX0_drop 41 = .ok (.iload_n 2, 1) := dk_28 (dk_at dksX0_drop_1 19 rfl rfl)
theorem dX0_drop_42 : decode cX0_drop 42 = .ok (.iconst 1, 1) := dk_4 (dk_at dksX0_drop_1 20 rfl rfl)
theorem dX0_drop_43 : decode cX0_drop 43 = .ok (.iadd, 1) := dk_96 (dk_at dksX0_drop_1 21 rfl rfl)
theorem dX0_drop_44 : decode cX0_drop 44 = .ok (.aaload, 1) := dk_50 (dk_at dksX0_drop_1 22 rfl rfl)
theorem dX0_drop_45 : decode cX0_drop 45 = .ok (.invokevirtual 212, 3) := dk_182 0 212 (dk_at dksX0_drop_2 0 rfl rfl)
theorem dX0_drop_48 : decode cX0_drop 48 = .ok (.iinc 2 1, 3) := dk_132 2 1 (dk_at dksX0_drop_2 3 rfl rfl)
theorem dX0_drop_51 : decode cX0_drop 51 = .ok (.goto (-39), 3) := dk_167 255 217 (dk_at dksX0_drop_2 6 rfl rfl)
theorem dX0_drop_54 : decode cX0_drop 54 = .ok (.aload_n 0, 1) := dk_42 (dk_at dksX0_drop_2 9 rfl rfl)
theorem dX0_drop_55 : decode cX0_drop 55 = .ok (.getfield 16, 3) := dk_180 0 16 (dk_at dksX0_drop_2 10 rfl rfl)
theorem dX0_drop_58 : decode cX0_drop 58 = .ok (.dup, 1) := dk_89 (dk_at dksX0_drop_2 13 rfl rfl)
theorem dX0_drop_59 : decode cX0_drop 59 = .ok (.getfield 181, 3) := dk_180 0 181 (dk_at dksX0_drop_2 14 rfl rfl)
theorem dX0_drop_62 : decode cX0_drop 62 = .ok (.iconst 1, 1) := dk_4 (dk_at dksX0_drop_2 17 rfl rfl)
theorem dX0_drop_63 : decode cX0_drop 63 = .ok (.isub, 1) := dk_100 (dk_at dksX0_drop_2 18 rfl rfl)
theorem dX0_drop_64 : decode cX0_drop 64 = .ok (.putfield 181, 3) := dk_181 0 181 (dk_at dksX0_drop_2 19 rfl rfl)
theorem dX0_drop_67 : decode cX0_drop 67 = .ok (.aload_n 0, 1) := dk_42 (dk_at dksX0_drop_2 22 rfl rfl)
theorem dX0_drop_68 : decode cX0_drop 68 = .ok (.getfield 16, 3) := dk_180 0 16 (dk_at dksX0_drop_3 0 rfl rfl)
theorem dX0_drop_71 : decode cX0_drop 71 = .ok (.getfield 181, 3) := dk_180 0 181 (dk_at dksX0_drop_3 3 rfl rfl)
theorem dX0_drop_74 : decode cX0_drop 74 = .ok (.ireturn, 1) := dk_172 (dk_at dksX0_drop_3 6 rfl rfl)
abbrev cX0_of : ByteArray := prog_1_method_24_code
def yX0_of : MethodName := ⟨RX0, "of", "(II)I"⟩
def dkwX0_of_3 : List UInt8 := [172, 45, 180, 0, 206, 172, 16, 254, 172]
abbrev dktX0_of_3 : List UInt8 := dkwX0_of_3 ++ []
def dkwX0_of_2 : List UInt8 := [45, 180, 0, 190, 172, 45, 180, 0, 194, 172, 45, 180, 0, 197, 172, 45, 180, 0, 200, 172, 45, 180, 0, 203]
abbrev dktX0_of_2 : List UInt8 := dkwX0_of_2 ++ dktX0_of_3
def dkwX0_of_1 : List UInt8 := [170, 0, 0, 0, 0, 0, 69, 0, 0, 0, 0, 0, 0, 0, 5, 0, 0, 0, 39, 0, 0, 0, 44, 0, 0, 0, 49, 0, 0, 0, 54, 0, 0, 0, 59, 0, 0, 0, 64]
abbrev dktX0_of_1 : List UInt8 := dkwX0_of_1 ++ dktX0_of_2
def dkwX0_of_0 : List UInt8 := [42, 27, 182, 0, 209, 154, 0, 5, 2, 172, 42, 180, 0, 16, 180, 0, 186, 27, 50, 78, 28]
abbrev dktX0_of_0 : List UInt8 := dkwX0_of_0 ++ dktX0_of_1
theorem dksX0_of_0 : cX0_of.data.toList.drop 0 = dktX0_of_0 := by decide +kernel
theorem dksX0_of_1 : cX0_of.data.toList.drop 21 = dktX0_of_1 := dk_seg dksX0_of_0 21 rfl rfl
theorem dksX0_of_2 : cX0_of.data.toList.drop 60 = dktX0_of_2 := dk_seg dksX0_of_1 39 rfl rfl
theorem dksX0_of_3 : cX0_of.data.toList.drop 84 = dktX0_of_3 := dk_seg dksX0_of_2 24 rfl rfl
theorem dX0_of_0 : decode cX0_of 0 = .ok (.aload_n 0, 1) := dk_42 (dk_at dksX0_of_0 0 rfl rfl)
theorem dX0_of_1 : decode cX0_of 1 = .ok (.iload_n 1, 1) := dk_27 (dk_at dksX0_of_0 1 rfl rfl)
theorem dX0_of_2 : decode cX0_of 2 = .ok (.invokevirtual 209, 3) := dk_182 0 209 (dk_at dksX0_of_0 2 rfl rfl)
theorem dX0_of_5 : decode cX0_of 5 = .ok (.ifCond .ne 5, 3) := dk_154 0 5 (dk_at dksX0_of_0 5 rfl rfl)
theorem dX0_of_8 : decode cX0_of 8 = .ok (.iconst (-1), 1) := dk_2 (dk_at dksX0_of_0 8 rfl rfl)
theorem dX0_of_9 : decode cX0_of 9 = .ok (.ireturn, 1) := dk_172 (dk_at dksX0_of_0 9 rfl rfl)
theorem dX0_of_10 : decode cX0_of 10 = .ok (.aload_n 0, 1) := dk_42 (dk_at dksX0_of_0 10 rfl rfl)
theorem dX0_of_11 : decode cX0_of 11 = .ok (.getfield 16, 3) := dk_180 0 16 (dk_at dksX0_of_0 11 rfl rfl)
theorem dX0_of_14 : decode cX0_of 14 = .ok (.getfield 186, 3) := dk_180 0 186 (dk_at dksX0_of_0 14 rfl rfl)
theorem dX0_of_17 : decode cX0_of 17 = .ok (.iload_n 1, 1) := dk_27 (dk_at dksX0_of_0 17 rfl rfl)
theorem dX0_of_18 : decode cX0_of 18 = .ok (.aaload, 1) := dk_50 (dk_at dksX0_of_0 18 rfl rfl)
theorem dX0_of_19 : decode cX0_of 19 = .ok (.astore_n 3, 1) := dk_78 (dk_at dksX0_of_0 19 rfl rfl)
theorem dX0_of_20 : decode cX0_of 20 = .ok (.iload_n 2, 1) := dk_28 (dk_at dksX0_of_0 20 rfl rfl)
theorem dX0_of_21 : decode cX0_of 21 = .ok (.tableswitch 69 0 5 #[39, 44, 49, 54, 59, 64], 39) := by decide +kernel
theorem dX0_of_60 : decode cX0_of 60 = .ok (.aload_n 3, 1) := dk_45 (dk_at dksX0_of_2 0 rfl rfl)
theorem dX0_of_61 : decode cX0_of 61 = .ok (.getfield 190, 3) := dk_180 0 190 (dk_at dksX0_of_2 1 rfl rfl)
theorem dX0_of_64 : decode cX0_of 64 = .ok (.ireturn, 1) := dk_172 (dk_at dksX0_of_2 4 rfl rfl)
theorem dX0_of_65 : decode cX0_of 65 = .ok (.aload_n 3, 1) := dk_45 (dk_at dksX0_of_2 5 rfl rfl)
theorem dX0_of_66 : decode cX0_of 66 = .ok (.getfield 194, 3) := dk_180 0 194 (dk_at dksX0_of_2 6 rfl rfl)
theorem dX0_of_69 : decode cX0_of 69 = .ok (.ireturn, 1) := dk_172 (dk_at dksX0_of_2 9 rfl rfl)
theorem dX0_of_70 : decode cX0_of 70 = .ok (.aload_n 3, 1) := dk_45 (dk_at dksX0_of_2 10 rfl rfl)
theorem dX0_of_71 : decode cX0_of 71 = .ok (.getfield 197, 3) := dk_180 0 197 (dk_at dksX0_of_2 11 rfl rfl)
theorem dX0_of_74 : decode cX0_of 74 = .ok (.ireturn, 1) := dk_172 (dk_at dksX0_of_2 14 rfl rfl)
theorem dX0_of_75 : decode cX0_of 75 = .ok (.aload_n 3, 1) := dk_45 (dk_at dksX0_of_2 15 rfl rfl)
theorem dX0_of_76 : decode cX0_of 76 = .ok (.getfield 200, 3) := dk_180 0 200 (dk_at dksX0_of_2 16 rfl rfl)
theorem dX0_of_79 : decode cX0_of 79 = .ok (.ireturn, 1) := dk_172 (dk_at dksX0_of_2 19 rfl rfl)
theorem dX0_of_80 : decode cX0_of 80 = .ok (.aload_n 3, 1) := dk_45 (dk_at dksX0_of_2 20 rfl rfl)
theorem dX0_of_81 : decode cX0_of 81 = .ok (.getfield 203, 3) := dk_180 0 203 (dk_at dksX0_of_2 21 rfl rfl)
theorem dX0_of_84 : decode cX0_of 84 = .ok (.ireturn, 1) := dk_172 (dk_at dksX0_of_3 0 rfl rfl)
theorem dX0_of_85 : decode cX0_of 85 = .ok (.aload_n 3, 1) := dk_45 (dk_at dksX0_of_3 1 rfl rfl)
theorem dX0_of_86 : decode cX0_of 86 = .ok (.getfield 206, 3) := dk_180 0 206 (dk_at dksX0_of_3 2 rfl rfl)
theorem dX0_of_89 : decode cX0_of 89 = .ok (.ireturn, 1) := dk_172 (dk_at dksX0_of_3 5 rfl rfl)
theorem dX0_of_90 : decode cX0_of 90 = .ok (.bipush (-2), 2) := dk_16 254 (dk_at dksX0_of_3 6 rfl rfl)
theorem dX0_of_92 : decode cX0_of 92 = .ok (.ireturn, 1) := dk_172 (dk_at dksX0_of_3 8 rfl rfl)
abbrev cX0_does : ByteArray := prog_1_method_29_code
def yX0_does : MethodName := ⟨RX0, "does", "(II)I"⟩
def dkwX0_does_5 : List UInt8 := [27, 42, 21, 4, 182, 0, 226, 182, 0, 229, 172, 16, 254, 172]
abbrev dktX0_does_5 : List UInt8 := dkwX0_does_5 ++ []
def dkwX0_does_4 : List UInt8 := [182, 0, 154, 153, 0, 7, 4, 167, 0, 4, 3, 172, 21, 4, 172, 42, 21, 4, 182, 0, 226, 172, 42, 29]
abbrev dktX0_does_4 : List UInt8 := dkwX0_does_4 ++ dktX0_does_5
def dkwX0_does_3 : List UInt8 := [42, 29, 27, 182, 0, 125, 158, 0, 7, 4, 167, 0, 4, 3, 172, 42, 180, 0, 40, 29, 27, 27]
abbrev dktX0_does_3 : List UInt8 := dkwX0_does_3 ++ dktX0_does_4
def dkwX0_does_2 : List UInt8 := [170, 0, 0, 0, 0, 0, 0, 93, 0, 0, 0, 0, 0, 0, 0, 4, 0, 0, 0, 36, 0, 0, 0, 51, 0, 0, 0, 70, 0, 0, 0, 73, 0, 0, 0, 80]
abbrev dktX0_does_2 : List UInt8 := dkwX0_does_2 ++ dktX0_does_3
def dkwX0_does_1 : List UInt8 := [182, 0, 74, 27, 182, 0, 223, 54, 4, 28]
abbrev dktX0_does_1 : List UInt8 := dkwX0_does_1 ++ dktX0_does_2
def dkwX0_does_0 : List UInt8 := [42, 27, 182, 0, 117, 154, 0, 5, 2, 172, 42, 182, 0, 122, 62, 42, 29, 42, 180, 0, 16, 5]
abbrev dktX0_does_0 : List UInt8 := dkwX0_does_0 ++ dktX0_does_1
theorem dksX0_does_0 : cX0_does.data.toList.drop 0 = dktX0_does_0 := by decide +kernel
theorem dksX0_does_1 : cX0_does.data.toList.drop 22 = dktX0_does_1 := dk_seg dksX0_does_0 22 rfl rfl
theorem dksX0_does_2 : cX0_does.data.toList.drop 32 = dktX0_does_2 := dk_seg dksX0_does_1 10 rfl rfl
theorem dksX0_does_3 : cX0_does.data.toList.drop 68 = dktX0_does_3 := dk_seg dksX0_does_2 36 rfl rfl
theorem dksX0_does_4 : cX0_does.data.toList.drop 90 = dktX0_does_4 := dk_seg dksX0_does_3 22 rfl rfl
theorem dksX0_does_5 : cX0_does.data.toList.drop 114 = dktX0_does_5 := dk_seg dksX0_does_4 24 rfl rfl
theorem dX0_does_0 : decode cX0_does 0 = .ok (.aload_n 0, 1) := dk_42 (dk_at dksX0_does_0 0 rfl rfl)
theorem dX0_does_1 : decode cX0_does 1 = .ok (.iload_n 1, 1) := dk_27 (dk_at dksX0_does_0 1 rfl rfl)
theorem dX0_does_2 : decode cX0_does 2 = .ok (.invokevirtual 117, 3) := dk_182 0 117 (dk_at dksX0_does_0 2 rfl rfl)
theorem dX0_does_5 : decode cX0_does 5 = .ok (.ifCond .ne 5, 3) := dk_154 0 5 (dk_at dksX0_does_0 5 rfl rfl)
theorem dX0_does_8 : decode cX0_does 8 = .ok (.iconst (-1), 1) := dk_2 (dk_at dksX0_does_0 8 rfl rfl)
theorem dX0_does_9 : decode cX0_does 9 = .ok (.ireturn, 1) := dk_172 (dk_at dksX0_does_0 9 rfl rfl)
theorem dX0_does_10 : decode cX0_does 10 = .ok (.aload_n 0, 1) := dk_42 (dk_at dksX0_does_0 10 rfl rfl)
theorem dX0_does_11 : decode cX0_does 11 = .ok (.invokevirtual 122, 3) := dk_182 0 122 (dk_at dksX0_does_0 11 rfl rfl)
theorem dX0_does_14 : decode cX0_does 14 = .ok (.istore_n 3, 1) := dk_62 (dk_at dksX0_does_0 14 rfl rfl)
theorem dX0_does_15 : decode cX0_does 15 = .ok (.aload_n 0, 1) := dk_42 (dk_at dksX0_does_0 15 rfl rfl)
theorem dX0_does_16 : decode cX0_does 16 = .ok (.iload_n 3, 1) := dk_29 (dk_at dksX0_does_0 16 rfl rfl)
theorem dX0_does_17 : decode cX0_does 17 = .ok (.aload_n 0, 1) := dk_42 (dk_at dksX0_does_0 17 rfl rfl)
theorem dX0_does_18 : decode cX0_does 18 = .ok (.getfield 16, 3) := dk_180 0 16 (dk_at dksX0_does_0 18 rfl rfl)
theorem dX0_does_21 : decode cX0_does 21 = .ok (.iconst 2, 1) := dk_5 (dk_at dksX0_does_0 21 rfl rfl)
theorem dX0_does_22 : decode cX0_does 22 = .ok (.invokevirtual 74, 3) := dk_182 0 74 (dk_at dksX0_does_1 0 rfl rfl)
theorem dX0_does_25 : decode cX0_does 25 = .ok (.iload_n 1, 1) := dk_27 (dk_at dksX0_does_1 3 rfl rfl)
theorem dX0_does_26 : decode cX0_does 26 = .ok (.invokevirtual 223, 3) := dk_182 0 223 (dk_at dksX0_does_1 4 rfl rfl)
theorem dX0_does_29 : decode cX0_does 29 = .ok (.istore 4, 2) := dk_54 4 (dk_at dksX0_does_1 7 rfl rfl)
theorem dX0_does_31 : decode cX0_does 31 = .ok (.iload_n 2, 1) := dk_28 (dk_at dksX0_does_1 9 rfl rfl)
theorem dX0_does_32 : decode cX0_does 32 = .ok (.tableswitch 93 0 4 #[36, 51, 70, 73, 80], 36) := by decide +kernel
theorem dX0_does_68 : decode cX0_does 68 = .ok (.aload_n 0, 1) := dk_42 (dk_at dksX0_does_3 0 rfl rfl)
theorem dX0_does_69 : decode cX0_does 69 = .ok (.iload_n 3, 1) := dk_29 (dk_at dksX0_does_3 1 rfl rfl)
theorem dX0_does_70 : decode cX0_does 70 = .ok (.iload_n 1, 1) := dk_27 (dk_at dksX0_does_3 2 rfl rfl)
theorem dX0_does_71 : decode cX0_does 71 = .ok (.invokevirtual 125, 3) := dk_182 0 125 (dk_at dksX0_does_3 3 rfl rfl)
theorem dX0_does_74 : decode cX0_does 74 = .ok (.ifCond .le 7, 3) := dk_158 0 7 (dk_at dksX0_does_3 6 rfl rfl)
theorem dX0_does_77 : decode cX0_does 77 = .ok (.iconst 1, 1) := dk_4 (dk_at dksX0_does_3 9 rfl rfl)
theorem dX0_does_78 : decode cX0_does 78 = .ok (.goto 4, 3) := dk_167 0 4 (dk_at dksX0_does_3 10 rfl rfl)
theorem dX0_does_81 : decode cX0_does 81 = .ok (.iconst 0, 1) := dk_3 (dk_at dksX0_does_3 13 rfl rfl)
theorem dX0_does_82 : decode cX0_does 82 = .ok (.ireturn, 1) := dk_172 (dk_at dksX0_does_3 14 rfl rfl)
theorem dX0_does_83 : decode cX0_does 83 = .ok (.aload_n 0, 1) := dk_42 (dk_at dksX0_does_3 15 rfl rfl)
theorem dX0_does_84 : decode cX0_does 84 = .ok (.getfield 40, 3) := dk_180 0 40 (dk_at dksX0_does_3 16 rfl rfl)
theorem dX0_does_87 : decode cX0_does 87 = .ok (.iload_n 3, 1) := dk_29 (dk_at dksX0_does_3 19 rfl rfl)
theorem dX0_does_88 : decode cX0_does 88 = .ok (.iload_n 1, 1) := dk_27 (dk_at dksX0_does_3 20 rfl rfl)
theorem dX0_does_89 : decode cX0_does 89 = .ok (.iload_n 1, 1) := dk_27 (dk_at dksX0_does_3 21 rfl rfl)
theorem dX0_does_90 : decode cX0_does 90 = .ok (.invokevirtual 154, 3) := dk_182 0 154 (dk_at dksX0_does_4 0 rfl rfl)
theorem dX0_does_93 : decode cX0_does 93 = .ok (.ifCond .eq 7, 3) := dk_153 0 7 (dk_at dksX0_does_4 3 rfl rfl)
theorem dX0_does_96 : decode cX0_does 96 = .ok (.iconst 1, 1) := dk_4 (dk_at dksX0_does_4 6 rfl rfl)
theorem dX0_does_97 : decode cX0_does 97 = .ok (.goto 4, 3) := dk_167 0 4 (dk_at dksX0_does_4 7 rfl rfl)
theorem dX0_does_100 : decode cX0_does 100 = .ok (.iconst 0, 1) := dk_3 (dk_at dksX0_does_4 10 rfl rfl)
theorem dX0_does_101 : decode cX0_does 101 = .ok (.ireturn, 1) := dk_172 (dk_at dksX0_does_4 11 rfl rfl)
theorem dX0_does_102 : decode cX0_does 102 = .ok (.iload 4, 2) := dk_21 4 (dk_at dksX0_does_4 12 rfl rfl)
theorem dX0_does_104 : decode cX0_does 104 = .ok (.ireturn, 1) := dk_172 (dk_at dksX0_does_4 14 rfl rfl)
theorem dX0_does_105 : decode cX0_does 105 = .ok (.aload_n 0, 1) := dk_42 (dk_at dksX0_does_4 15 rfl rfl)
theorem dX0_does_106 : decode cX0_does 106 = .ok (.iload 4, 2) := dk_21 4 (dk_at dksX0_does_4 16 rfl rfl)
theorem dX0_does_108 : decode cX0_does 108 = .ok (.invokevirtual 226, 3) := dk_182 0 226 (dk_at dksX0_does_4 18 rfl rfl)
theorem dX0_does_111 : decode cX0_does 111 = .ok (.ireturn, 1) := dk_172 (dk_at dksX0_does_4 21 rfl rfl)
theorem dX0_does_112 : decode cX0_does 112 = .ok (.aload_n 0, 1) := dk_42 (dk_at dksX0_does_4 22 rfl rfl)
theorem dX0_does_113 : decode cX0_does 113 = .ok (.iload_n 3, 1) := dk_29 (dk_at dksX0_does_4 23 rfl rfl)
theorem dX0_does_114 : decode cX0_does 114 = .ok (.iload_n 1, 1) := dk_27 (dk_at dksX0_does_5 0 rfl rfl)
theorem dX0_does_115 : decode cX0_does 115 = .ok (.aload_n 0, 1) := dk_42 (dk_at dksX0_does_5 1 rfl rfl)
theorem dX0_does_116 : decode cX0_does 116 = .ok (.iload 4, 2) := dk_21 4 (dk_at dksX0_does_5 2 rfl rfl)
theorem dX0_does_118 : decode cX0_does 118 = .ok (.invokevirtual 226, 3) := dk_182 0 226 (dk_at dksX0_does_5 4 rfl rfl)
theorem dX0_does_121 : decode cX0_does 121 = .ok (.invokevirtual 229, 3) := dk_182 0 229 (dk_at dksX0_does_5 7 rfl rfl)
theorem dX0_does_124 : decode cX0_does 124 = .ok (.ireturn, 1) := dk_172 (dk_at dksX0_does_5 10 rfl rfl)
theorem dX0_does_125 : decode cX0_does 125 = .ok (.bipush (-2), 2) := dk_16 254 (dk_at dksX0_does_5 11 rfl rfl)
theorem dX0_does_127 : decode cX0_does 127 = .ok (.ireturn, 1) := dk_172 (dk_at dksX0_does_5 13 rfl rfl)
abbrev cX0_ruleOf : ByteArray := prog_1_method_26_code
def yX0_ruleOf : MethodName := ⟨RX0, "ruleOf", "(III)I"⟩
def dkwX0_ruleOf_2 : List UInt8 := [167, 0, 4, 3, 182, 0, 219, 153, 0, 6, 21, 5, 172, 132, 5, 1, 167, 255, 203, 16, 250, 172]
abbrev dktX0_ruleOf_2 : List UInt8 := dkwX0_ruleOf_2 ++ []
def dkwX0_ruleOf_1 : List UInt8 := [42, 180, 0, 16, 180, 0, 186, 21, 5, 50, 27, 29, 21, 4, 28, 29, 122, 4, 126, 4, 160, 0, 7, 4]
abbrev dktX0_ruleOf_1 : List UInt8 := dkwX0_ruleOf_1 ++ dktX0_ruleOf_2
def dkwX0_ruleOf_0 : List UInt8 := [42, 27, 29, 182, 0, 125, 54, 4, 3, 54, 5, 21, 5, 42, 180, 0, 16, 180, 0, 181, 162, 0, 47, 42]
abbrev dktX0_ruleOf_0 : List UInt8 := dkwX0_ruleOf_0 ++ dktX0_ruleOf_1
theorem dksX0_ruleOf_0 : cX0_ruleOf.data.toList.drop 0 = dktX0_ruleOf_0 := by decide +kernel
theorem dksX0_ruleOf_1 : cX0_ruleOf.data.toList.drop 24 = dktX0_ruleOf_1 := dk_seg dksX0_ruleOf_0 24 rfl rfl
theorem dksX0_ruleOf_2 : cX0_ruleOf.data.toList.drop 48 = dktX0_ruleOf_2 := dk_seg dksX0_ruleOf_1 24 rfl rfl
theorem dX0_ruleOf_0 : decode cX0_ruleOf 0 = .ok (.aload_n 0, 1) := dk_42 (dk_at dksX0_ruleOf_0 0 rfl rfl)
theorem dX0_ruleOf_1 : decode cX0_ruleOf 1 = .ok (.iload_n 1, 1) := dk_27 (dk_at dksX0_ruleOf_0 1 rfl rfl)
theorem dX0_ruleOf_2 : decode cX0_ruleOf 2 = .ok (.iload_n 3, 1) := dk_29 (dk_at dksX0_ruleOf_0 2 rfl rfl)
theorem dX0_ruleOf_3 : decode cX0_ruleOf 3 = .ok (.invokevirtual 125, 3) := dk_182 0 125 (dk_at dksX0_ruleOf_0 3 rfl rfl)
theorem dX0_ruleOf_6 : decode cX0_ruleOf 6 = .ok (.istore 4, 2) := dk_54 4 (dk_at dksX0_ruleOf_0 6 rfl rfl)
theorem dX0_ruleOf_8 : decode cX0_ruleOf 8 = .ok (.iconst 0, 1) := dk_3 (dk_at dksX0_ruleOf_0 8 rfl rfl)
theorem dX0_ruleOf_9 : decode cX0_ruleOf 9 = .ok (.istore 5, 2) := dk_54 5 (dk_at dksX0_ruleOf_0 9 rfl rfl)
theorem dX0_ruleOf_11 : decode cX0_ruleOf 11 = .ok (.iload 5, 2) := dk_21 5 (dk_at dksX0_ruleOf_0 11 rfl rfl)
theorem dX0_ruleOf_13 : decode cX0_ruleOf 13 = .ok (.aload_n 0, 1) := dk_42 (dk_at dksX0_ruleOf_0 13 rfl rfl)
theorem dX0_ruleOf_14 : decode cX0_ruleOf 14 = .ok (.getfield 16, 3) := dk_180 0 16 (dk_at dksX0_ruleOf_0 14 rfl rfl)
theorem dX0_ruleOf_17 : decode cX0_ruleOf 17 = .ok (.getfield 181, 3) := dk_180 0 181 (dk_at dksX0_ruleOf_0 17 rfl rfl)
theorem dX0_ruleOf_20 : decode cX0_ruleOf 20 = .ok (.if_icmp .ge 47, 3) := dk_162 0 47 (dk_at dksX0_ruleOf_0 20 rfl rfl)
theorem dX0_ruleOf_23 : decode cX0_ruleOf 23 = .ok (.aload_n 0, 1) := dk_42 (dk_at dksX0_ruleOf_0 23 rfl rfl)
theorem dX0_ruleOf_24 : decode cX0_ruleOf 24 = .ok (.aload_n 0, 1) := dk_42 (dk_at dksX0_ruleOf_1 0 rfl rfl)
theorem dX0_ruleOf_25 : decode cX0_ruleOf 25 = .ok (.getfield 16, 3) := dk_180 0 16 (dk_at dksX0_ruleOf_1 1 rfl rfl)
theorem dX0_ruleOf_28 : decode cX0_ruleOf 28 = .ok (.getfield 186, 3) := dk_180 0 186 (dk_at dksX0_ruleOf_1 4 rfl rfl)
theorem dX0_ruleOf_31 : decode cX0_ruleOf 31 = .ok (.iload 5, 2) := dk_21 5 (dk_at dksX0_ruleOf_1 7 rfl rfl)
theorem dX0_ruleOf_33 : decode cX0_ruleOf 33 = .ok (.aaload, 1) := dk_50 (dk_at dksX0_ruleOf_1 9 rfl rfl)
theorem dX0_ruleOf_34 : decode cX0_ruleOf 34 = .ok (.iload_n 1, 1) := dk_27 (dk_at dksX0_ruleOf_1 10 rfl rfl)
theorem dX0_ruleOf_35 : decode cX0_ruleOf 35 = .ok (.iload_n 3, 1) := dk_29 (dk_at dksX0_ruleOf_1 11 rfl rfl)
theorem dX0_ruleOf_36 : decode cX0_ruleOf 36 = .ok (.iload 4, 2) := dk_21 4 (dk_at dksX0_ruleOf_1 12 rfl rfl)
theorem dX0_ruleOf_38 : decode cX0_ruleOf 38 = .ok (.iload_n 2, 1) := dk_28 (dk_at dksX0_ruleOf_1 14 rfl rfl)
theorem dX0_ruleOf_39 : decode cX0_ruleOf 39 = .ok (.iload_n 3, 1) := dk_29 (dk_at dksX0_ruleOf_1 15 rfl rfl)
theorem dX0_ruleOf_40 : decode cX0_ruleOf 40 = .ok (.ishr, 1) := dk_122 (dk_at dksX0_ruleOf_1 16 rfl rfl)
theorem dX0_ruleOf_41 : decode cX0_ruleOf 41 = .ok (.iconst 1, 1) := dk_4 (dk_at dksX0_ruleOf_1 17 rfl rfl)
theorem dX0_ruleOf_42 : decode cX0_ruleOf 42 = .ok (.iand, 1) := dk_126 (dk_at dksX0_ruleOf_1 18 rfl rfl)
theorem dX0_ruleOf_43 : decode cX0_ruleOf 43 = .ok (.iconst 1, 1) := dk_4 (dk_at dksX0_ruleOf_1 19 rfl rfl)
theorem dX0_ruleOf_44 : decode cX0_ruleOf 44 = .ok (.if_icmp .ne 7, 3) := dk_160 0 7 (dk_at dksX0_ruleOf_1 20 rfl rfl)
theorem dX0_ruleOf_47 : decode cX0_ruleOf 47 = .ok (.iconst 1, 1) := dk_4 (dk_at dksX0_ruleOf_1 23 rfl rfl)
theorem dX0_ruleOf_48 : decode cX0_ruleOf 48 = .ok (.goto 4, 3) := dk_167 0 4 (dk_at dksX0_ruleOf_2 0 rfl rfl)
theorem dX0_ruleOf_51 : decode cX0_ruleOf 51 = .ok (.iconst 0, 1) := dk_3 (dk_at dksX0_ruleOf_2 3 rfl rfl)
theorem dX0_ruleOf_52 : decode cX0_ruleOf 52 = .ok (.invokevirtual 219, 3) := dk_182 0 219 (dk_at dksX0_ruleOf_2 4 rfl rfl)
theorem dX0_ruleOf_55 : decode cX0_ruleOf 55 = .ok (.ifCond .eq 6, 3) := dk_153 0 6 (dk_at dksX0_ruleOf_2 7 rfl rfl)
theorem dX0_ruleOf_58 : decode cX0_ruleOf 58 = .ok (.iload 5, 2) := dk_21 5 (dk_at dksX0_ruleOf_2 10 rfl rfl)
theorem dX0_ruleOf_60 : decode cX0_ruleOf 60 = .ok (.ireturn, 1) := dk_172 (dk_at dksX0_ruleOf_2 12 rfl rfl)
theorem dX0_ruleOf_61 : decode cX0_ruleOf 61 = .ok (.iinc 5 1, 3) := dk_132 5 1 (dk_at dksX0_ruleOf_2 13 rfl rfl)
theorem dX0_ruleOf_64 : decode cX0_ruleOf 64 = .ok (.goto (-53), 3) := dk_167 255 203 (dk_at dksX0_ruleOf_2 16 rfl rfl)
theorem dX0_ruleOf_67 : decode cX0_ruleOf 67 = .ok (.bipush (-6), 2) := dk_16 250 (dk_at dksX0_ruleOf_2 19 rfl rfl)
theorem dX0_ruleOf_69 : decode cX0_ruleOf 69 = .ok (.ireturn, 1) := dk_172 (dk_at dksX0_ruleOf_2 21 rfl rfl)
abbrev cX0_fits : ByteArray := prog_1_method_25_code
def yX0_fits : MethodName := ⟨RX0, "fits", "(LRingMeets$Rule;IIIZ)Z"⟩
def dkwX0_fits_3 : List UInt8 := [29, 21, 4, 43, 180, 0, 194, 182, 0, 128, 182, 0, 216, 153, 0, 7, 4, 167, 0, 4, 3, 172]
abbrev dktX0_fits_3 : List UInt8 := dkwX0_fits_3 ++ []
def dkwX0_fits_2 : List UInt8 := [153, 0, 12, 43, 180, 0, 190, 21, 6, 160, 0, 35, 43, 180, 0, 194, 21, 6, 162, 0, 26, 43, 42, 28]
abbrev dktX0_fits_2 : List UInt8 := dkwX0_fits_2 ++ dktX0_fits_3
def dkwX0_fits_1 : List UInt8 := [167, 0, 4, 3, 160, 0, 7, 4, 167, 0, 4, 3, 54, 7, 21, 7, 153, 0, 51, 43, 180, 0, 190]
abbrev dktX0_fits_1 : List UInt8 := dkwX0_fits_1 ++ dktX0_fits_2
def dkwX0_fits_0 : List UInt8 := [28, 184, 0, 108, 54, 6, 43, 180, 0, 206, 5, 159, 0, 20, 43, 180, 0, 206, 21, 5, 153, 0, 7, 4]
abbrev dktX0_fits_0 : List UInt8 := dkwX0_fits_0 ++ dktX0_fits_1
theorem dksX0_fits_0 : cX0_fits.data.toList.drop 0 = dktX0_fits_0 := by decide +kernel
theorem dksX0_fits_1 : cX0_fits.data.toList.drop 24 = dktX0_fits_1 := dk_seg dksX0_fits_0 24 rfl rfl
theorem dksX0_fits_2 : cX0_fits.data.toList.drop 47 = dktX0_fits_2 := dk_seg dksX0_fits_1 23 rfl rfl
theorem dksX0_fits_3 : cX0_fits.data.toList.drop 71 = dktX0_fits_3 := dk_seg dksX0_fits_2 24 rfl rfl
theorem dX0_fits_0 : decode cX0_fits 0 = .ok (.iload_n 2, 1) := dk_28 (dk_at dksX0_fits_0 0 rfl rfl)
theorem dX0_fits_1 : decode cX0_fits 1 = .ok (.invokestatic 108, 3) := dk_184 0 108 (dk_at dksX0_fits_0 1 rfl rfl)
theorem dX0_fits_4 : decode cX0_fits 4 = .ok (.istore 6, 2) := dk_54 6 (dk_at dksX0_fits_0 4 rfl rfl)
theorem dX0_fits_6 : decode cX0_fits 6 = .ok (.aload_n 1, 1) := dk_43 (dk_at dksX0_fits_0 6 rfl rfl)
theorem dX0_fits_7 : decode cX0_fits 7 = .ok (.getfield 206, 3) := dk_180 0 206 (dk_at dksX0_fits_0 7 rfl rfl)
theorem dX0_fits_10 : decode cX0_fits 10 = .ok (.iconst 2, 1) := dk_5 (dk_at dksX0_fits_0 10 rfl rfl)
theorem dX0_fits_11 : decode cX0_fits 11 = .ok (.if_icmp .eq 20, 3) := dk_159 0 20 (dk_at dksX0_fits_0 11 rfl rfl)
theorem dX0_fits_14 : decode cX0_fits 14 = .ok (.aload_n 1, 1) := dk_43 (dk_at dksX0_fits_0 14 rfl rfl)
theorem dX0_fits_15 : decode cX0_fits 15 = .ok (.getfield 206, 3) := dk_180 0 206 (dk_at dksX0_fits_0 15 rfl rfl)
theorem dX0_fits_18 : decode cX0_fits 18 = .ok (.iload 5, 2) := dk_21 5 (dk_at dksX0_fits_0 18 rfl rfl)
theorem dX0_fits_20 : decode cX0_fits 20 = .ok (.ifCond .eq 7, 3) := dk_153 0 7 (dk_at dksX0_fits_0 20 rfl rfl)
theorem dX0_fits_23 : decode cX0_fits 23 = .ok (.iconst 1, 1) := dk_4 (dk_at dksX0_fits_0 23 rfl rfl)
theorem dX0_fits_24 : decode cX0_fits 24 = .ok (.goto 4, 3) := dk_167 0 4 (dk_at dksX0_fits_1 0 rfl rfl)
theorem dX0_fits_27 : decode cX0_fits 27 = .ok (.iconst 0, 1) := dk_3 (dk_at dksX0_fits_1 3 rfl rfl)
theorem dX0_fits_28 : decode cX0_fits 28 = .ok (.if_icmp .ne 7, 3) := dk_160 0 7 (dk_at dksX0_fits_1 4 rfl rfl)
theorem dX0_fits_31 : decode cX0_fits 31 = .ok (.iconst 1, 1) := dk_4 (dk_at dksX0_fits_1 7 rfl rfl)
theorem dX0_fits_32 : decode cX0_fits 32 = .ok (.goto 4, 3) := dk_167 0 4 (dk_at dksX0_fits_1 8 rfl rfl)
theorem dX0_fits_35 : decode cX0_fits 35 = .ok (.iconst 0, 1) := dk_3 (dk_at dksX0_fits_1 11 rfl rfl)
theorem dX0_fits_36 : decode cX0_fits 36 = .ok (.istore 7, 2) := dk_54 7 (dk_at dksX0_fits_1 12 rfl rfl)
theorem dX0_fits_38 : decode cX0_fits 38 = .ok (.iload 7, 2) := dk_21 7 (dk_at dksX0_fits_1 14 rfl rfl)
theorem dX0_fits_40 : decode cX0_fits 40 = .ok (.ifCond .eq 51, 3) := dk_153 0 51 (dk_at dksX0_fits_1 16 rfl rfl)
theorem dX0_fits_43 : decode cX0_fits 43 = .ok (.aload_n 1, 1) := dk_43 (dk_at dksX0_fits_1 19 rfl rfl)
theorem dX0_fits_44 : decode cX0_fits 44 = .ok (.getfield 190, 3) := dk_180 0 190 (dk_at dksX0_fits_1 20 rfl rfl)
theorem dX0_fits_47 : decode cX0_fits 47 = .ok (.ifCond .eq 12, 3) := dk_153 0 12 (dk_at dksX0_fits_2 0 rfl rfl)
theorem dX0_fits_50 : decode cX0_fits 50 = .ok (.aload_n 1, 1) := dk_43 (dk_at dksX0_fits_2 3 rfl rfl)
theorem dX0_fits_51 : decode cX0_fits 51 = .ok (.getfield 190, 3) := dk_180 0 190 (dk_at dksX0_fits_2 4 rfl rfl)
theorem dX0_fits_54 : decode cX0_fits 54 = .ok (.iload 6, 2) := dk_21 6 (dk_at dksX0_fits_2 7 rfl rfl)
theorem dX0_fits_56 : decode cX0_fits 56 = .ok (.if_icmp .ne 35, 3) := dk_160 0 35 (dk_at dksX0_fits_2 9 rfl rfl)
theorem dX0_fits_59 : decode cX0_fits 59 = .ok (.aload_n 1, 1) := dk_43 (dk_at dksX0_fits_2 12 rfl rfl)
theorem dX0_fits_60 : decode cX0_fits 60 = .ok (.getfield 194, 3) := dk_180 0 194 (dk_at dksX0_fits_2 13 rfl rfl)
theorem dX0_fits_63 : decode cX0_fits 63 = .ok (.iload 6, 2) := dk_21 6 (dk_at dksX0_fits_2 16 rfl rfl)
theorem dX0_fits_65 : decode cX0_fits 65 = .ok (.if_icmp .ge 26, 3) := dk_162 0 26 (dk_at dksX0_fits_2 18 rfl rfl)
theorem dX0_fits_68 : decode cX0_fits 68 = .ok (.aload_n 1, 1) := dk_43 (dk_at dksX0_fits_2 21 rfl rfl)
theorem dX0_fits_69 : decode cX0_fits 69 = .ok (.aload_n 0, 1) := dk_42 (dk_at dksX0_fits_2 22 rfl rfl)
theorem dX0_fits_70 : decode cX0_fits 70 = .ok (.iload_n 2, 1) := dk_28 (dk_at dksX0_fits_2 23 rfl rfl)
theorem dX0_fits_71 : decode cX0_fits 71 = .ok (.iload_n 3, 1) := dk_29 (dk_at dksX0_fits_3 0 rfl rfl)
theorem dX0_fits_72 : decode cX0_fits 72 = .ok (.iload 4, 2) := dk_21 4 (dk_at dksX0_fits_3 1 rfl rfl)
theorem dX0_fits_74 : decode cX0_fits 74 = .ok (.aload_n 1, 1) := dk_43 (dk_at dksX0_fits_3 3 rfl rfl)
theorem dX0_fits_75 : decode cX0_fits 75 = .ok (.getfield 194, 3) := dk_180 0 194 (dk_at dksX0_fits_3 4 rfl rfl)
theorem dX0_fits_78 : decode cX0_fits 78 = .ok (.invokevirtual 128, 3) := dk_182 0 128 (dk_at dksX0_fits_3 7 rfl rfl)
theorem dX0_fits_81 : decode cX0_fits 81 = .ok (.invokevirtual 216, 3) := dk_182 0 216 (dk_at dksX0_fits_3 10 rfl rfl)
theorem dX0_fits_84 : decode cX0_fits 84 = .ok (.ifCond .eq 7, 3) := dk_153 0 7 (dk_at dksX0_fits_3 13 rfl rfl)
theorem dX0_fits_87 : decode cX0_fits 87 = .ok (.iconst 1, 1) := dk_4 (dk_at dksX0_fits_3 16 rfl rfl)
theorem dX0_fits_88 : decode cX0_fits 88 = .ok (.goto 4, 3) := dk_167 0 4 (dk_at dksX0_fits_3 17 rfl rfl)
theorem dX0_fits_91 : decode cX0_fits 91 = .ok (.iconst 0, 1) := dk_3 (dk_at dksX0_fits_3 20 rfl rfl)
theorem dX0_fits_92 : decode cX0_fits 92 = .ok (.ireturn, 1) := dk_172 (dk_at dksX0_fits_3 21 rfl rfl)
abbrev cX0_doneBy : ByteArray := prog_1_method_27_code
def yX0_doneBy : MethodName := ⟨RX0, "doneBy", "(I)I"⟩
def dkwX0_doneBy_0 : List UInt8 := [27, 156, 0, 7, 3, 167, 0, 15, 42, 180, 0, 16, 180, 0, 186, 27, 50, 180, 0, 203, 172]
abbrev dktX0_doneBy_0 : List UInt8 := dkwX0_doneBy_0 ++ []
theorem dksX0_doneBy_0 : cX0_doneBy.data.toList.drop 0 = dktX0_doneBy_0 := by decide +kernel
theorem dX0_doneBy_0 : decode cX0_doneBy 0 = .ok (.iload_n 1, 1) := dk_27 (dk_at dksX0_doneBy_0 0 rfl rfl)
theorem dX0_doneBy_1 : decode cX0_doneBy 1 = .ok (.ifCond .ge 7, 3) := dk_156 0 7 (dk_at dksX0_doneBy_0 1 rfl rfl)
theorem dX0_doneBy_4 : decode cX0_doneBy 4 = .ok (.iconst 0, 1) := dk_3 (dk_at dksX0_doneBy_0 4 rfl rfl)
theorem dX0_doneBy_5 : decode cX0_doneBy 5 = .ok (.goto 15, 3) := dk_167 0 15 (dk_at dksX0_doneBy_0 5 rfl rfl)
theorem dX0_doneBy_8 : decode cX0_doneBy 8 = .ok (.aload_n 0, 1) := dk_42 (dk_at dksX0_doneBy_0 8 rfl rfl)
theorem dX0_doneBy_9 : decode cX0_doneBy 9 = .ok (.getfield 16, 3) := dk_180 0 16 (dk_at dksX0_doneBy_0 9 rfl rfl)
theorem dX0_doneBy_12 : decode cX0_doneBy 12 = .ok (.getfield 186, 3) := dk_180 0 186 (dk_at dksX0_doneBy_0 12 rfl rfl)
theorem dX0_doneBy_15 : decode cX0_doneBy 15 = .ok (.iload_n 1, 1) := dk_27 (dk_at dksX0_doneBy_0 15 rfl rfl)
theorem dX0_doneBy_16 : decode cX0_doneBy 16 = .ok (.aaload, 1) := dk_50 (dk_at dksX0_doneBy_0 16 rfl rfl)
theorem dX0_doneBy_17 : decode cX0_doneBy 17 = .ok (.getfield 203, 3) := dk_180 0 203 (dk_at dksX0_doneBy_0 17 rfl rfl)
theorem dX0_doneBy_20 : decode cX0_doneBy 20 = .ok (.ireturn, 1) := dk_172 (dk_at dksX0_doneBy_0 20 rfl rfl)
abbrev cX0_goesTo : ByteArray := prog_1_method_28_code
def yX0_goesTo : MethodName := ⟨RX0, "goesTo", "(III)I"⟩
def dkwX0_goesTo_1 : List UInt8 := [42, 27, 28, 182, 0, 125, 116, 182, 0, 101, 172]
abbrev dktX0_goesTo_1 : List UInt8 := dkwX0_goesTo_1 ++ []
def dkwX0_goesTo_0 : List UInt8 := [29, 154, 0, 7, 28, 167, 0, 29, 42, 28, 29, 4, 160, 0, 12, 42, 27, 28, 182, 0, 125, 167, 0, 10]
abbrev dktX0_goesTo_0 : List UInt8 := dkwX0_goesTo_0 ++ dktX0_goesTo_1
theorem dksX0_goesTo_0 : cX0_goesTo.data.toList.drop 0 = dktX0_goesTo_0 := by decide +kernel
theorem dksX0_goesTo_1 : cX0_goesTo.data.toList.drop 24 = dktX0_goesTo_1 := dk_seg dksX0_goesTo_0 24 rfl rfl
theorem dX0_goesTo_0 : decode cX0_goesTo 0 = .ok (.iload_n 3, 1) := dk_29 (dk_at dksX0_goesTo_0 0 rfl rfl)
theorem dX0_goesTo_1 : decode cX0_goesTo 1 = .ok (.ifCond .ne 7, 3) := dk_154 0 7 (dk_at dksX0_goesTo_0 1 rfl rfl)
theorem dX0_goesTo_4 : decode cX0_goesTo 4 = .ok (.iload_n 2, 1) := dk_28 (dk_at dksX0_goesTo_0 4 rfl rfl)
theorem dX0_goesTo_5 : decode cX0_goesTo 5 = .ok (.goto 29, 3) := dk_167 0 29 (dk_at dksX0_goesTo_0 5 rfl rfl)
theorem dX0_goesTo_8 : decode cX0_goesTo 8 = .ok (.aload_n 0, 1) := dk_42 (dk_at dksX0_goesTo_0 8 rfl rfl)
theorem dX0_goesTo_9 : decode cX0_goesTo 9 = .ok (.iload_n 2, 1) := dk_28 (dk_at dksX0_goesTo_0 9 rfl rfl)
theorem dX0_goesTo_10 : decode cX0_goesTo 10 = .ok (.iload_n 3, 1) := dk_29 (dk_at dksX0_goesTo_0 10 rfl rfl)
theorem dX0_goesTo_11 : decode cX0_goesTo 11 = .ok (.iconst 1, 1) := dk_4 (dk_at dksX0_goesTo_0 11 rfl rfl)
theorem dX0_goesTo_12 : decode cX0_goesTo 12 = .ok (.if_icmp .ne 12, 3) := dk_160 0 12 (dk_at dksX0_goesTo_0 12 rfl rfl)
theorem dX0_goesTo_15 : decode cX0_goesTo 15 = .ok (.aload_n 0, 1) := dk_42 (dk_at dksX0_goesTo_0 15 rfl rfl)
theorem dX0_goesTo_16 : decode cX0_goesTo 16 = .ok (.iload_n 1, 1) := dk_27 (dk_at dksX0_goesTo_0 16 rfl rfl)
theorem dX0_goesTo_17 : decode cX0_goesTo 17 = .ok (.iload_n 2, 1) := dk_28 (dk_at dksX0_goesTo_0 17 rfl rfl)
theorem dX0_goesTo_18 : decode cX0_goesTo 18 = .ok (.invokevirtual 125, 3) := dk_182 0 125 (dk_at dksX0_goesTo_0 18 rfl rfl)
theorem dX0_goesTo_21 : decode cX0_goesTo 21 = .ok (.goto 10, 3) := dk_167 0 10 (dk_at dksX0_goesTo_0 21 rfl rfl)
theorem dX0_goesTo_24 : decode cX0_goesTo 24 = .ok (.aload_n 0, 1) := dk_42 (dk_at dksX0_goesTo_1 0 rfl rfl)
theorem dX0_goesTo_25 : decode cX0_goesTo 25 = .ok (.iload_n 1, 1) := dk_27 (dk_at dksX0_goesTo_1 1 rfl rfl)
theorem dX0_goesTo_26 : decode cX0_goesTo 26 = .ok (.iload_n 2, 1) := dk_28 (dk_at dksX0_goesTo_1 2 rfl rfl)
theorem dX0_goesTo_27 : decode cX0_goesTo 27 = .ok (.invokevirtual 125, 3) := dk_182 0 125 (dk_at dksX0_goesTo_1 3 rfl rfl)
theorem dX0_goesTo_30 : decode cX0_goesTo 30 = .ok (.ineg, 1) := dk_116 (dk_at dksX0_goesTo_1 6 rfl rfl)
theorem dX0_goesTo_31 : decode cX0_goesTo 31 = .ok (.invokevirtual 101, 3) := dk_182 0 101 (dk_at dksX0_goesTo_1 7 rfl rfl)
theorem dX0_goesTo_34 : decode cX0_goesTo 34 = .ok (.ireturn, 1) := dk_172 (dk_at dksX0_goesTo_1 10 rfl rfl)
abbrev cX0_step : ByteArray := prog_1_method_30_code
def yX0_step : MethodName := ⟨RX0, "step", "(I)I"⟩
def dkwX0_step_6 : List UInt8 := [184, 0, 232, 42, 182, 0, 122, 184, 0, 108, 172]
abbrev dktX0_step_6 : List UInt8 := dkwX0_step_6 ++ []
def dkwX0_step_5 : List UInt8 := [180, 0, 82, 21, 6, 46, 96, 79, 167, 255, 178, 25, 4, 3, 42, 180, 0, 16, 180, 0, 82, 3, 16, 10]
abbrev dktX0_step_5 : List UInt8 := dkwX0_step_5 ++ dktX0_step_6
def dkwX0_step_4 : List UInt8 := [21, 6, 182, 0, 223, 182, 0, 226, 182, 0, 229, 54, 7, 25, 4, 21, 7, 92, 46, 42, 180, 0, 16]
abbrev dktX0_step_4 : List UInt8 := dkwX0_step_4 ++ dktX0_step_5
def dkwX0_step_3 : List UInt8 := [54, 6, 27, 21, 6, 122, 4, 126, 154, 0, 8, 21, 6, 167, 0, 22, 42, 28, 21, 6, 42, 42, 28, 29]
abbrev dktX0_step_3 : List UInt8 := dkwX0_step_3 ++ dktX0_step_4
def dkwX0_step_2 : List UInt8 := [25, 5, 185, 0, 141, 1, 0, 153, 0, 74, 25, 5, 185, 0, 147, 1, 0, 192, 0, 109, 182, 0, 151]
abbrev dktX0_step_2 : List UInt8 := dkwX0_step_2 ++ dktX0_step_3
def dkwX0_step_1 : List UInt8 := [5, 182, 0, 74, 62, 16, 10, 188, 10, 58, 4, 187, 0, 132, 89, 28, 183, 0, 134, 182, 0, 137, 58, 5]
abbrev dktX0_step_1 : List UInt8 := dkwX0_step_1 ++ dktX0_step_2
def dkwX0_step_0 : List UInt8 := [42, 182, 0, 122, 61, 27, 155, 0, 11, 27, 28, 2, 130, 126, 153, 0, 6, 16, 254, 172, 42, 180, 0, 16]
abbrev dktX0_step_0 : List UInt8 := dkwX0_step_0 ++ dktX0_step_1
theorem dksX0_step_0 : cX0_step.data.toList.drop 0 = dktX0_step_0 := by decide +kernel
theorem dksX0_step_1 : cX0_step.data.toList.drop 24 = dktX0_step_1 := dk_seg dksX0_step_0 24 rfl rfl
theorem dksX0_step_2 : cX0_step.data.toList.drop 48 = dktX0_step_2 := dk_seg dksX0_step_1 24 rfl rfl
theorem dksX0_step_3 : cX0_step.data.toList.drop 71 = dktX0_step_3 := dk_seg dksX0_step_2 23 rfl rfl
theorem dksX0_step_4 : cX0_step.data.toList.drop 95 = dktX0_step_4 := dk_seg dksX0_step_3 24 rfl rfl
theorem dksX0_step_5 : cX0_step.data.toList.drop 118 = dktX0_step_5 := dk_seg dksX0_step_4 23 rfl rfl
theorem dksX0_step_6 : cX0_step.data.toList.drop 142 = dktX0_step_6 := dk_seg dksX0_step_5 24 rfl rfl
theorem dX0_step_0 : decode cX0_step 0 = .ok (.aload_n 0, 1) := dk_42 (dk_at dksX0_step_0 0 rfl rfl)
theorem dX0_step_1 : decode cX0_step 1 = .ok (.invokevirtual 122, 3) := dk_182 0 122 (dk_at dksX0_step_0 1 rfl rfl)
theorem dX0_step_4 : decode cX0_step 4 = .ok (.istore_n 2, 1) := dk_61 (dk_at dksX0_step_0 4 rfl rfl)
theorem dX0_step_5 : decode cX0_step 5 = .ok (.iload_n 1, 1) := dk_27 (dk_at dksX0_step_0 5 rfl rfl)
theorem dX0_step_6 : decode cX0_step 6 = .ok (.ifCond .lt 11, 3) := dk_155 0 11 (dk_at dksX0_step_0 6 rfl rfl)
theorem dX0_step_9 : decode cX0_step 9 = .ok (.iload_n 1, 1) := dk_27 (dk_at dksX0_step_0 9 rfl rfl)
theorem dX0_step_10 : decode cX0_step 10 = .ok (.iload_n 2, 1) := dk_28 (dk_at dksX0_step_0 10 rfl rfl)
theorem dX0_step_11 : decode cX0_step 11 = .ok (.iconst (-1), 1) := dk_2 (dk_at dksX0_step_0 11 rfl rfl)
theorem dX0_step_12 : decode cX0_step 12 = .ok (.ixor, 1) := dk_130 (dk_at dksX0_step_0 12 rfl rfl)
theorem dX0_step_13 : decode cX0_step 13 = .ok (.iand, 1) := dk_126 (dk_at dksX0_step_0 13 rfl rfl)
theorem dX0_step_14 : decode cX0_step 14 = .ok (.ifCond .eq 6, 3) := dk_153 0 6 (dk_at dksX0_step_0 14 rfl rfl)
theorem dX0_step_17 : decode cX0_step 17 = .ok (.bipush (-2), 2) := dk_16 254 (dk_at dksX0_step_0 17 rfl rfl)
theorem dX0_step_19 : decode cX0_step 19 = .ok (.ireturn, 1) := dk_172 (dk_at dksX0_step_0 19 rfl rfl)
theorem dX0_step_20 : decode cX0_step 20 = .ok (.aload_n 0, 1) := dk_42 (dk_at dksX0_step_0 20 rfl rfl)
theorem dX0_step_21 : decode cX0_step 21 = .ok (.getfield 16, 3) := dk_180 0 16 (dk_at dksX0_step_0 21 rfl rfl)
theorem dX0_step_24 : decode cX0_step 24 = .ok (.iconst 2, 1) := dk_5 (dk_at dksX0_step_1 0 rfl rfl)
theorem dX0_step_25 : decode cX0_step 25 = .ok (.invokevirtual 74, 3) := dk_182 0 74 (dk_at dksX0_step_1 1 rfl rfl)
theorem dX0_step_28 : decode cX0_step 28 = .ok (.istore_n 3, 1) := dk_62 (dk_at dksX0_step_1 4 rfl rfl)
theorem dX0_step_29 : decode cX0_step 29 = .ok (.bipush 10, 2) := dk_16 10 (dk_at dksX0_step_1 5 rfl rfl)
theorem dX0_step_31 : decode cX0_step 31 = .ok (.newarray .int, 2) := dk_188_10 (dk_at dksX0_step_1 7 rfl rfl)
theorem dX0_step_33 : decode cX0_step 33 = .ok (.astore 4, 2) := dk_58 4 (dk_at dksX0_step_1 9 rfl rfl)
theorem dX0_step_35 : decode cX0_step 35 = .ok (.new 132, 3) := dk_187 0 132 (dk_at dksX0_step_1 11 rfl rfl)
theorem dX0_step_38 : decode cX0_step 38 = .ok (.dup, 1) := dk_89 (dk_at dksX0_step_1 14 rfl rfl)
theorem dX0_step_39 : decode cX0_step 39 = .ok (.iload_n 2, 1) := dk_28 (dk_at dksX0_step_1 15 rfl rfl)
theorem dX0_step_40 : decode cX0_step 40 = .ok (.invokespecial 134, 3) := dk_183 0 134 (dk_at dksX0_step_1 16 rfl rfl)
theorem dX0_step_43 : decode cX0_step 43 = .ok (.invokevirtual 137, 3) := dk_182 0 137 (dk_at dksX0_step_1 19 rfl rfl)
theorem dX0_step_46 : decode cX0_step 46 = .ok (.astore 5, 2) := dk_58 5 (dk_at dksX0_step_1 22 rfl rfl)
theorem dX0_step_48 : decode cX0_step 48 = .ok (.aload 5, 2) := dk_25 5 (dk_at dksX0_step_2 0 rfl rfl)
theorem dX0_step_50 : decode cX0_step 50 = .ok (.invokeinterface 141 1, 5) := by decide +kernel
theorem dX0_step_55 : decode cX0_step 55 = .ok (.ifCond .eq 74, 3) := dk_153 0 74 (dk_at dksX0_step_2 7 rfl rfl)
theorem dX0_step_58 : decode cX0_step 58 = .ok (.aload 5, 2) := dk_25 5 (dk_at dksX0_step_2 10 rfl rfl)
theorem dX0_step_60 : decode cX0_step 60 = .ok (.invokeinterface 147 1, 5) := by decide +kernel
theorem dX0_step_65 : decode cX0_step 65 = .ok (.checkcast 109, 3) := dk_192 0 109 (dk_at dksX0_step_2 17 rfl rfl)
theorem dX0_step_68 : decode cX0_step 68 = .ok (.invokevirtual 151, 3) := dk_182 0 151 (dk_at dksX0_step_2 20 rfl rfl)
theorem dX0_step_71 : decode cX0_step 71 = .ok (.istore 6, 2) := dk_54 6 (dk_at dksX0_step_3 0 rfl rfl)
theorem dX0_step_73 : decode cX0_step 73 = .ok (.iload_n 1, 1) := dk_27 (dk_at dksX0_step_3 2 rfl rfl)
theorem dX0_step_74 : decode cX0_step 74 = .ok (.iload 6, 2) := dk_21 6 (dk_at dksX0_step_3 3 rfl rfl)
theorem dX0_step_76 : decode cX0_step 76 = .ok (.ishr, 1) := dk_122 (dk_at dksX0_step_3 5 rfl rfl)
theorem dX0_step_77 : decode cX0_step 77 = .ok (.iconst 1, 1) := dk_4 (dk_at dksX0_step_3 6 rfl rfl)
theorem dX0_step_78 : decode cX0_step 78 = .ok (.iand, 1) := dk_126 (dk_at dksX0_step_3 7 rfl rfl)
theorem dX0_step_79 : decode cX0_step 79 = .ok (.ifCond .ne 8, 3) := dk_154 0 8 (dk_at dksX0_step_3 8 rfl rfl)
theorem dX0_step_82 : decode cX0_step 82 = .ok (.iload 6, 2) := dk_21 6 (dk_at dksX0_step_3 11 rfl rfl)
theorem dX0_step_84 : decode cX0_step 84 = .ok (.goto 22, 3) := dk_167 0 22 (dk_at dksX0_step_3 13 rfl rfl)
theorem dX0_step_87 : decode cX0_step 87 = .ok (.aload_n 0, 1) := dk_42 (dk_at dksX0_step_3 16 rfl rfl)
theorem dX0_step_88 : decode cX0_step 88 = .ok (.iload_n 2, 1) := dk_28 (dk_at dksX0_step_3 17 rfl rfl)
theorem dX0_step_89 : decode cX0_step 89 = .ok (.iload 6, 2) := dk_21 6 (dk_at dksX0_step_3 18 rfl rfl)
theorem dX0_step_91 : decode cX0_step 91 = .ok (.aload_n 0, 1) := dk_42 (dk_at dksX0_step_3 20 rfl rfl)
theorem dX0_step_92 : decode cX0_step 92 = .ok (.aload_n 0, 1) := dk_42 (dk_at dksX0_step_3 21 rfl rfl)
theorem dX0_step_93 : decode cX0_step 93 = .ok (.iload_n 2, 1) := dk_28 (dk_at dksX0_step_3 22 rfl rfl)
theorem dX0_step_94 : decode cX0_step 94 = .ok (.iload_n 3, 1) := dk_29 (dk_at dksX0_step_3 23 rfl rfl)
theorem dX0_step_95 : decode cX0_step 95 = .ok (.iload 6, 2) := dk_21 6 (dk_at dksX0_step_4 0 rfl rfl)
theorem dX0_step_97 : decode cX0_step 97 = .ok (.invokevirtual 223, 3) := dk_182 0 223 (dk_at dksX0_step_4 2 rfl rfl)
theorem dX0_step_100 : decode cX0_step 100 = .ok (.invokevirtual 226, 3) := dk_182 0 226 (dk_at dksX0_step_4 5 rfl rfl)
theorem dX0_step_103 : decode cX0_step 103 = .ok (.invokevirtual 229, 3) := dk_182 0 229 (dk_at dksX0_step_4 8 rfl rfl)
theorem dX0_step_106 : decode cX0_step 106 = .ok (.istore 7, 2) := dk_54 7 (dk_at dksX0_step_4 11 rfl rfl)
theorem dX0_step_108 : decode cX0_step 108 = .ok (.aload 4, 2) := dk_25 4 (dk_at dksX0_step_4 13 rfl rfl)
theorem dX0_step_110 : decode cX0_step 110 = .ok (.iload 7, 2) := dk_21 7 (dk_at dksX0_step_4 15 rfl rfl)
theorem dX0_step_112 : decode cX0_step 112 = .ok (.dup2, 1) := dk_92 (dk_at dksX0_step_4 17 rfl rfl)
theorem dX0_step_113 : decode cX0_step 113 = .ok (.iaload, 1) := dk_46 (dk_at dksX0_step_4 18 rfl rfl)
theorem dX0_step_114 : decode cX0_step 114 = .ok (.aload_n 0, 1) := dk_42 (dk_at dksX0_step_4 19 rfl rfl)
theorem dX0_step_115 : decode cX0_step 115 = .ok (.getfield 16, 3) := dk_180 0 16 (dk_at dksX0_step_4 20 rfl rfl)
theorem dX0_step_118 : decode cX0_step 118 = .ok (.getfield 82, 3) := dk_180 0 82 (dk_at dksX0_step_5 0 rfl rfl)
theorem dX0_step_121 : decode cX0_step 121 = .ok (.iload 6, 2) := dk_21 6 (dk_at dksX0_step_5 3 rfl rfl)
theorem dX0_step_123 : decode cX0_step 123 = .ok (.iaload, 1) := dk_46 (dk_at dksX0_step_5 5 rfl rfl)
theorem dX0_step_124 : decode cX0_step 124 = .ok (.iadd, 1) := dk_96 (dk_at dksX0_step_5 6 rfl rfl)
theorem dX0_step_125 : decode cX0_step 125 = .ok (.iastore, 1) := dk_79 (dk_at dksX0_step_5 7 rfl rfl)
theorem dX0_step_126 : decode cX0_step 126 = .ok (.goto (-78), 3) := dk_167 255 178 (dk_at dksX0_step_5 8 rfl rfl)
theorem dX0_step_129 : decode cX0_step 129 = .ok (.aload 4, 2) := dk_25 4 (dk_at dksX0_step_5 11 rfl rfl)
theorem dX0_step_131 : decode cX0_step 131 = .ok (.iconst 0, 1) := dk_3 (dk_at dksX0_step_5 13 rfl rfl)
theorem dX0_step_132 : decode cX0_step 132 = .ok (.aload_n 0, 1) := dk_42 (dk_at dksX0_step_5 14 rfl rfl)
theorem dX0_step_133 : decode cX0_step 133 = .ok (.getfield 16, 3) := dk_180 0 16 (dk_at dksX0_step_5 15 rfl rfl)
theorem dX0_step_136 : decode cX0_step 136 = .ok (.getfield 82, 3) := dk_180 0 82 (dk_at dksX0_step_5 18 rfl rfl)
theorem dX0_step_139 : decode cX0_step 139 = .ok (.iconst 0, 1) := dk_3 (dk_at dksX0_step_5 21 rfl rfl)
theorem dX0_step_140 : decode cX0_step 140 = .ok (.bipush 10, 2) := dk_16 10 (dk_at dksX0_step_5 22 rfl rfl)
theorem dX0_step_142 : decode cX0_step 142 = .ok (.invokestatic 232, 3) := dk_184 0 232 (dk_at dksX0_step_6 0 rfl rfl)
theorem dX0_step_145 : decode cX0_step 145 = .ok (.aload_n 0, 1) := dk_42 (dk_at dksX0_step_6 3 rfl rfl)
theorem dX0_step_146 : decode cX0_step 146 = .ok (.invokevirtual 122, 3) := dk_182 0 122 (dk_at dksX0_step_6 4 rfl rfl)
theorem dX0_step_149 : decode cX0_step 149 = .ok (.invokestatic 108, 3) := dk_184 0 108 (dk_at dksX0_step_6 7 rfl rfl)
theorem dX0_step_152 : decode cX0_step 152 = .ok (.ireturn, 1) := dk_172 (dk_at dksX0_step_6 10 rfl rfl)
abbrev cX0_meets : ByteArray := prog_1_method_33_code
def yX0_meets : MethodName := ⟨RX0, "meets", "(II)I"⟩
def dkwX0_meets_4 : List UInt8 := [172]
abbrev dktX0_meets_4 : List UInt8 := dkwX0_meets_4 ++ []
def dkwX0_meets_3 : List UInt8 := [45, 3, 182, 1, 4, 167, 0, 19, 28, 6, 160, 0, 10, 45, 180, 1, 7, 167, 0, 7, 45, 180, 1, 10]
abbrev dktX0_meets_3 : List UInt8 := dkwX0_meets_3 ++ dktX0_meets_4
def dkwX0_meets_2 : List UInt8 := [3, 46, 167, 0, 46, 28, 4, 160, 0, 12, 42, 180, 0, 64, 3, 46, 167, 0, 32, 28, 5, 160, 0, 11]
abbrev dktX0_meets_2 : List UInt8 := dkwX0_meets_2 ++ dktX0_meets_3
def dkwX0_meets_1 : List UInt8 := [182, 0, 122, 154, 0, 6, 16, 253, 172, 42, 27, 3, 182, 1, 0, 78, 28, 154, 0, 12, 42, 180, 0, 61]
abbrev dktX0_meets_1 : List UInt8 := dkwX0_meets_1 ++ dktX0_meets_2
def dkwX0_meets_0 : List UInt8 := [27, 184, 0, 253, 153, 0, 15, 28, 133, 9, 20, 0, 184, 184, 0, 1, 154, 0, 6, 16, 254, 172, 42]
abbrev dktX0_meets_0 : List UInt8 := dkwX0_meets_0 ++ dktX0_meets_1
theorem dksX0_meets_0 : cX0_meets.data.toList.drop 0 = dktX0_meets_0 := by decide +kernel
theorem dksX0_meets_1 : cX0_meets.data.toList.drop 23 = dktX0_meets_1 := dk_seg dksX0_meets_0 23 rfl rfl
theorem dksX0_meets_2 : cX0_meets.data.toList.drop 47 = dktX0_meets_2 := dk_seg dksX0_meets_1 24 rfl rfl
theorem dksX0_meets_3 : cX0_meets.data.toList.drop 71 = dktX0_meets_3 := dk_seg dksX0_meets_2 24 rfl rfl
theorem dksX0_meets_4 : cX0_meets.data.toList.drop 95 = dktX0_meets_4 := dk_seg dksX0_meets_3 24 rfl rfl
theorem dX0_meets_0 : decode cX0_meets 0 = .ok (.iload_n 1, 1) := dk_27 (dk_at dksX0_meets_0 0 rfl rfl)
theorem dX0_meets_1 : decode cX0_meets 1 = .ok (.invokestatic 253, 3) := dk_184 0 253 (dk_at dksX0_meets_0 1 rfl rfl)
theorem dX0_meets_4 : decode cX0_meets 4 = .ok (.ifCond .eq 15, 3) := dk_153 0 15 (dk_at dksX0_meets_0 4 rfl rfl)
theorem dX0_meets_7 : decode cX0_meets 7 = .ok (.iload_n 2, 1) := dk_28 (dk_at dksX0_meets_0 7 rfl rfl)
theorem dX0_meets_8 : decode cX0_meets 8 = .ok (.i2l, 1) := dk_133 (dk_at dksX0_meets_0 8 rfl rfl)
theorem dX0_meets_9 : decode cX0_meets 9 = .ok (.lconst 0, 1) := dk_9 (dk_at dksX0_meets_0 9 rfl rfl)
theorem dX0_meets_10 : decode cX0_meets 10 = .ok (.ldc2_w 184, 3) := dk_20 0 184 (dk_at dksX0_meets_0 10 rfl rfl)
theorem dX0_meets_13 : decode cX0_meets 13 = .ok (.invokestatic 1, 3) := dk_184 0 1 (dk_at dksX0_meets_0 13 rfl rfl)
theorem dX0_meets_16 : decode cX0_meets 16 = .ok (.ifCond .ne 6, 3) := dk_154 0 6 (dk_at dksX0_meets_0 16 rfl rfl)
theorem dX0_meets_19 : decode cX0_meets 19 = .ok (.bipush (-2), 2) := dk_16 254 (dk_at dksX0_meets_0 19 rfl rfl)
theorem dX0_meets_21 : decode cX0_meets 21 = .ok (.ireturn, 1) := dk_172 (dk_at dksX0_meets_0 21 rfl rfl)
theorem dX0_meets_22 : decode cX0_meets 22 = .ok (.aload_n 0, 1) := dk_42 (dk_at dksX0_meets_0 22 rfl rfl)
theorem dX0_meets_23 : decode cX0_meets 23 = .ok (.invokevirtual 122, 3) := dk_182 0 122 (dk_at dksX0_meets_1 0 rfl rfl)
theorem dX0_meets_26 : decode cX0_meets 26 = .ok (.ifCond .ne 6, 3) := dk_154 0 6 (dk_at dksX0_meets_1 3 rfl rfl)
theorem dX0_meets_29 : decode cX0_meets 29 = .ok (.bipush (-3), 2) := dk_16 253 (dk_at dksX0_meets_1 6 rfl rfl)
theorem dX0_meets_31 : decode cX0_meets 31 = .ok (.ireturn, 1) := dk_172 (dk_at dksX0_meets_1 8 rfl rfl)
theorem dX0_meets_32 : decode cX0_meets 32 = .ok (.aload_n 0, 1) := dk_42 (dk_at dksX0_meets_1 9 rfl rfl)
theorem dX0_meets_33 : decode cX0_meets 33 = .ok (.iload_n 1, 1) := dk_27 (dk_at dksX0_meets_1 10 rfl rfl)
theorem dX0_meets_34 : decode cX0_meets 34 = .ok (.iconst 0, 1) := dk_3 (dk_at dksX0_meets_1 11 rfl rfl)
theorem dX0_meets_35 : decode cX0_meets 35 = .ok (.invokevirtual 256, 3) := dk_182 1 0 (dk_at dksX0_meets_1 12 rfl rfl)
theorem dX0_meets_38 : decode cX0_meets 38 = .ok (.astore_n 3, 1) := dk_78 (dk_at dksX0_meets_1 15 rfl rfl)
theorem dX0_meets_39 : decode cX0_meets 39 = .ok (.iload_n 2, 1) := dk_28 (dk_at dksX0_meets_1 16 rfl rfl)
theorem dX0_meets_40 : decode cX0_meets 40 = .ok (.ifCond .ne 12, 3) := dk_154 0 12 (dk_at dksX0_meets_1 17 rfl rfl)
theorem dX0_meets_43 : decode cX0_meets 43 = .ok (.aload_n 0, 1) := dk_42 (dk_at dksX0_meets_1 20 rfl rfl)
theorem dX0_meets_44 : decode cX0_meets 44 = .ok (.getfield 61, 3) := dk_180 0 61 (dk_at dksX0_meets_1 21 rfl rfl)
theorem dX0_meets_47 : decode cX0_meets 47 = .ok (.iconst 0, 1) := dk_3 (dk_at dksX0_meets_2 0 rfl rfl)
theorem dX0_meets_48 : decode cX0_meets 48 = .ok (.iaload, 1) := dk_46 (dk_at dksX0_meets_2 1 rfl rfl)
theorem dX0_meets_49 : decode cX0_meets 49 = .ok (.goto 46, 3) := dk_167 0 46 (dk_at dksX0_meets_2 2 rfl rfl)
theorem dX0_meets_52 : decode cX0_meets 52 = .ok (.iload_n 2, 1) := dk_28 (dk_at dksX0_meets_2 5 rfl rfl)
theorem dX0_meets_53 : decode cX0_meets 53 = .ok (.iconst 1, 1) := dk_4 (dk_at dksX0_meets_2 6 rfl rfl)
theorem dX0_meets_54 : decode cX0_meets 54 = .ok (.if_icmp .ne 12, 3) := dk_160 0 12 (dk_at dksX0_meets_2 7 rfl rfl)
theorem dX0_meets_57 : decode cX0_meets 57 = .ok (.aload_n 0, 1) := dk_42 (dk_at dksX0_meets_2 10 rfl rfl)
theorem dX0_meets_58 : decode cX0_meets 58 = .ok (.getfield 64, 3) := dk_180 0 64 (dk_at dksX0_meets_2 11 rfl rfl)
theorem dX0_meets_61 : decode cX0_meets 61 = .ok (.iconst 0, 1) := dk_3 (dk_at dksX0_meets_2 14 rfl rfl)
theorem dX0_meets_62 : decode cX0_meets 62 = .ok (.iaload, 1) := dk_46 (dk_at dksX0_meets_2 15 rfl rfl)
theorem dX0_meets_63 : decode cX0_meets 63 = .ok (.goto 32, 3) := dk_167 0 32 (dk_at dksX0_meets_2 16 rfl rfl)
theorem dX0_meets_66 : decode cX0_meets 66 = .ok (.iload_n 2, 1) := dk_28 (dk_at dksX0_meets_2 19 rfl rfl)
theorem dX0_meets_67 : decode cX0_meets 67 = .ok (.iconst 2, 1) := dk_5 (dk_at dksX0_meets_2 20 rfl rfl)
theorem dX0_meets_68 : decode cX0_meets 68 = .ok (.if_icmp .ne 11, 3) := dk_160 0 11 (dk_at dksX0_meets_2 21 rfl rfl)
theorem dX0_meets_71 : decode cX0_meets 71 = .ok (.aload_n 3, 1) := dk_45 (dk_at dksX0_meets_3 0 rfl rfl)
theorem dX0_meets_72 : decode cX0_meets 72 = .ok (.iconst 0, 1) := dk_3 (dk_at dksX0_meets_3 1 rfl rfl)
theorem dX0_meets_73 : decode cX0_meets 73 = .ok (.invokevirtual 260, 3) := dk_182 1 4 (dk_at dksX0_meets_3 2 rfl rfl)
theorem dX0_meets_76 : decode cX0_meets 76 = .ok (.goto 19, 3) := dk_167 0 19 (dk_at dksX0_meets_3 5 rfl rfl)
theorem dX0_meets_79 : decode cX0_meets 79 = .ok (.iload_n 2, 1) := dk_28 (dk_at dksX0_meets_3 8 rfl rfl)
theorem dX0_meets_80 : decode cX0_meets 80 = .ok (.iconst 3, 1) := dk_6 (dk_at dksX0_meets_3 9 rfl rfl)
theorem dX0_meets_81 : decode cX0_meets 81 = .ok (.if_icmp .ne 10, 3) := dk_160 0 10 (dk_at dksX0_meets_3 10 rfl rfl)
theorem dX0_meets_84 : decode cX0_meets 84 = .ok (.aload_n 3, 1) := dk_45 (dk_at dksX0_meets_3 13 rfl rfl)
theorem dX0_meets_85 : decode cX0_meets 85 = .ok (.getfield 263, 3) := dk_180 1 7 (dk_at dksX0_meets_3 14 rfl rfl)
theorem dX0_meets_88 : decode cX0_meets 88 = .ok (.goto 7, 3) := dk_167 0 7 (dk_at dksX0_meets_3 17 rfl rfl)
theorem dX0_meets_91 : decode cX0_meets 91 = .ok (.aload_n 3, 1) := dk_45 (dk_at dksX0_meets_3 20 rfl rfl)
theorem dX0_meets_92 : decode cX0_meets 92 = .ok (.getfield 266, 3) := dk_180 1 10 (dk_at dksX0_meets_3 21 rfl rfl)
theorem dX0_meets_95 : decode cX0_meets 95 = .ok (.ireturn, 1) := dk_172 (dk_at dksX0_meets_4 0 rfl rfl)
abbrev cX0_isSchedule : ByteArray := prog_1_method_31_code
def yX0_isSchedule : MethodName := ⟨RX0, "isSchedule", "(I)Z"⟩
def dkwX0_isSchedule_0 : List UInt8 := [26, 133, 9, 20, 0, 120, 184, 0, 1, 172]
abbrev dktX0_isSchedule_0 : List UInt8 := dkwX0_isSchedule_0 ++ []
theorem dksX0_isSchedule_0 : cX0_isSchedule.data.toList.drop 0 = dktX0_isSchedule_0 := by decide +kernel
theorem dX0_isSchedule_0 : decode cX0_isSchedule 0 = .ok (.iload_n 0, 1) := dk_26 (dk_at dksX0_isSchedule_0 0 rfl rfl)
theorem dX0_isSchedule_1 : decode cX0_isSchedule 1 = .ok (.i2l, 1) := dk_133 (dk_at dksX0_isSchedule_0 1 rfl rfl)
theorem dX0_isSchedule_2 : decode cX0_isSchedule 2 = .ok (.lconst 0, 1) := dk_9 (dk_at dksX0_isSchedule_0 2 rfl rfl)
theorem dX0_isSchedule_3 : decode cX0_isSchedule 3 = .ok (.ldc2_w 120, 3) := dk_20 0 120 (dk_at dksX0_isSchedule_0 3 rfl rfl)
theorem dX0_isSchedule_6 : decode cX0_isSchedule 6 = .ok (.invokestatic 1, 3) := dk_184 0 1 (dk_at dksX0_isSchedule_0 6 rfl rfl)
theorem dX0_isSchedule_9 : decode cX0_isSchedule 9 = .ok (.ireturn, 1) := dk_172 (dk_at dksX0_isSchedule_0 9 rfl rfl)
abbrev cX0_netOf : ByteArray := prog_1_method_32_code
def yX0_netOf : MethodName := ⟨RX0, "netOf", "(IZ)LRingMeets$Net;"⟩
def dkwX0_netOf_1 : List UInt8 := [5, 182, 0, 74, 182, 0, 247, 87, 45, 182, 0, 250, 45, 176]
abbrev dktX0_netOf_1 : List UInt8 := dkwX0_netOf_1 ++ []
def dkwX0_netOf_0 : List UInt8 := [187, 0, 238, 89, 42, 178, 0, 240, 27, 50, 28, 183, 0, 244, 78, 45, 42, 182, 0, 122, 42, 180, 0, 16]
abbrev dktX0_netOf_0 : List UInt8 := dkwX0_netOf_0 ++ dktX0_netOf_1
theorem dksX0_netOf_0 : cX0_netOf.data.toList.drop 0 = dktX0_netOf_0 := by decide +kernel
theorem dksX0_netOf_1 : cX0_netOf.data.toList.drop 24 = dktX0_netOf_1 := dk_seg dksX0_netOf_0 24 rfl rfl
theorem dX0_netOf_0 : decode cX0_netOf 0 = .ok (.new 238, 3) := dk_187 0 238 (dk_at dksX0_netOf_0 0 rfl rfl)
theorem dX0_netOf_3 : decode cX0_netOf 3 = .ok (.dup, 1) := dk_89 (dk_at dksX0_netOf_0 3 rfl rfl)
theorem dX0_netOf_4 : decode cX0_netOf 4 = .ok (.aload_n 0, 1) := dk_42 (dk_at dksX0_netOf_0 4 rfl rfl)
theorem dX0_netOf_5 : decode cX0_netOf 5 = .ok (.getstatic 240, 3) := dk_178 0 240 (dk_at dksX0_netOf_0 5 rfl rfl)
theorem dX0_netOf_8 : decode cX0_netOf 8 = .ok (.iload_n 1, 1) := dk_27 (dk_at dksX0_netOf_0 8 rfl rfl)
theorem dX0_netOf_9 : decode cX0_netOf 9 = .ok (.aaload, 1) := dk_50 (dk_at dksX0_netOf_0 9 rfl rfl)
theorem dX0_netOf_10 : decode cX0_netOf 10 = .ok (.iload_n 2, 1) := dk_28 (dk_at dksX0_netOf_0 10 rfl rfl)
theorem dX0_netOf_11 : decode cX0_netOf 11 = .ok (.invokespecial 244, 3) := dk_183 0 244 (dk_at dksX0_netOf_0 11 rfl rfl)
theorem dX0_netOf_14 : decode cX0_netOf 14 = .ok (.astore_n 3, 1) := dk_78 (dk_at dksX0_netOf_0 14 rfl rfl)
theorem dX0_netOf_15 : decode cX0_netOf 15 = .ok (.aload_n 3, 1) := dk_45 (dk_at dksX0_netOf_0 15 rfl rfl)
theorem dX0_netOf_16 : decode cX0_netOf 16 = .ok (.aload_n 0, 1) := dk_42 (dk_at dksX0_netOf_0 16 rfl rfl)
theorem dX0_netOf_17 : decode cX0_netOf 17 = .ok (.invokevirtual 122, 3) := dk_182 0 122 (dk_at dksX0_netOf_0 17 rfl rfl)
theorem dX0_netOf_20 : decode cX0_netOf 20 = .ok (.aload_n 0, 1) := dk_42 (dk_at dksX0_netOf_0 20 rfl rfl)
theorem dX0_netOf_21 : decode cX0_netOf 21 = .ok (.getfield 16, 3) := dk_180 0 16 (dk_at dksX0_netOf_0 21 rfl rfl)
theorem dX0_netOf_24 : decode cX0_netOf 24 = .ok (.iconst 2, 1) := dk_5 (dk_at dksX0_netOf_1 0 rfl rfl)
theorem dX0_netOf_25 : decode cX0_netOf 25 = .ok (.invokevirtual 74, 3) := dk_182 0 74 (dk_at dksX0_netOf_1 1 rfl rfl)
theorem dX0_netOf_28 : decode cX0_netOf 28 = .ok (.invokevirtual 247, 3) := dk_182 0 247 (dk_at dksX0_netOf_1 4 rfl rfl)
theorem dX0_netOf_31 : decode cX0_netOf 31 = .ok (.pop, 1) := dk_87 (dk_at dksX0_netOf_1 7 rfl rfl)
theorem dX0_netOf_32 : decode cX0_netOf 32 = .ok (.aload_n 3, 1) := dk_45 (dk_at dksX0_netOf_1 8 rfl rfl)
theorem dX0_netOf_33 : decode cX0_netOf 33 = .ok (.invokevirtual 250, 3) := dk_182 0 250 (dk_at dksX0_netOf_1 9 rfl rfl)
theorem dX0_netOf_36 : decode cX0_netOf 36 = .ok (.aload_n 3, 1) := dk_45 (dk_at dksX0_netOf_1 12 rfl rfl)
theorem dX0_netOf_37 : decode cX0_netOf 37 = .ok (.areturn, 1) := dk_176 (dk_at dksX0_netOf_1 13 rfl rfl)
abbrev cX0_first : ByteArray := prog_1_method_34_code
def yX0_first : MethodName := ⟨RX0, "first", "(I)I"⟩
def dkwX0_first_6 : List UInt8 := [132, 5, 1, 44, 180, 1, 16, 29, 21, 6, 182, 1, 20, 54, 6, 167, 255, 180, 21, 4, 172]
abbrev dktX0_first_6 : List UInt8 := dkwX0_first_6 ++ []
def dkwX0_first_5 : List UInt8 := [153, 0, 20, 21, 4, 155, 0, 10, 21, 6, 21, 4, 162, 0, 8, 21, 6, 167, 0, 5, 21, 4, 54, 4]
abbrev dktX0_first_5 : List UInt8 := dkwX0_first_5 ++ dktX0_first_6
def dkwX0_first_4 : List UInt8 := [21, 5, 46, 46, 42, 180, 0, 61, 3, 46, 4, 100, 160, 0, 7, 4, 167, 0, 4, 3, 54, 7, 21, 7]
abbrev dktX0_first_4 : List UInt8 := dkwX0_first_4 ++ dktX0_first_5
def dkwX0_first_3 : List UInt8 := [180, 1, 16, 29, 3, 182, 1, 20, 54, 6, 21, 6, 153, 0, 77, 42, 180, 0, 61, 42, 180, 0, 58]
abbrev dktX0_first_3 : List UInt8 := dkwX0_first_3 ++ dktX0_first_4
def dkwX0_first_2 : List UInt8 := [180, 0, 16, 5, 182, 0, 74, 182, 1, 13, 62, 16, 250, 54, 4, 42, 180, 0, 54, 3, 46, 54, 5, 44]
abbrev dktX0_first_2 : List UInt8 := dkwX0_first_2 ++ dktX0_first_3
def dkwX0_first_1 : List UInt8 := [182, 1, 0, 77, 42, 180, 0, 61, 3, 46, 157, 0, 6, 16, 250, 172, 44, 42, 182, 0, 122, 42]
abbrev dktX0_first_1 : List UInt8 := dkwX0_first_1 ++ dktX0_first_2
def dkwX0_first_0 : List UInt8 := [27, 184, 0, 253, 154, 0, 6, 16, 254, 172, 42, 182, 0, 122, 154, 0, 6, 16, 253, 172, 42, 27, 3]
abbrev dktX0_first_0 : List UInt8 := dkwX0_first_0 ++ dktX0_first_1
theorem dksX0_first_0 : cX0_first.data.toList.drop 0 = dktX0_first_0 := by decide +kernel
theorem dksX0_first_1 : cX0_first.data.toList.drop 23 = dktX0_first_1 := dk_seg dksX0_first_0 23 rfl rfl
theorem dksX0_first_2 : cX0_first.data.toList.drop 45 = dktX0_first_2 := dk_seg dksX0_first_1 22 rfl rfl
theorem dksX0_first_3 : cX0_first.data.toList.drop 69 = dktX0_first_3 := dk_seg dksX0_first_2 24 rfl rfl
theorem dksX0_first_4 : cX0_first.data.toList.drop 92 = dktX0_first_4 := dk_seg dksX0_first_3 23 rfl rfl
theorem dksX0_first_5 : cX0_first.data.toList.drop 116 = dktX0_first_5 := dk_seg dksX0_first_4 24 rfl rfl
theorem dksX0_first_6 : cX0_first.data.toList.drop 140 = dktX0_first_6 := dk_seg dksX0_first_5 24 rfl rfl
theorem dX0_first_0 : decode cX0_first 0 = .ok (.iload_n 1, 1) := dk_27 (dk_at dksX0_first_0 0 rfl rfl)
theorem dX0_first_1 : decode cX0_first 1 = .ok (.invokestatic 253, 3) := dk_184 0 253 (dk_at dksX0_first_0 1 rfl rfl)
theorem dX0_first_4 : decode cX0_first 4 = .ok (.ifCond .ne 6, 3) := dk_154 0 6 (dk_at dksX0_first_0 4 rfl rfl)
theorem dX0_first_7 : decode cX0_first 7 = .ok (.bipush (-2), 2) := dk_16 254 (dk_at dksX0_first_0 7 rfl rfl)
theorem dX0_first_9 : decode cX0_first 9 = .ok (.ireturn, 1) := dk_172 (dk_at dksX0_first_0 9 rfl rfl)
theorem dX0_first_10 : decode cX0_first 10 = .ok (.aload_n 0, 1) := dk_42 (dk_at dksX0_first_0 10 rfl rfl)
theorem dX0_first_11 : decode cX0_first 11 = .ok (.invokevirtual 122, 3) := dk_182 0 122 (dk_at dksX0_first_0 11 rfl rfl)
theorem dX0_first_14 : decode cX0_first 14 = .ok (.ifCond .ne 6, 3) := dk_154 0 6 (dk_at dksX0_first_0 14 rfl rfl)
theorem dX0_first_17 : decode cX0_first 17 = .ok (.bipush (-3), 2) := dk_16 253 (dk_at dksX0_first_0 17 rfl rfl)
theorem dX0_first_19 : decode cX0_first 19 = .ok (.ireturn, 1) := dk_172 (dk_at dksX0_first_0 19 rfl rfl)
theorem dX0_first_20 : decode cX0_first 20 = .ok (.aload_n 0, 1) := dk_42 (dk_at dksX0_first_0 20 rfl rfl)
theorem dX0_first_21 : decode cX0_first 21 = .ok (.iload_n 1, 1) := dk_27 (dk_at dksX0_first_0 21 rfl rfl)
theorem dX0_first_22 : decode cX0_first 22 = .ok (.iconst 0, 1) := dk_3 (dk_at dksX0_first_0 22 rfl rfl)
theorem dX0_first_23 : decode cX0_first 23 = .ok (.invokevirtual 256, 3) := dk_182 1 0 (dk_at dksX0_first_1 0 rfl rfl)
theorem dX0_first_26 : decode cX0_first 26 = .ok (.astore_n 2, 1) := dk_77 (dk_at dksX0_first_1 3 rfl rfl)
theorem dX0_first_27 : decode cX0_first 27 = .ok (.aload_n 0, 1) := dk_42 (dk_at dksX0_first_1 4 rfl rfl)
theorem dX0_first_28 : decode cX0_first 28 = .ok (.getfield 61, 3) := dk_180 0 61 (dk_at dksX0_first_1 5 rfl rfl)
theorem dX0_first_31 : decode cX0_first 31 = .ok (.iconst 0, 1) := dk_3 (dk_at dksX0_first_1 8 rfl rfl)
theorem dX0_first_32 : decode cX0_first 32 = .ok (.iaload, 1) := dk_46 (dk_at dksX0_first_1 9 rfl rfl)
theorem dX0_first_33 : decode cX0_first 33 = .ok (.ifCond .gt 6, 3) := dk_157 0 6 (dk_at dksX0_first_1 10 rfl rfl)
theorem dX0_first_36 : decode cX0_first 36 = .ok (.bipush (-6), 2) := dk_16 250 (dk_at dksX0_first_1 13 rfl rfl)
theorem dX0_first_38 : decode cX0_first 38 = .ok (.ireturn, 1) := dk_172 (dk_at dksX0_first_1 15 rfl rfl)
theorem dX0_first_39 : decode cX0_first 39 = .ok (.aload_n 2, 1) := dk_44 (dk_at dksX0_first_1 16 rfl rfl)
theorem dX0_first_40 : decode cX0_first 40 = .ok (.aload_n 0, 1) := dk_42 (dk_at dksX0_first_1 17 rfl rfl)
theorem dX0_first_41 : decode cX0_first 41 = .ok (.invokevirtual 122, 3) := dk_182 0 122 (dk_at dksX0_first_1 18 rfl rfl)
theorem dX0_first_44 : decode cX0_first 44 = .ok (.aload_n 0, 1) := dk_42 (dk_at dksX0_first_1 21 rfl rfl)
theorem dX0_first_45 : decode cX0_first 45 = .ok (.getfield 16, 3) := dk_180 0 16 (dk_at dksX0_first_2 0 rfl rfl)
theorem dX0_first_48 : decode cX0_first 48 = .ok (.iconst 2, 1) := dk_5 (dk_at dksX0_first_2 3 rfl rfl)
theorem dX0_first_49 : decode cX0_first 49 = .ok (.invokevirtual 74, 3) := dk_182 0 74 (dk_at dksX0_first_2 4 rfl rfl)
theorem dX0_first_52 : decode cX0_first 52 = .ok (.invokevirtual 269, 3) := dk_182 1 13 (dk_at dksX0_first_2 7 rfl rfl)
theorem dX0_first_55 : decode cX0_first 55 = .ok (.istore_n 3, 1) := dk_62 (dk_at dksX0_first_2 10 rfl rfl)
theorem dX0_first_56 : decode cX0_first 56 = .ok (.bipush (-6), 2) := dk_16 250 (dk_at dksX0_first_2 11 rfl rfl)
theorem dX0_first_58 : decode cX0_first 58 = .ok (.istore 4, 2) := dk_54 4 (dk_at dksX0_first_2 13 rfl rfl)
theorem dX0_first_60 : decode cX0_first 60 = .ok (.aload_n 0, 1) := dk_42 (dk_at dksX0_first_2 15 rfl rfl)
theorem dX0_first_61 : decode cX0_first 61 = .ok (.getfield 54, 3) := dk_180 0 54 (dk_at dksX0_first_2 16 rfl rfl)
theorem dX0_first_64 : decode cX0_first 64 = .ok (.iconst 0, 1) := dk_3 (dk_at dksX0_first_2 19 rfl rfl)
theorem dX0_first_65 : decode cX0_first 65 = .ok (.iaload, 1) := dk_46 (dk_at dksX0_first_2 20 rfl rfl)
theorem dX0_first_66 : decode cX0_first 66 = .ok (.istore 5, 2) := dk_54 5 (dk_at dksX0_first_2 21 rfl rfl)
theorem dX0_first_68 : decode cX0_first 68 = .ok (.aload_n 2, 1) := dk_44 (dk_at dksX0_first_2 23 rfl rfl)
theorem dX0_first_69 : decode cX0_first 69 = .ok (.getfield 272, 3) := dk_180 1 16 (dk_at dksX0_first_3 0 rfl rfl)
theorem dX0_first_72 : decode cX0_first 72 = .ok (.iload_n 3, 1) := dk_29 (dk_at dksX0_first_3 3 rfl rfl)
theorem dX0_first_73 : decode cX0_first 73 = .ok (.iconst 0, 1) := dk_3 (dk_at dksX0_first_3 4 rfl rfl)
theorem dX0_first_74 : decode cX0_first 74 = .ok (.invokevirtual 276, 3) := dk_182 1 20 (dk_at dksX0_first_3 5 rfl rfl)
theorem dX0_first_77 : decode cX0_first 77 = .ok (.istore 6, 2) := dk_54 6 (dk_at dksX0_first_3 8 rfl rfl)
theorem dX0_first_79 : decode cX0_first 79 = .ok (.iload 6, 2) := dk_21 6 (dk_at dksX0_first_3 10 rfl rfl)
theorem dX0_first_81 : decode cX0_first 81 = .ok (.ifCond .eq 77, 3) := dk_153 0 77 (dk_at dksX0_first_3 12 rfl rfl)
theorem dX0_first_84 : decode cX0_first 84 = .ok (.aload_n 0, 1) := dk_42 (dk_at dksX0_first_3 15 rfl rfl)
theorem dX0_first_85 : decode cX0_first 85 = .ok (.getfield 61, 3) := dk_180 0 61 (dk_at dksX0_first_3 16 rfl rfl)
theorem dX0_first_88 : decode cX0_first 88 = .ok (.aload_n 0, 1) := dk_42 (dk_at dksX0_first_3 19 rfl rfl)
theorem dX0_first_89 : decode cX0_first 89 = .ok (.getfield 58, 3) := dk_180 0 58 (dk_at dksX0_first_3 20 rfl rfl)
theorem dX0_first_92 : decode cX0_first 92 = .ok (.iload 5, 2) := dk_21 5 (dk_at dksX0_first_4 0 rfl rfl)
theorem dX0_first_94 : decode cX0_first 94 = .ok (.iaload, 1) := dk_46 (dk_at dksX0_first_4 2 rfl rfl)
theorem dX0_first_95 : decode cX0_first 95 = .ok (.iaload, 1) := dk_46 (dk_at dksX0_first_4 3 rfl rfl)
theorem dX0_first_96 : decode cX0_first 96 = .ok (.aload_n 0, 1) := dk_42 (dk_at dksX0_first_4 4 rfl rfl)
theorem dX0_first_97 : decode cX0_first 97 = .ok (.getfield 61, 3) := dk_180 0 61 (dk_at dksX0_first_4 5 rfl rfl)
theorem dX0_first_100 : decode cX0_first 100 = .ok (.iconst 0, 1) := dk_3 (dk_at dksX0_first_4 8 rfl rfl)
theorem dX0_first_101 : decode cX0_first 101 = .ok (.iaload, 1) := dk_46 (dk_at dksX0_first_4 9 rfl rfl)
theorem dX0_first_102 : decode cX0_first 102 = .ok (.iconst 1, 1) := dk_4 (dk_at dksX0_first_4 10 rfl rfl)
theorem dX0_first_103 : decode cX0_first 103 = .ok (.isub, 1) := dk_100 (dk_at dksX0_first_4 11 rfl rfl)
theorem dX0_first_104 : decode cX0_first 104 = .ok (.if_icmp .ne 7, 3) := dk_160 0 7 (dk_at dksX0_first_4 12 rfl rfl)
theorem dX0_first_107 : decode cX0_first 107 = .ok (.iconst 1, 1) := dk_4 (dk_at dksX0_first_4 15 rfl rfl)
theorem dX0_first_108 : decode cX0_first 108 = .ok (.goto 4, 3) := dk_167 0 4 (dk_at dksX0_first_4 16 rfl rfl)
theorem dX0_first_111 : decode cX0_first 111 = .ok (.iconst 0, 1) := dk_3 (dk_at dksX0_first_4 19 rfl rfl)
theorem dX0_first_112 : decode cX0_first 112 = .ok (.istore 7, 2) := dk_54 7 (dk_at dksX0_first_4 20 rfl rfl)
theorem dX0_first_114 : decode cX0_first 114 = .ok (.iload 7, 2) := dk_21 7 (dk_at dksX0_first_4 22 rfl rfl)
theorem dX0_first_116 : decode cX0_first 116 = .ok (.ifCond .eq 20, 3) := dk_153 0 20 (dk_at dksX0_first_5 0 rfl rfl)
theorem dX0_first_119 : decode cX0_first 119 = .ok (.iload 4, 2) := dk_21 4 (dk_at dksX0_first_5 3 rfl rfl)
theorem dX0_first_121 : decode cX0_first 121 = .ok (.ifCond .lt 10, 3) := dk_155 0 10 (dk_at dksX0_first_5 5 rfl rfl)
theorem dX0_first_124 : decode cX0_first 124 = .ok (.iload 6, 2) := dk_21 6 (dk_at dksX0_first_5 8 rfl rfl)
theorem dX0_first_126 : decode cX0_first 126 = .ok (.iload 4, 2) := dk_21 4 (dk_at dksX0_first_5 10 rfl rfl)
theorem dX0_first_128 : decode cX0_first 128 = .ok (.if_icmp .ge 8, 3) := dk_162 0 8 (dk_at dksX0_first_5 12 rfl rfl)
theorem dX0_first_131 : decode cX0_first 131 = .ok (.iload 6, 2) := dk_21 6 (dk_at dksX0_first_5 15 rfl rfl)
theorem dX0_first_133 : decode cX0_first 133 = .ok (.goto 5, 3) := dk_167 0 5 (dk_at dksX0_first_5 17 rfl rfl)
theorem dX0_first_136 : decode cX0_first 136 = .ok (.iload 4, 2) := dk_21 4 (dk_at dksX0_first_5 20 rfl rfl)
theorem dX0_first_138 : decode cX0_first 138 = .ok (.istore 4, 2) := dk_54 4 (dk_at dksX0_first_5 22 rfl rfl)
theorem dX0_first_140 : decode cX0_first 140 = .ok (.iinc 5 1, 3) := dk_132 5 1 (dk_at dksX0_first_6 0 rfl rfl)
theorem dX0_first_143 : decode cX0_first 143 = .ok (.aload_n 2, 1) := dk_44 (dk_at dksX0_first_6 3 rfl rfl)
theorem dX0_first_144 : decode cX0_first 144 = .ok (.getfield 272, 3) := dk_180 1 16 (dk_at dksX0_first_6 4 rfl rfl)
theorem dX0_first_147 : decode cX0_first 147 = .ok (.iload_n 3, 1) := dk_29 (dk_at dksX0_first_6 7 rfl rfl)
theorem dX0_first_148 : decode cX0_first 148 = .ok (.iload 6, 2) := dk_21 6 (dk_at dksX0_first_6 8 rfl rfl)
theorem dX0_first_150 : decode cX0_first 150 = .ok (.invokevirtual 276, 3) := dk_182 1 20 (dk_at dksX0_first_6 10 rfl rfl)
theorem dX0_first_153 : decode cX0_first 153 = .ok (.istore 6, 2) := dk_54 6 (dk_at dksX0_first_6 13 rfl rfl)
theorem dX0_first_155 : decode cX0_first 155 = .ok (.goto (-76), 3) := dk_167 255 180 (dk_at dksX0_first_6 15 rfl rfl)
theorem dX0_first_158 : decode cX0_first 158 = .ok (.iload 4, 2) := dk_21 4 (dk_at dksX0_first_6 18 rfl rfl)
theorem dX0_first_160 : decode cX0_first 160 = .ok (.ireturn, 1) := dk_172 (dk_at dksX0_first_6 20 rfl rfl)
abbrev cX0_blind : ByteArray := prog_1_method_35_code
def yX0_blind : MethodName := ⟨RX0, "blind", "(I)I"⟩
def dkwX0_blind_1 : List UInt8 := [4, 182, 1, 0, 3, 182, 1, 4, 172]
abbrev dktX0_blind_1 : List UInt8 := dkwX0_blind_1 ++ []
def dkwX0_blind_0 : List UInt8 := [27, 184, 0, 253, 154, 0, 6, 16, 254, 172, 42, 182, 0, 122, 154, 0, 8, 16, 253, 167, 0, 13, 42, 27]
abbrev dktX0_blind_0 : List UInt8 := dkwX0_blind_0 ++ dktX0_blind_1
theorem dksX0_blind_0 : cX0_blind.data.toList.drop 0 = dktX0_blind_0 := by decide +kernel
theorem dksX0_blind_1 : cX0_blind.data.toList.drop 24 = dktX0_blind_1 := dk_seg dksX0_blind_0 24 rfl rfl
theorem dX0_blind_0 : decode cX0_blind 0 = .ok (.iload_n 1, 1) := dk_27 (dk_at dksX0_blind_0 0 rfl rfl)
theorem dX0_blind_1 : decode cX0_blind 1 = .ok (.invokestatic 253, 3) := dk_184 0 253 (dk_at dksX0_blind_0 1 rfl rfl)
theorem dX0_blind_4 : decode cX0_blind 4 = .ok (.ifCond .ne 6, 3) := dk_154 0 6 (dk_at dksX0_blind_0 4 rfl rfl)
theorem dX0_blind_7 : decode cX0_blind 7 = .ok (.bipush (-2), 2) := dk_16 254 (dk_at dksX0_blind_0 7 rfl rfl)
theorem dX0_blind_9 : decode cX0_blind 9 = .ok (.ireturn, 1) := dk_172 (dk_at dksX0_blind_0 9 rfl rfl)
theorem dX0_blind_10 : decode cX0_blind 10 = .ok (.aload_n 0, 1) := dk_42 (dk_at dksX0_blind_0 10 rfl rfl)
theorem dX0_blind_11 : decode cX0_blind 11 = .ok (.invokevirtual 122, 3) := dk_182 0 122 (dk_at dksX0_blind_0 11 rfl rfl)
theorem dX0_blind_14 : decode cX0_blind 14 = .ok (.ifCond .ne 8, 3) := dk_154 0 8 (dk_at dksX0_blind_0 14 rfl rfl)
theorem dX0_blind_17 : decode cX0_blind 17 = .ok (.bipush (-3), 2) := dk_16 253 (dk_at dksX0_blind_0 17 rfl rfl)
theorem dX0_blind_19 : decode cX0_blind 19 = .ok (.goto 13, 3) := dk_167 0 13 (dk_at dksX0_blind_0 19 rfl rfl)
theorem dX0_blind_22 : decode cX0_blind 22 = .ok (.aload_n 0, 1) := dk_42 (dk_at dksX0_blind_0 22 rfl rfl)
theorem dX0_blind_23 : decode cX0_blind 23 = .ok (.iload_n 1, 1) := dk_27 (dk_at dksX0_blind_0 23 rfl rfl)
theorem dX0_blind_24 : decode cX0_blind 24 = .ok (.iconst 1, 1) := dk_4 (dk_at dksX0_blind_1 0 rfl rfl)
theorem dX0_blind_25 : decode cX0_blind 25 = .ok (.invokevirtual 256, 3) := dk_182 1 0 (dk_at dksX0_blind_1 1 rfl rfl)
theorem dX0_blind_28 : decode cX0_blind 28 = .ok (.iconst 0, 1) := dk_3 (dk_at dksX0_blind_1 4 rfl rfl)
theorem dX0_blind_29 : decode cX0_blind 29 = .ok (.invokevirtual 260, 3) := dk_182 1 4 (dk_at dksX0_blind_1 5 rfl rfl)
theorem dX0_blind_32 : decode cX0_blind 32 = .ok (.ireturn, 1) := dk_172 (dk_at dksX0_blind_1 8 rfl rfl)
abbrev cX0_used : ByteArray := prog_1_method_36_code
def yX0_used : MethodName := ⟨RX0, "used", "(I)I"⟩
def dkwX0_used_1 : List UInt8 := [3, 182, 1, 0, 180, 1, 24, 172]
abbrev dktX0_used_1 : List UInt8 := dkwX0_used_1 ++ []
def dkwX0_used_0 : List UInt8 := [27, 184, 0, 253, 154, 0, 6, 16, 254, 172, 42, 182, 0, 122, 154, 0, 8, 16, 253, 167, 0, 12, 42, 27]
abbrev dktX0_used_0 : List UInt8 := dkwX0_used_0 ++ dktX0_used_1
theorem dksX0_used_0 : cX0_used.data.toList.drop 0 = dktX0_used_0 := by decide +kernel
theorem dksX0_used_1 : cX0_used.data.toList.drop 24 = dktX0_used_1 := dk_seg dksX0_used_0 24 rfl rfl
theorem dX0_used_0 : decode cX0_used 0 = .ok (.iload_n 1, 1) := dk_27 (dk_at dksX0_used_0 0 rfl rfl)
theorem dX0_used_1 : decode cX0_used 1 = .ok (.invokestatic 253, 3) := dk_184 0 253 (dk_at dksX0_used_0 1 rfl rfl)
theorem dX0_used_4 : decode cX0_used 4 = .ok (.ifCond .ne 6, 3) := dk_154 0 6 (dk_at dksX0_used_0 4 rfl rfl)
theorem dX0_used_7 : decode cX0_used 7 = .ok (.bipush (-2), 2) := dk_16 254 (dk_at dksX0_used_0 7 rfl rfl)
theorem dX0_used_9 : decode cX0_used 9 = .ok (.ireturn, 1) := dk_172 (dk_at dksX0_used_0 9 rfl rfl)
theorem dX0_used_10 : decode cX0_used 10 = .ok (.aload_n 0, 1) := dk_42 (dk_at dksX0_used_0 10 rfl rfl)
theorem dX0_used_11 : decode cX0_used 11 = .ok (.invokevirtual 122, 3) := dk_182 0 122 (dk_at dksX0_used_0 11 rfl rfl)
theorem dX0_used_14 : decode cX0_used 14 = .ok (.ifCond .ne 8, 3) := dk_154 0 8 (dk_at dksX0_used_0 14 rfl rfl)
theorem dX0_used_17 : decode cX0_used 17 = .ok (.bipush (-3), 2) := dk_16 253 (dk_at dksX0_used_0 17 rfl rfl)
theorem dX0_used_19 : decode cX0_used 19 = .ok (.goto 12, 3) := dk_167 0 12 (dk_at dksX0_used_0 19 rfl rfl)
theorem dX0_used_22 : decode cX0_used 22 = .ok (.aload_n 0, 1) := dk_42 (dk_at dksX0_used_0 22 rfl rfl)
theorem dX0_used_23 : decode cX0_used 23 = .ok (.iload_n 1, 1) := dk_27 (dk_at dksX0_used_0 23 rfl rfl)
theorem dX0_used_24 : decode cX0_used 24 = .ok (.iconst 0, 1) := dk_3 (dk_at dksX0_used_1 0 rfl rfl)
theorem dX0_used_25 : decode cX0_used 25 = .ok (.invokevirtual 256, 3) := dk_182 1 0 (dk_at dksX0_used_1 1 rfl rfl)
theorem dX0_used_28 : decode cX0_used 28 = .ok (.getfield 280, 3) := dk_180 1 24 (dk_at dksX0_used_1 4 rfl rfl)
theorem dX0_used_31 : decode cX0_used 31 = .ok (.ireturn, 1) := dk_172 (dk_at dksX0_used_1 7 rfl rfl)
abbrev cX0_all : ByteArray := prog_1_method_37_code
def yX0_all : MethodName := ⟨RX0, "all", "(III)I"⟩
def dkwX0_all_6 : List UInt8 := [167, 0, 4, 3, 96, 54, 6, 132, 7, 1, 167, 255, 225, 21, 6, 172]
abbrev dktX0_all_6 : List UInt8 := dkwX0_all_6 ++ []
def dkwX0_all_5 : List UInt8 := [54, 7, 21, 7, 21, 5, 162, 0, 30, 21, 6, 25, 4, 21, 7, 182, 1, 4, 29, 160, 0, 7, 4]
abbrev dktX0_all_5 : List UInt8 := dkwX0_all_5 ++ dktX0_all_6
def dkwX0_all_4 : List UInt8 := [87, 132, 5, 1, 167, 255, 221, 25, 4, 180, 1, 7, 54, 5, 25, 4, 182, 0, 250, 3, 54, 6, 3]
abbrev dktX0_all_4 : List UInt8 := dkwX0_all_4 ++ dktX0_all_5
def dkwX0_all_3 : List UInt8 := [180, 0, 70, 120, 162, 0, 27, 21, 5, 184, 0, 108, 27, 160, 0, 12, 25, 4, 21, 5, 3, 182, 0, 247]
abbrev dktX0_all_3 : List UInt8 := dkwX0_all_3 ++ dktX0_all_4
def dkwX0_all_2 : List UInt8 := [89, 42, 178, 0, 240, 28, 50, 3, 183, 0, 244, 58, 4, 3, 54, 5, 21, 5, 4, 42, 180, 0, 16]
abbrev dktX0_all_2 : List UInt8 := dkwX0_all_2 ++ dktX0_all_3
def dkwX0_all_1 : List UInt8 := [184, 0, 253, 153, 0, 15, 29, 133, 9, 20, 0, 85, 184, 0, 1, 154, 0, 6, 16, 254, 172, 187, 0, 238]
abbrev dktX0_all_1 : List UInt8 := dkwX0_all_1 ++ dktX0_all_2
def dkwX0_all_0 : List UInt8 := [27, 133, 10, 8, 42, 180, 0, 16, 180, 0, 70, 184, 1, 27, 133, 184, 0, 1, 153, 0, 22, 28]
abbrev dktX0_all_0 : List UInt8 := dkwX0_all_0 ++ dktX0_all_1
theorem dksX0_all_0 : cX0_all.data.toList.drop 0 = dktX0_all_0 := by decide +kernel
theorem dksX0_all_1 : cX0_all.data.toList.drop 22 = dktX0_all_1 := dk_seg dksX0_all_0 22 rfl rfl
theorem dksX0_all_2 : cX0_all.data.toList.drop 46 = dktX0_all_2 := dk_seg dksX0_all_1 24 rfl rfl
theorem dksX0_all_3 : cX0_all.data.toList.drop 69 = dktX0_all_3 := dk_seg dksX0_all_2 23 rfl rfl
theorem dksX0_all_4 : cX0_all.data.toList.drop 93 = dktX0_all_4 := dk_seg dksX0_all_3 24 rfl rfl
theorem dksX0_all_5 : cX0_all.data.toList.drop 116 = dktX0_all_5 := dk_seg dksX0_all_4 23 rfl rfl
theorem dksX0_all_6 : cX0_all.data.toList.drop 139 = dktX0_all_6 := dk_seg dksX0_all_5 23 rfl rfl
theorem dX0_all_0 : decode cX0_all 0 = .ok (.iload_n 1, 1) := dk_27 (dk_at dksX0_all_0 0 rfl rfl)
theorem dX0_all_1 : decode cX0_all 1 = .ok (.i2l, 1) := dk_133 (dk_at dksX0_all_0 1 rfl rfl)
theorem dX0_all_2 : decode cX0_all 2 = .ok (.lconst 1, 1) := dk_10 (dk_at dksX0_all_0 2 rfl rfl)
theorem dX0_all_3 : decode cX0_all 3 = .ok (.iconst 5, 1) := dk_8 (dk_at dksX0_all_0 3 rfl rfl)
theorem dX0_all_4 : decode cX0_all 4 = .ok (.aload_n 0, 1) := dk_42 (dk_at dksX0_all_0 4 rfl rfl)
theorem dX0_all_5 : decode cX0_all 5 = .ok (.getfield 16, 3) := dk_180 0 16 (dk_at dksX0_all_0 5 rfl rfl)
theorem dX0_all_8 : decode cX0_all 8 = .ok (.getfield 70, 3) := dk_180 0 70 (dk_at dksX0_all_0 8 rfl rfl)
theorem dX0_all_11 : decode cX0_all 11 = .ok (.invokestatic 283, 3) := dk_184 1 27 (dk_at dksX0_all_0 11 rfl rfl)
theorem dX0_all_14 : decode cX0_all 14 = .ok (.i2l, 1) := dk_133 (dk_at dksX0_all_0 14 rfl rfl)
theorem dX0_all_15 : decode cX0_all 15 = .ok (.invokestatic 1, 3) := dk_184 0 1 (dk_at dksX0_all_0 15 rfl rfl)
theorem dX0_all_18 : decode cX0_all 18 = .ok (.ifCond .eq 22, 3) := dk_153 0 22 (dk_at dksX0_all_0 18 rfl rfl)
theorem dX0_all_21 : decode cX0_all 21 = .ok (.iload_n 2, 1) := dk_28 (dk_at dksX0_all_0 21 rfl rfl)
theorem dX0_all_22 : decode cX0_all 22 = .ok (.invokestatic 253, 3) := dk_184 0 253 (dk_at dksX0_all_1 0 rfl rfl)
theorem dX0_all_25 : decode cX0_all 25 = .ok (.ifCond .eq 15, 3) := dk_153 0 15 (dk_at dksX0_all_1 3 rfl rfl)
theorem dX0_all_28 : decode cX0_all 28 = .ok (.iload_n 3, 1) := dk_29 (dk_at dksX0_all_1 6 rfl rfl)
theorem dX0_all_29 : decode cX0_all 29 = .ok (.i2l, 1) := dk_133 (dk_at dksX0_all_1 7 rfl rfl)
theorem dX0_all_30 : decode cX0_all 30 = .ok (.lconst 0, 1) := dk_9 (dk_at dksX0_all_1 8 rfl rfl)
theorem dX0_all_31 : decode cX0_all 31 = .ok (.ldc2_w 85, 3) := dk_20 0 85 (dk_at dksX0_all_1 9 rfl rfl)
theorem dX0_all_34 : decode cX0_all 34 = .ok (.invokestatic 1, 3) := dk_184 0 1 (dk_at dksX0_all_1 12 rfl rfl)
theorem dX0_all_37 : decode cX0_all 37 = .ok (.ifCond .ne 6, 3) := dk_154 0 6 (dk_at dksX0_all_1 15 rfl rfl)
theorem dX0_all_40 : decode cX0_all 40 = .ok (.bipush (-2), 2) := dk_16 254 (dk_at dksX0_all_1 18 rfl rfl)
theorem dX0_all_42 : decode cX0_all 42 = .ok (.ireturn, 1) := dk_172 (dk_at dksX0_all_1 20 rfl rfl)
theorem dX0_all_43 : decode cX0_all 43 = .ok (.new 238, 3) := dk_187 0 238 (dk_at dksX0_all_1 21 rfl rfl)
theorem dX0_all_46 : decode cX0_all 46 = .ok (.dup, 1) := dk_89 (dk_at dksX0_all_2 0 rfl rfl)
theorem dX0_all_47 : decode cX0_all 47 = .ok (.aload_n 0, 1) := dk_42 (dk_at dksX0_all_2 1 rfl rfl)
theorem dX0_all_48 : decode cX0_all 48 = .ok (.getstatic 240, 3) := dk_178 0 240 (dk_at dksX0_all_2 2 rfl rfl)
theorem dX0_all_51 : decode cX0_all 51 = .ok (.iload_n 2, 1) := dk_28 (dk_at dksX0_all_2 5 rfl rfl)
theorem dX0_all_52 : decode cX0_all 52 = .ok (.aaload, 1) := dk_50 (dk_at dksX0_all_2 6 rfl rfl)
theorem dX0_all_53 : decode cX0_all 53 = .ok (.iconst 0, 1) := dk_3 (dk_at dksX0_all_2 7 rfl rfl)
theorem dX0_all_54 : decode cX0_all 54 = .ok (.invokespecial 244, 3) := dk_183 0 244 (dk_at dksX0_all_2 8 rfl rfl)
theorem dX0_all_57 : decode cX0_all 57 = .ok (.astore 4, 2) := dk_58 4 (dk_at dksX0_all_2 11 rfl rfl)
theorem dX0_all_59 : decode cX0_all 59 = .ok (.iconst 0, 1) := dk_3 (dk_at dksX0_all_2 13 rfl rfl)
theorem dX0_all_60 : decode cX0_all 60 = .ok (.istore 5, 2) := dk_54 5 (dk_at dksX0_all_2 14 rfl rfl)
theorem dX0_all_62 : decode cX0_all 62 = .ok (.iload 5, 2) := dk_21 5 (dk_at dksX0_all_2 16 rfl rfl)
theorem dX0_all_64 : decode cX0_all 64 = .ok (.iconst 1, 1) := dk_4 (dk_at dksX0_all_2 18 rfl rfl)
theorem dX0_all_65 : decode cX0_all 65 = .ok (.aload_n 0, 1) := dk_42 (dk_at dksX0_all_2 19 rfl rfl)
theorem dX0_all_66 : decode cX0_all 66 = .ok (.getfield 16, 3) := dk_180 0 16 (dk_at dksX0_all_2 20 rfl rfl)
theorem dX0_all_69 : decode cX0_all 69 = .ok (.getfield 70, 3) := dk_180 0 70 (dk_at dksX0_all_3 0 rfl rfl)
theorem dX0_all_72 : decode cX0_all 72 = .ok (.ishl, 1) := dk_120 (dk_at dksX0_all_3 3 rfl rfl)
theorem dX0_all_73 : decode cX0_all 73 = .ok (.if_icmp .ge 27, 3) := dk_162 0 27 (dk_at dksX0_all_3 4 rfl rfl)
theorem dX0_all_76 : decode cX0_all 76 = .ok (.iload 5, 2) := dk_21 5 (dk_at dksX0_all_3 7 rfl rfl)
theorem dX0_all_78 : decode cX0_all 78 = .ok (.invokestatic 108, 3) := dk_184 0 108 (dk_at dksX0_all_3 9 rfl rfl)
theorem dX0_all_81 : decode cX0_all 81 = .ok (.iload_n 1, 1) := dk_27 (dk_at dksX0_all_3 12 rfl rfl)
theorem dX0_all_82 : decode cX0_all 82 = .ok (.if_icmp .ne 12, 3) := dk_160 0 12 (dk_at dksX0_all_3 13 rfl rfl)
theorem dX0_all_85 : decode cX0_all 85 = .ok (.aload 4, 2) := dk_25 4 (dk_at dksX0_all_3 16 rfl rfl)
theorem dX0_all_87 : decode cX0_all 87 = .ok (.iload 5, 2) := dk_21 5 (dk_at dksX0_all_3 18 rfl rfl)
theorem dX0_all_89 : decode cX0_all 89 = .ok (.iconst 0, 1) := dk_3 (dk_at dksX0_all_3 20 rfl rfl)
theorem dX0_all_90 : decode cX0_all 90 = .ok (.invokevirtual 247, 3) := dk_182 0 247 (dk_at dksX0_all_3 21 rfl rfl)
theorem dX0_all_93 : decode cX0_all 93 = .ok (.pop, 1) := dk_87 (dk_at dksX0_all_4 0 rfl rfl)
theorem dX0_all_94 : decode cX0_all 94 = .ok (.iinc 5 1, 3) := dk_132 5 1 (dk_at dksX0_all_4 1 rfl rfl)
theorem dX0_all_97 : decode cX0_all 97 = .ok (.goto (-35), 3) := dk_167 255 221 (dk_at dksX0_all_4 4 rfl rfl)
theorem dX0_all_100 : decode cX0_all 100 = .ok (.aload 4, 2) := dk_25 4 (dk_at dksX0_all_4 7 rfl rfl)
theorem dX0_all_102 : decode cX0_all 102 = .ok (.getfield 263, 3) := dk_180 1 7 (dk_at dksX0_all_4 9 rfl rfl)
theorem dX0_all_105 : decode cX0_all 105 = .ok (.istore 5, 2) := dk_54 5 (dk_at dksX0_all_4 12 rfl rfl)
theorem dX0_all_107 : decode cX0_all 107 = .ok (.aload 4, 2) := dk_25 4 (dk_at dksX0_all_4 14 rfl rfl)
theorem dX0_all_109 : decode cX0_all 109 = .ok (.invokevirtual 250, 3) := dk_182 0 250 (dk_at dksX0_all_4 16 rfl rfl)
theorem dX0_all_112 : decode cX0_all 112 = .ok (.iconst 0, 1) := dk_3 (dk_at dksX0_all_4 19 rfl rfl)
theorem dX0_all_113 : decode cX0_all 113 = .ok (.istore 6, 2) := dk_54 6 (dk_at dksX0_all_4 20 rfl rfl)
theorem dX0_all_115 : decode cX0_all 115 = .ok (.iconst 0, 1) := dk_3 (dk_at dksX0_all_4 22 rfl rfl)
theorem dX0_all_116 : decode cX0_all 116 = .ok (.istore 7, 2) := dk_54 7 (dk_at dksX0_all_5 0 rfl rfl)
theorem dX0_all_118 : decode cX0_all 118 = .ok (.iload 7, 2) := dk_21 7 (dk_at dksX0_all_5 2 rfl rfl)
theorem dX0_all_120 : decode cX0_all 120 = .ok (.iload 5, 2) := dk_21 5 (dk_at dksX0_all_5 4 rfl rfl)
theorem dX0_all_122 : decode cX0_all 122 = .ok (.if_icmp .ge 30, 3) := dk_162 0 30 (dk_at dksX0_all_5 6 rfl rfl)
theorem dX0_all_125 : decode cX0_all 125 = .ok (.iload 6, 2) := dk_21 6 (dk_at dksX0_all_5 9 rfl rfl)
theorem dX0_all_127 : decode cX0_all 127 = .ok (.aload 4, 2) := dk_25 4 (dk_at dksX0_all_5 11 rfl rfl)
theorem dX0_all_129 : decode cX0_all 129 = .ok (.iload 7, 2) := dk_21 7 (dk_at dksX0_all_5 13 rfl rfl)
theorem dX0_all_131 : decode cX0_all 131 = .ok (.invokevirtual 260, 3) := dk_182 1 4 (dk_at dksX0_all_5 15 rfl rfl)
theorem dX0_all_134 : decode cX0_all 134 = .ok (.iload_n 3, 1) := dk_29 (dk_at dksX0_all_5 18 rfl rfl)
theorem dX0_all_135 : decode cX0_all 135 = .ok (.if_icmp .ne 7, 3) := dk_160 0 7 (dk_at dksX0_all_5 19 rfl rfl)
theorem dX0_all_138 : decode cX0_all 138 = .ok (.iconst 1, 1) := dk_4 (dk_at dksX0_all_5 22 rfl rfl)
theorem dX0_all_139 : decode cX0_all 139 = .ok (.goto 4, 3) := dk_167 0 4 (dk_at dksX0_all_6 0 rfl rfl)
theorem dX0_all_142 : decode cX0_all 142 = .ok (.iconst 0, 1) := dk_3 (dk_at dksX0_all_6 3 rfl rfl)
theorem dX0_all_143 : decode cX0_all 143 = .ok (.iadd, 1) := dk_96 (dk_at dksX0_all_6 4 rfl rfl)
theorem dX0_all_144 : decode cX0_all 144 = .ok (.istore 6, 2) := dk_54 6 (dk_at dksX0_all_6 5 rfl rfl)
theorem dX0_all_146 : decode cX0_all 146 = .ok (.iinc 7 1, 3) := dk_132 7 1 (dk_at dksX0_all_6 7 rfl rfl)
theorem dX0_all_149 : decode cX0_all 149 = .ok (.goto (-31), 3) := dk_167 255 225 (dk_at dksX0_all_6 10 rfl rfl)
theorem dX0_all_152 : decode cX0_all 152 = .ok (.iload 6, 2) := dk_21 6 (dk_at dksX0_all_6 13 rfl rfl)
theorem dX0_all_154 : decode cX0_all 154 = .ok (.ireturn, 1) := dk_172 (dk_at dksX0_all_6 15 rfl rfl)
abbrev cX0_image : ByteArray := prog_1_method_38_code
def yX0_image : MethodName := ⟨RX0, "image", "(I)I"⟩
def dkwX0_image_1 : List UInt8 := [180, 0, 24, 27, 4, 84, 4, 172]
abbrev dktX0_image_1 : List UInt8 := dkwX0_image_1 ++ []
def dkwX0_image_0 : List UInt8 := [27, 184, 1, 30, 154, 0, 6, 16, 254, 172, 42, 180, 0, 20, 27, 50, 42, 180, 0, 16, 182, 1, 33, 42]
abbrev dktX0_image_0 : List UInt8 := dkwX0_image_0 ++ dktX0_image_1
theorem dksX0_image_0 : cX0_image.data.toList.drop 0 = dktX0_image_0 := by decide +kernel
theorem dksX0_image_1 : cX0_image.data.toList.drop 24 = dktX0_image_1 := dk_seg dksX0_image_0 24 rfl rfl
theorem dX0_image_0 : decode cX0_image 0 = .ok (.iload_n 1, 1) := dk_27 (dk_at dksX0_image_0 0 rfl rfl)
theorem dX0_image_1 : decode cX0_image 1 = .ok (.invokestatic 286, 3) := dk_184 1 30 (dk_at dksX0_image_0 1 rfl rfl)
theorem dX0_image_4 : decode cX0_image 4 = .ok (.ifCond .ne 6, 3) := dk_154 0 6 (dk_at dksX0_image_0 4 rfl rfl)
theorem dX0_image_7 : decode cX0_image 7 = .ok (.bipush (-2), 2) := dk_16 254 (dk_at dksX0_image_0 7 rfl rfl)
theorem dX0_image_9 : decode cX0_image 9 = .ok (.ireturn, 1) := dk_172 (dk_at dksX0_image_0 9 rfl rfl)
theorem dX0_image_10 : decode cX0_image 10 = .ok (.aload_n 0, 1) := dk_42 (dk_at dksX0_image_0 10 rfl rfl)
theorem dX0_image_11 : decode cX0_image 11 = .ok (.getfield 20, 3) := dk_180 0 20 (dk_at dksX0_image_0 11 rfl rfl)
theorem dX0_image_14 : decode cX0_image 14 = .ok (.iload_n 1, 1) := dk_27 (dk_at dksX0_image_0 14 rfl rfl)
theorem dX0_image_15 : decode cX0_image 15 = .ok (.aaload, 1) := dk_50 (dk_at dksX0_image_0 15 rfl rfl)
theorem dX0_image_16 : decode cX0_image 16 = .ok (.aload_n 0, 1) := dk_42 (dk_at dksX0_image_0 16 rfl rfl)
theorem dX0_image_17 : decode cX0_image 17 = .ok (.getfield 16, 3) := dk_180 0 16 (dk_at dksX0_image_0 17 rfl rfl)
theorem dX0_image_20 : decode cX0_image 20 = .ok (.invokevirtual 289, 3) := dk_182 1 33 (dk_at dksX0_image_0 20 rfl rfl)
theorem dX0_image_23 : decode cX0_image 23 = .ok (.aload_n 0, 1) := dk_42 (dk_at dksX0_image_0 23 rfl rfl)
theorem dX0_image_24 : decode cX0_image 24 = .ok (.getfield 24, 3) := dk_180 0 24 (dk_at dksX0_image_1 0 rfl rfl)
theorem dX0_image_27 : decode cX0_image 27 = .ok (.iload_n 1, 1) := dk_27 (dk_at dksX0_image_1 3 rfl rfl)
theorem dX0_image_28 : decode cX0_image 28 = .ok (.iconst 1, 1) := dk_4 (dk_at dksX0_image_1 4 rfl rfl)
theorem dX0_image_29 : decode cX0_image 29 = .ok (.bastore, 1) := dk_84 (dk_at dksX0_image_1 5 rfl rfl)
theorem dX0_image_30 : decode cX0_image 30 = .ok (.iconst 1, 1) := dk_4 (dk_at dksX0_image_1 6 rfl rfl)
theorem dX0_image_31 : decode cX0_image 31 = .ok (.ireturn, 1) := dk_172 (dk_at dksX0_image_1 7 rfl rfl)
abbrev cX0_isEnd : ByteArray := prog_1_method_2_code
def yX0_isEnd : MethodName := ⟨RX0, "isEnd", "(I)Z"⟩
def dkwX0_isEnd_0 : List UInt8 := [26, 133, 9, 10, 184, 0, 1, 172]
abbrev dktX0_isEnd_0 : List UInt8 := dkwX0_isEnd_0 ++ []
theorem dksX0_isEnd_0 : cX0_isEnd.data.toList.drop 0 = dktX0_isEnd_0 := by decide +kernel
theorem dX0_isEnd_0 : decode cX0_isEnd 0 = .ok (.iload_n 0, 1) := dk_26 (dk_at dksX0_isEnd_0 0 rfl rfl)
theorem dX0_isEnd_1 : decode cX0_isEnd 1 = .ok (.i2l, 1) := dk_133 (dk_at dksX0_isEnd_0 1 rfl rfl)
theorem dX0_isEnd_2 : decode cX0_isEnd 2 = .ok (.lconst 0, 1) := dk_9 (dk_at dksX0_isEnd_0 2 rfl rfl)
theorem dX0_isEnd_3 : decode cX0_isEnd 3 = .ok (.lconst 1, 1) := dk_10 (dk_at dksX0_isEnd_0 3 rfl rfl)
theorem dX0_isEnd_4 : decode cX0_isEnd 4 = .ok (.invokestatic 1, 3) := dk_184 0 1 (dk_at dksX0_isEnd_0 4 rfl rfl)
theorem dX0_isEnd_7 : decode cX0_isEnd 7 = .ok (.ireturn, 1) := dk_172 (dk_at dksX0_isEnd_0 7 rfl rfl)
abbrev cX0_restore : ByteArray := prog_1_method_39_code
def yX0_restore : MethodName := ⟨RX0, "restore", "(I)I"⟩
def dkwX0_restore_1 : List UInt8 := [180, 0, 16, 42, 180, 0, 20, 27, 50, 182, 1, 33, 4, 172]
abbrev dktX0_restore_1 : List UInt8 := dkwX0_restore_1 ++ []
def dkwX0_restore_0 : List UInt8 := [27, 184, 1, 30, 154, 0, 6, 16, 254, 172, 42, 180, 0, 24, 27, 51, 154, 0, 6, 16, 253, 172, 42]
abbrev dktX0_restore_0 : List UInt8 := dkwX0_restore_0 ++ dktX0_restore_1
theorem dksX0_restore_0 : cX0_restore.data.toList.drop 0 = dktX0_restore_0 := by decide +kernel
theorem dksX0_restore_1 : cX0_restore.data.toList.drop 23 = dktX0_restore_1 := dk_seg dksX0_restore_0 23 rfl rfl
theorem dX0_restore_0 : decode cX0_restore 0 = .ok (.iload_n 1, 1) := dk_27 (dk_at dksX0_restore_0 0 rfl rfl)
theorem dX0_restore_1 : decode cX0_restore 1 = .ok (.invokestatic 286, 3) := dk_184 1 30 (dk_at dksX0_restore_0 1 rfl rfl)
theorem dX0_restore_4 : decode cX0_restore 4 = .ok (.ifCond .ne 6, 3) := dk_154 0 6 (dk_at dksX0_restore_0 4 rfl rfl)
theorem dX0_restore_7 : decode cX0_restore 7 = .ok (.bipush (-2), 2) := dk_16 254 (dk_at dksX0_restore_0 7 rfl rfl)
theorem dX0_restore_9 : decode cX0_restore 9 = .ok (.ireturn, 1) := dk_172 (dk_at dksX0_restore_0 9 rfl rfl)
theorem dX0_restore_10 : decode cX0_restore 10 = .ok (.aload_n 0, 1) := dk_42 (dk_at dksX0_restore_0 10 rfl rfl)
theorem dX0_restore_11 : decode cX0_restore 11 = .ok (.getfield 24, 3) := dk_180 0 24 (dk_at dksX0_restore_0 11 rfl rfl)
theorem dX0_restore_14 : decode cX0_restore 14 = .ok (.iload_n 1, 1) := dk_27 (dk_at dksX0_restore_0 14 rfl rfl)
theorem dX0_restore_15 : decode cX0_restore 15 = .ok (.baload, 1) := dk_51 (dk_at dksX0_restore_0 15 rfl rfl)
theorem dX0_restore_16 : decode cX0_restore 16 = .ok (.ifCond .ne 6, 3) := dk_154 0 6 (dk_at dksX0_restore_0 16 rfl rfl)
theorem dX0_restore_19 : decode cX0_restore 19 = .ok (.bipush (-3), 2) := dk_16 253 (dk_at dksX0_restore_0 19 rfl rfl)
theorem dX0_restore_21 : decode cX0_restore 21 = .ok (.ireturn, 1) := dk_172 (dk_at dksX0_restore_0 21 rfl rfl)
theorem dX0_restore_22 : decode cX0_restore 22 = .ok (.aload_n 0, 1) := dk_42 (dk_at dksX0_restore_0 22 rfl rfl)
theorem dX0_restore_23 : decode cX0_restore 23 = .ok (.getfield 16, 3) := dk_180 0 16 (dk_at dksX0_restore_1 0 rfl rfl)
theorem dX0_restore_26 : decode cX0_restore 26 = .ok (.aload_n 0, 1) := dk_42 (dk_at dksX0_restore_1 3 rfl rfl)
theorem dX0_restore_27 : decode cX0_restore 27 = .ok (.getfield 20, 3) := dk_180 0 20 (dk_at dksX0_restore_1 4 rfl rfl)
theorem dX0_restore_30 : decode cX0_restore 30 = .ok (.iload_n 1, 1) := dk_27 (dk_at dksX0_restore_1 7 rfl rfl)
theorem dX0_restore_31 : decode cX0_restore 31 = .ok (.aaload, 1) := dk_50 (dk_at dksX0_restore_1 8 rfl rfl)
theorem dX0_restore_32 : decode cX0_restore 32 = .ok (.invokevirtual 289, 3) := dk_182 1 33 (dk_at dksX0_restore_1 9 rfl rfl)
theorem dX0_restore_35 : decode cX0_restore 35 = .ok (.iconst 1, 1) := dk_4 (dk_at dksX0_restore_1 12 rfl rfl)
theorem dX0_restore_36 : decode cX0_restore 36 = .ok (.ireturn, 1) := dk_172 (dk_at dksX0_restore_1 13 rfl rfl)
abbrev cX0_count : ByteArray := prog_1_method_40_code
def yX0_count : MethodName := ⟨RX0, "count", "(I)I"⟩
def dkwX0_count_6 : List UInt8 := [16, 254, 172]
abbrev dktX0_count_6 : List UInt8 := dkwX0_count_6 ++ []
def dkwX0_count_5 : List UInt8 := [153, 0, 7, 4, 167, 0, 4, 3, 42, 180, 0, 24, 4, 51, 153, 0, 7, 5, 167, 0, 4, 3, 96, 172]
abbrev dktX0_count_5 : List UInt8 := dkwX0_count_5 ++ dktX0_count_6
def dkwX0_count_4 : List UInt8 := [180, 0, 16, 5, 182, 0, 74, 172, 42, 180, 0, 16, 180, 0, 181, 172, 42, 180, 0, 24, 3, 51]
abbrev dktX0_count_4 : List UInt8 := dkwX0_count_4 ++ dktX0_count_5
def dkwX0_count_3 : List UInt8 := [42, 180, 0, 16, 180, 0, 70, 172, 42, 180, 0, 16, 182, 0, 91, 172, 42, 182, 0, 122, 172, 42]
abbrev dktX0_count_3 : List UInt8 := dkwX0_count_3 ++ dktX0_count_4
def dkwX0_count_2 : List UInt8 := [170, 0, 0, 0, 0, 0, 0, 108, 0, 0, 0, 0, 0, 0, 0, 5, 0, 0, 0, 40, 0, 0, 0, 48, 0, 0, 0, 56, 0, 0, 0, 61, 0, 0, 0, 70, 0, 0, 0, 78]
abbrev dktX0_count_2 : List UInt8 := dkwX0_count_2 ++ dktX0_count_3
def dkwX0_count_1 : List UInt8 := [100, 46, 172, 27]
abbrev dktX0_count_1 : List UInt8 := dkwX0_count_1 ++ dktX0_count_2
def dkwX0_count_0 : List UInt8 := [27, 133, 20, 0, 87, 20, 1, 36, 184, 0, 1, 153, 0, 16, 42, 180, 0, 16, 180, 0, 82, 27, 16, 10]
abbrev dktX0_count_0 : List UInt8 := dkwX0_count_0 ++ dktX0_count_1
theorem dksX0_count_0 : cX0_count.data.toList.drop 0 = dktX0_count_0 := by decide +kernel
theorem dksX0_count_1 : cX0_count.data.toList.drop 24 = dktX0_count_1 := dk_seg dksX0_count_0 24 rfl rfl
theorem dksX0_count_2 : cX0_count.data.toList.drop 28 = dktX0_count_2 := dk_seg dksX0_count_1 4 rfl rfl
theorem dksX0_count_3 : cX0_count.data.toList.drop 68 = dktX0_count_3 := dk_seg dksX0_count_2 40 rfl rfl
theorem dksX0_count_4 : cX0_count.data.toList.drop 90 = dktX0_count_4 := dk_seg dksX0_count_3 22 rfl rfl
theorem dksX0_count_5 : cX0_count.data.toList.drop 112 = dktX0_count_5 := dk_seg dksX0_count_4 22 rfl rfl
theorem dksX0_count_6 : cX0_count.data.toList.drop 136 = dktX0_count_6 := dk_seg dksX0_count_5 24 rfl rfl
theorem dX0_count_0 : decode cX0_count 0 = .ok (.iload_n 1, 1) := dk_27 (dk_at dksX0_count_0 0 rfl rfl)
theorem dX0_count_1 : decode cX0_count 1 = .ok (.i2l, 1) := dk_133 (dk_at dksX0_count_0 1 rfl rfl)
theorem dX0_count_2 : decode cX0_count 2 = .ok (.ldc2_w 87, 3) := dk_20 0 87 (dk_at dksX0_count_0 2 rfl rfl)
theorem dX0_count_5 : decode cX0_count 5 = .ok (.ldc2_w 292, 3) := dk_20 1 36 (dk_at dksX0_count_0 5 rfl rfl)
theorem dX0_count_8 : decode cX0_count 8 = .ok (.invokestatic 1, 3) := dk_184 0 1 (dk_at dksX0_count_0 8 rfl rfl)
theorem dX0_count_11 : decode cX0_count 11 = .ok (.ifCond .eq 16, 3) := dk_153 0 16 (dk_at dksX0_count_0 11 rfl rfl)
theorem dX0_count_14 : decode cX0_count 14 = .ok (.aload_n 0, 1) := dk_42 (dk_at dksX0_count_0 14 rfl rfl)
theorem dX0_count_15 : decode cX0_count 15 = .ok (.getfield 16, 3) := dk_180 0 16 (dk_at dksX0_count_0 15 rfl rfl)
theorem dX0_count_18 : decode cX0_count 18 = .ok (.getfield 82, 3) := dk_180 0 82 (dk_at dksX0_count_0 18 rfl rfl)
theorem dX0_count_21 : decode cX0_count 21 = .ok (.iload_n 1, 1) := dk_27 (dk_at dksX0_count_0 21 rfl rfl)
theorem dX0_count_22 : decode cX0_count 22 = .ok (.bipush 10, 2) := dk_16 10 (dk_at dksX0_count_0 22 rfl rfl)
theorem dX0_count_24 : decode cX0_count 24 = .ok (.isub, 1) := dk_100 (dk_at dksX0_count_1 0 rfl rfl)
theorem dX0_count_25 : decode cX0_count 25 = .ok (.iaload, 1) := dk_46 (dk_at dksX0_count_1 1 rfl rfl)
theorem dX0_count_26 : decode cX0_count 26 = .ok (.ireturn, 1) := dk_172 (dk_at dksX0_count_1 2 rfl rfl)
theorem dX0_count_27 : decode cX0_count 27 = .ok (.iload_n 1, 1) := dk_27 (dk_at dksX0_count_1 3 rfl rfl)
theorem dX0_count_28 : decode cX0_count 28 = .ok (.tableswitch 108 0 5 #[40, 48, 56, 61, 70, 78], 40) := by decide +kernel
theorem dX0_count_68 : decode cX0_count 68 = .ok (.aload_n 0, 1) := dk_42 (dk_at dksX0_count_3 0 rfl rfl)
theorem dX0_count_69 : decode cX0_count 69 = .ok (.getfield 16, 3) := dk_180 0 16 (dk_at dksX0_count_3 1 rfl rfl)
theorem dX0_count_72 : decode cX0_count 72 = .ok (.getfield 70, 3) := dk_180 0 70 (dk_at dksX0_count_3 4 rfl rfl)
theorem dX0_count_75 : decode cX0_count 75 = .ok (.ireturn, 1) := dk_172 (dk_at dksX0_count_3 7 rfl rfl)
theorem dX0_count_76 : decode cX0_count 76 = .ok (.aload_n 0, 1) := dk_42 (dk_at dksX0_count_3 8 rfl rfl)
theorem dX0_count_77 : decode cX0_count 77 = .ok (.getfield 16, 3) := dk_180 0 16 (dk_at dksX0_count_3 9 rfl rfl)
theorem dX0_count_80 : decode cX0_count 80 = .ok (.invokevirtual 91, 3) := dk_182 0 91 (dk_at dksX0_count_3 12 rfl rfl)
theorem dX0_count_83 : decode cX0_count 83 = .ok (.ireturn, 1) := dk_172 (dk_at dksX0_count_3 15 rfl rfl)
theorem dX0_count_84 : decode cX0_count 84 = .ok (.aload_n 0, 1) := dk_42 (dk_at dksX0_count_3 16 rfl rfl)
theorem dX0_count_85 : decode cX0_count 85 = .ok (.invokevirtual 122, 3) := dk_182 0 122 (dk_at dksX0_count_3 17 rfl rfl)
theorem dX0_count_88 : decode cX0_count 88 = .ok (.ireturn, 1) := dk_172 (dk_at dksX0_count_3 20 rfl rfl)
theorem dX0_count_89 : decode cX0_count 89 = .ok (.aload_n 0, 1) := dk_42 (dk_at dksX0_count_3 21 rfl rfl)
theorem dX0_count_90 : decode cX0_count 90 = .ok (.getfield 16, 3) := dk_180 0 16 (dk_at dksX0_count_4 0 rfl rfl)
theorem dX0_count_93 : decode cX0_count 93 = .ok (.iconst 2, 1) := dk_5 (dk_at dksX0_count_4 3 rfl rfl)
theorem dX0_count_94 : decode cX0_count 94 = .ok (.invokevirtual 74, 3) := dk_182 0 74 (dk_at dksX0_count_4 4 rfl rfl)
theorem dX0_count_97 : decode cX0_count 97 = .ok (.ireturn, 1) := dk_172 (dk_at dksX0_count_4 7 rfl rfl)
theorem dX0_count_98 : decode cX0_count 98 = .ok (.aload_n 0, 1) := dk_42 (dk_at dksX0_count_4 8 rfl rfl)
theorem dX0_count_99 : decode cX0_count 99 = .ok (.getfield 16, 3) := dk_180 0 16 (dk_at dksX0_count_4 9 rfl rfl)
theorem dX0_count_102 : decode cX0_count 102 = .ok (.getfield 181, 3) := dk_180 0 181 (dk_at dksX0_count_4 12 rfl rfl)
theorem dX0_count_105 : decode cX0_count 105 = .ok (.ireturn, 1) := dk_172 (dk_at dksX0_count_4 15 rfl rfl)
theorem dX0_count_106 : decode cX0_count 106 = .ok (.aload_n 0, 1) := dk_42 (dk_at dksX0_count_4 16 rfl rfl)
theorem dX0_count_107 : decode cX0_count 107 = .ok (.getfield 24, 3) := dk_180 0 24 (dk_at dksX0_count_4 17 rfl rfl)
theorem dX0_count_110 : decode cX0_count 110 = .ok (.iconst 0, 1) := dk_3 (dk_at dksX0_count_4 20 rfl rfl)
theorem dX0_count_111 : decode cX0_count 111 = .ok (.baload, 1) := dk_51 (dk_at dksX0_count_4 21 rfl rfl)
theorem dX0_count_112 : decode cX0_count 112 = .ok (.ifCond .eq 7, 3) := dk_153 0 7 (dk_at dksX0_count_5 0 rfl rfl)
theorem dX0_count_115 : decode cX0_count 115 = .ok (.iconst 1, 1) := dk_4 (dk_at dksX0_count_5 3 rfl rfl)
theorem dX0_count_116 : decode cX0_count 116 = .ok (.goto 4, 3) := dk_167 0 4 (dk_at dksX0_count_5 4 rfl rfl)
theorem dX0_count_119 : decode cX0_count 119 = .ok (.iconst 0, 1) := dk_3 (dk_at dksX0_count_5 7 rfl rfl)
theorem dX0_count_120 : decode cX0_count 120 = .ok (.aload_n 0, 1) := dk_42 (dk_at dksX0_count_5 8 rfl rfl)
theorem dX0_count_121 : decode cX0_count 121 = .ok (.getfield 24, 3) := dk_180 0 24 (dk_at dksX0_count_5 9 rfl rfl)
theorem dX0_count_124 : decode cX0_count 124 = .ok (.iconst 1, 1) := dk_4 (dk_at dksX0_count_5 12 rfl rfl)
theorem dX0_count_125 : decode cX0_count 125 = .ok (.baload, 1) := dk_51 (dk_at dksX0_count_5 13 rfl rfl)
theorem dX0_count_126 : decode cX0_count 126 = .ok (.ifCond .eq 7, 3) := dk_153 0 7 (dk_at dksX0_count_5 14 rfl rfl)
theorem dX0_count_129 : decode cX0_count 129 = .ok (.iconst 2, 1) := dk_5 (dk_at dksX0_count_5 17 rfl rfl)
theorem dX0_count_130 : decode cX0_count 130 = .ok (.goto 4, 3) := dk_167 0 4 (dk_at dksX0_count_5 18 rfl rfl)
theorem dX0_count_133 : decode cX0_count 133 = .ok (.iconst 0, 1) := dk_3 (dk_at dksX0_count_5 21 rfl rfl)
theorem dX0_count_134 : decode cX0_count 134 = .ok (.iadd, 1) := dk_96 (dk_at dksX0_count_5 22 rfl rfl)
theorem dX0_count_135 : decode cX0_count 135 = .ok (.ireturn, 1) := dk_172 (dk_at dksX0_count_5 23 rfl rfl)
theorem dX0_count_136 : decode cX0_count 136 = .ok (.bipush (-2), 2) := dk_16 254 (dk_at dksX0_count_6 0 rfl rfl)
theorem dX0_count_138 : decode cX0_count 138 = .ok (.ireturn, 1) := dk_172 (dk_at dksX0_count_6 2 rfl rfl)
theorem q57 : (Jvm.Cond.initialized "RingMeets") ∈ lw_all := lw_g (lw_at lw_m1 1 rfl) rfl
theorem q74 : (Jvm.Cond.instantiable "RingMeets" (13 : Nat)) ∈ lw_all := lw_g (lw_at lw_m1 18 rfl) rfl
theorem q76 : (Jvm.Cond.instanceMethod ({ cls := "RingMeets", name := "<init>", desc := "()V" } : Jvm.MethodName)) ∈ lw_all := lw_g (lw_at lw_m1 20 rfl) rfl
theorem q77 : (Jvm.Cond.code ({ cls := "RingMeets", name := "<init>", desc := "()V" } : Jvm.MethodName) prog_1_method_3_code (1 : Nat) (Option.none : Option Jvm.ClassFile.FieldType)) ∈ lw_all := lw_g (lw_at lw_m1 21 rfl) rfl
theorem q78 : (Jvm.Cond.methodLink "RingMeets" (7 : Nat) ({ cls := "java/lang/Object", name := "<init>", desc := "()V" } : Jvm.MethodName)) ∈ lw_all := lw_g (lw_at lw_m1 22 rfl) rfl
theorem q81 : (Jvm.Cond.classLink "RingMeets" (13 : Nat) "RingMeets$Desk") ∈ lw_all := lw_g (lw_at lw_m1 25 rfl) rfl
theorem q83 : (Jvm.Cond.methodLink "RingMeets" (15 : Nat) ({ cls := "RingMeets$Desk", name := "<init>", desc := "()V" } : Jvm.MethodName)) ∈ lw_all := lw_g (lw_at lw_m1 27 rfl) rfl
theorem q95 : (Jvm.Cond.fieldLinkNest "RingMeets" (190 : Nat) "RingMeets$Rule" "stands" "I" "RingMeets") ∈ lw_tbl := lw_at lw_m1 39 rfl
theorem q97 : (Jvm.Cond.fieldLinkNest "RingMeets" (194 : Nat) "RingMeets$Rule" "place" "I" "RingMeets") ∈ lw_tbl := lw_at lw_m1 41 rfl
theorem q99 : (Jvm.Cond.fieldLinkNest "RingMeets" (197 : Nat) "RingMeets$Rule" "how" "I" "RingMeets") ∈ lw_tbl := lw_at lw_m1 43 rfl
theorem q101 : (Jvm.Cond.fieldLinkNest "RingMeets" (200 : Nat) "RingMeets$Rule" "number" "I" "RingMeets") ∈ lw_tbl := lw_at lw_m1 45 rfl
theorem q103 : (Jvm.Cond.fieldLinkNest "RingMeets" (203 : Nat) "RingMeets$Rule" "done" "I" "RingMeets") ∈ lw_tbl := lw_at lw_m1 47 rfl
theorem q105 : (Jvm.Cond.fieldLinkNest "RingMeets" (206 : Nat) "RingMeets$Rule" "whom" "I" "RingMeets") ∈ lw_tbl := lw_at lw_m1 49 rfl
theorem q122 : (Jvm.Cond.fieldLinkNest "RingMeets" (70 : Nat) "RingMeets$Desk" "cells" "I" "RingMeets") ∈ lw_tbl := lw_at lw_m1 66 rfl
theorem q124 : (Jvm.Cond.fieldLinkNest "RingMeets" (82 : Nat) "RingMeets$Desk" "walkers" "[I" "RingMeets") ∈ lw_tbl := lw_at lw_m1 68 rfl
theorem q126 : (Jvm.Cond.fieldLinkNest "RingMeets" (186 : Nat) "RingMeets$Desk" "rules" "[LRingMeets$Rule;" "RingMeets") ∈ lw_tbl := lw_at lw_m1 70 rfl
theorem q128 : (Jvm.Cond.fieldLinkNest "RingMeets" (181 : Nat) "RingMeets$Desk" "many" "I" "RingMeets") ∈ lw_tbl := lw_at lw_m1 72 rfl
theorem q139 : (Jvm.Cond.classLink "RingMeets" (28 : Nat) "RingMeets$1") ∈ lw_all := lw_g (lw_at lw_m1 83 rfl) rfl
theorem q141 : (Jvm.Cond.methodLink "RingMeets" (30 : Nat) ({ cls := "RingMeets$1", name := "<init>", desc := "(LRingMeets;)V" } : Jvm.MethodName)) ∈ lw_all := lw_g (lw_at lw_m1 85 rfl) rfl
theorem q156 : (Jvm.Cond.classLink "RingMeets" (37 : Nat) "RingMeets$2") ∈ lw_all := lw_g (lw_at lw_m1 100 rfl) rfl
theorem q158 : (Jvm.Cond.methodLink "RingMeets" (39 : Nat) ({ cls := "RingMeets$2", name := "<init>", desc := "(LRingMeets;)V" } : Jvm.MethodName)) ∈ lw_all := lw_g (lw_at lw_m1 102 rfl) rfl
theorem q167 : (Jvm.Cond.constant "RingMeets" (43 : Nat) (59049 : Int32)) ∈ lw_all := lw_g (lw_at lw_m1 111 rfl) rfl
theorem q168 : (Jvm.Cond.constant "RingMeets" (57 : Nat) (60000 : Int32)) ∈ lw_all := lw_g (lw_at lw_m1 112 rfl) rfl
theorem q170 : (Jvm.Cond.fieldLink "RingMeets" (16 : Nat) "RingMeets" "desk" "LRingMeets$Desk;") ∈ lw_all := lw_g (lw_at lw_m1 114 rfl) rfl
theorem q171 : (Jvm.Cond.fieldLink "RingMeets" (20 : Nat) "RingMeets" "images" "[LRingMeets$Desk;") ∈ lw_all := lw_g (lw_at lw_m1 115 rfl) rfl
theorem q172 : (Jvm.Cond.fieldLink "RingMeets" (24 : Nat) "RingMeets" "isKept" "[Z") ∈ lw_all := lw_g (lw_at lw_m1 116 rfl) rfl
theorem q173 : (Jvm.Cond.fieldLink "RingMeets" (33 : Nat) "RingMeets" "turned" "LRingMeets$Likeness;") ∈ lw_all := lw_g (lw_at lw_m1 117 rfl) rfl
theorem q174 : (Jvm.Cond.fieldLink "RingMeets" (40 : Nat) "RingMeets" "mirrored" "LRingMeets$Likeness;") ∈ lw_all := lw_g (lw_at lw_m1 118 rfl) rfl
theorem q176 : (Jvm.Cond.fieldLink "RingMeets" (44 : Nat) "RingMeets" "numberOf" "[I") ∈ lw_all := lw_g (lw_at lw_m1 120 rfl) rfl
theorem q178 : (Jvm.Cond.fieldLink "RingMeets" (48 : Nat) "RingMeets" "standsOf" "[I") ∈ lw_all := lw_g (lw_at lw_m1 122 rfl) rfl
theorem q180 : (Jvm.Cond.fieldLink "RingMeets" (51 : Nat) "RingMeets" "towersOf" "[I") ∈ lw_all := lw_g (lw_at lw_m1 124 rfl) rfl
theorem q181 : (Jvm.Cond.fieldLink "RingMeets" (54 : Nat) "RingMeets" "firstStep" "[I") ∈ lw_all := lw_g (lw_at lw_m1 125 rfl) rfl
theorem q183 : (Jvm.Cond.fieldLink "RingMeets" (58 : Nat) "RingMeets" "steps" "[I") ∈ lw_all := lw_g (lw_at lw_m1 127 rfl) rfl
theorem q185 : (Jvm.Cond.fieldLink "RingMeets" (61 : Nat) "RingMeets" "soon" "[I") ∈ lw_all := lw_g (lw_at lw_m1 129 rfl) rfl
theorem q187 : (Jvm.Cond.fieldLink "RingMeets" (64 : Nat) "RingMeets" "late" "[I") ∈ lw_all := lw_g (lw_at lw_m1 131 rfl) rfl
theorem q190 : (Jvm.Cond.fieldLink "RingMeets" (67 : Nat) "RingMeets" "target" "[I") ∈ lw_all := lw_g (lw_at lw_m1 134 rfl) rfl
theorem q191 : (Jvm.Cond.laysFinal "RingMeets" "RingMeets" "desk" "LRingMeets$Desk;") ∈ lw_all := lw_g (lw_at lw_m1 135 rfl) rfl
theorem q192 : (Jvm.Cond.soleField "RingMeets" "desk") ∈ lw_all := lw_g (lw_at lw_m1 136 rfl) rfl
theorem q193 : (Jvm.Cond.laysFinal "RingMeets" "RingMeets" "images" "[LRingMeets$Desk;") ∈ lw_all := lw_g (lw_at lw_m1 137 rfl) rfl
theorem q194 : (Jvm.Cond.soleField "RingMeets" "images") ∈ lw_all := lw_g (lw_at lw_m1 138 rfl) rfl
theorem q195 : (Jvm.Cond.laysFinal "RingMeets" "RingMeets" "isKept" "[Z") ∈ lw_all := lw_g (lw_at lw_m1 139 rfl) rfl
theorem q196 : (Jvm.Cond.soleField "RingMeets" "isKept") ∈ lw_all := lw_g (lw_at lw_m1 140 rfl) rfl
theorem q197 : (Jvm.Cond.laysFinal "RingMeets" "RingMeets" "turned" "LRingMeets$Likeness;") ∈ lw_all := lw_g (lw_at lw_m1 141 rfl) rfl
theorem q198 : (Jvm.Cond.soleField "RingMeets" "turned") ∈ lw_all := lw_g (lw_at lw_m1 142 rfl) rfl
theorem q199 : (Jvm.Cond.laysFinal "RingMeets" "RingMeets" "mirrored" "LRingMeets$Likeness;") ∈ lw_all := lw_g (lw_at lw_m1 143 rfl) rfl
theorem q200 : (Jvm.Cond.soleField "RingMeets" "mirrored") ∈ lw_all := lw_g (lw_at lw_m1 144 rfl) rfl
theorem q201 : (Jvm.Cond.laysFinal "RingMeets" "RingMeets" "numberOf" "[I") ∈ lw_all := lw_g (lw_at lw_m1 145 rfl) rfl
theorem q202 : (Jvm.Cond.soleField "RingMeets" "numberOf") ∈ lw_all := lw_g (lw_at lw_m1 146 rfl) rfl
theorem q203 : (Jvm.Cond.laysFinal "RingMeets" "RingMeets" "standsOf" "[I") ∈ lw_all := lw_g (lw_at lw_m1 147 rfl) rfl
theorem q204 : (Jvm.Cond.soleField "RingMeets" "standsOf") ∈ lw_all := lw_g (lw_at lw_m1 148 rfl) rfl
theorem q205 : (Jvm.Cond.laysFinal "RingMeets" "RingMeets" "towersOf" "[I") ∈ lw_all := lw_g (lw_at lw_m1 149 rfl) rfl
theorem q206 : (Jvm.Cond.soleField "RingMeets" "towersOf") ∈ lw_all := lw_g (lw_at lw_m1 150 rfl) rfl
theorem q207 : (Jvm.Cond.laysFinal "RingMeets" "RingMeets" "firstStep" "[I") ∈ lw_all := lw_g (lw_at lw_m1 151 rfl) rfl
theorem q208 : (Jvm.Cond.soleField "RingMeets" "firstStep") ∈ lw_all := lw_g (lw_at lw_m1 152 rfl) rfl
theorem q209 : (Jvm.Cond.laysFinal "RingMeets" "RingMeets" "steps" "[I") ∈ lw_all := lw_g (lw_at lw_m1 153 rfl) rfl
theorem q210 : (Jvm.Cond.soleField "RingMeets" "steps") ∈ lw_all := lw_g (lw_at lw_m1 154 rfl) rfl
theorem q211 : (Jvm.Cond.laysFinal "RingMeets" "RingMeets" "soon" "[I") ∈ lw_all := lw_g (lw_at lw_m1 155 rfl) rfl
theorem q212 : (Jvm.Cond.soleField "RingMeets" "soon") ∈ lw_all := lw_g (lw_at lw_m1 156 rfl) rfl
theorem q213 : (Jvm.Cond.laysFinal "RingMeets" "RingMeets" "late" "[I") ∈ lw_all := lw_g (lw_at lw_m1 157 rfl) rfl
theorem q214 : (Jvm.Cond.soleField "RingMeets" "late") ∈ lw_all := lw_g (lw_at lw_m1 158 rfl) rfl
theorem q215 : (Jvm.Cond.laysFinal "RingMeets" "RingMeets" "target" "[I") ∈ lw_all := lw_g (lw_at lw_m1 159 rfl) rfl
theorem q216 : (Jvm.Cond.soleField "RingMeets" "target") ∈ lw_all := lw_g (lw_at lw_m1 160 rfl) rfl
theorem q217 : (Jvm.Cond.superclass "RingMeets" "java/lang/Object") ∈ lw_all := lw_g (lw_at lw_m1 161 rfl) rfl
theorem q219 : (Jvm.Cond.instanceMethod ({ cls := "RingMeets", name := "ring", desc := "(I)I" } : Jvm.MethodName)) ∈ lw_all := lw_g (lw_at lw_m1 163 rfl) rfl
theorem q220 : (Jvm.Cond.selects "RingMeets" ({ cls := "RingMeets", name := "ring", desc := "(I)I" } : Jvm.MethodName) ({ cls := "RingMeets", name := "ring", desc := "(I)I" } : Jvm.MethodName)) ∈ lw_all := lw_g (lw_at lw_m1 164 rfl) rfl
theorem q221 : (Jvm.Cond.code ({ cls := "RingMeets", name := "ring", desc := "(I)I" } : Jvm.MethodName) prog_1_method_7_code (4 : Nat) (Option.some Jvm.ClassFile.FieldType.int)) ∈ lw_all := lw_g (lw_at lw_m1 165 rfl) rfl
theorem q222 : (Jvm.Cond.constantLong "RingMeets" (85 : Nat) (3 : Int64)) ∈ lw_all := lw_g (lw_at lw_m1 166 rfl) rfl
theorem q223 : (Jvm.Cond.constantLong "RingMeets" (87 : Nat) (10 : Int64)) ∈ lw_all := lw_g (lw_at lw_m1 167 rfl) rfl
theorem q224 : (Jvm.Cond.methodLink "RingMeets" (1 : Nat) ({ cls := "RingMeets", name := "isIn", desc := "(JJJ)Z" } : Jvm.MethodName)) ∈ lw_all := lw_g (lw_at lw_m1 168 rfl) rfl
theorem q225 : (Jvm.Cond.static ({ cls := "RingMeets", name := "isIn", desc := "(JJJ)Z" } : Jvm.MethodName)) ∈ lw_all := lw_g (lw_at lw_m1 169 rfl) rfl
theorem q226 : (Jvm.Cond.code ({ cls := "RingMeets", name := "isIn", desc := "(JJJ)Z" } : Jvm.MethodName) prog_1_method_1_code (6 : Nat) (Option.some Jvm.ClassFile.FieldType.boolean)) ∈ lw_all := lw_g (lw_at lw_m1 170 rfl) rfl
theorem q228 : (Jvm.Cond.instanceMethod ({ cls := "RingMeets", name := "stand", desc := "(II)I" } : Jvm.MethodName)) ∈ lw_all := lw_g (lw_at lw_m1 172 rfl) rfl
theorem q229 : (Jvm.Cond.selects "RingMeets" ({ cls := "RingMeets", name := "stand", desc := "(II)I" } : Jvm.MethodName) ({ cls := "RingMeets", name := "stand", desc := "(II)I" } : Jvm.MethodName)) ∈ lw_all := lw_g (lw_at lw_m1 173 rfl) rfl
theorem q230 : (Jvm.Cond.code ({ cls := "RingMeets", name := "stand", desc := "(II)I" } : Jvm.MethodName) prog_1_method_8_code (4 : Nat) (Option.some Jvm.ClassFile.FieldType.int)) ∈ lw_all := lw_g (lw_at lw_m1 174 rfl) rfl
theorem q231 : (Jvm.Cond.methodLink "RingMeets" (78 : Nat) ({ cls := "RingMeets", name := "isCell", desc := "(I)Z" } : Jvm.MethodName)) ∈ lw_all := lw_g (lw_at lw_m1 175 rfl) rfl
theorem q232 : (Jvm.Cond.privateMethod ({ cls := "RingMeets", name := "isCell", desc := "(I)Z" } : Jvm.MethodName)) ∈ lw_tbl := lw_at lw_m1 176 rfl
theorem q233 : (Jvm.Cond.instanceMethod ({ cls := "RingMeets", name := "isCell", desc := "(I)Z" } : Jvm.MethodName)) ∈ lw_all := lw_g (lw_at lw_m1 177 rfl) rfl
theorem q234 : (Jvm.Cond.code ({ cls := "RingMeets", name := "isCell", desc := "(I)Z" } : Jvm.MethodName) prog_1_method_4_code (2 : Nat) (Option.some Jvm.ClassFile.FieldType.boolean)) ∈ lw_all := lw_g (lw_at lw_m1 178 rfl) rfl
theorem q235 : (Jvm.Cond.constantLong "RingMeets" (89 : Nat) (5 : Int64)) ∈ lw_all := lw_g (lw_at lw_m1 179 rfl) rfl
theorem q236 : (Jvm.Cond.methodLink "RingMeets" (91 : Nat) ({ cls := "RingMeets$Desk", name := "all", desc := "()I" } : Jvm.MethodName)) ∈ lw_all := lw_g (lw_at lw_m1 180 rfl) rfl
theorem q241 : (Jvm.Cond.instanceMethod ({ cls := "RingMeets", name := "gap", desc := "(III)I" } : Jvm.MethodName)) ∈ lw_all := lw_g (lw_at lw_m1 185 rfl) rfl
theorem q242 : (Jvm.Cond.selects "RingMeets" ({ cls := "RingMeets", name := "gap", desc := "(III)I" } : Jvm.MethodName) ({ cls := "RingMeets", name := "gap", desc := "(III)I" } : Jvm.MethodName)) ∈ lw_all := lw_g (lw_at lw_m1 186 rfl) rfl
theorem q243 : (Jvm.Cond.code ({ cls := "RingMeets", name := "gap", desc := "(III)I" } : Jvm.MethodName) prog_1_method_14_code (7 : Nat) (Option.some Jvm.ClassFile.FieldType.int)) ∈ lw_all := lw_g (lw_at lw_m1 187 rfl) rfl
theorem q244 : (Jvm.Cond.methodLink "RingMeets" (117 : Nat) ({ cls := "RingMeets", name := "isStand", desc := "(I)Z" } : Jvm.MethodName)) ∈ lw_all := lw_g (lw_at lw_m1 188 rfl) rfl
theorem q245 : (Jvm.Cond.privateMethod ({ cls := "RingMeets", name := "isStand", desc := "(I)Z" } : Jvm.MethodName)) ∈ lw_tbl := lw_at lw_m1 189 rfl
theorem q246 : (Jvm.Cond.instanceMethod ({ cls := "RingMeets", name := "isStand", desc := "(I)Z" } : Jvm.MethodName)) ∈ lw_all := lw_g (lw_at lw_m1 190 rfl) rfl
theorem q247 : (Jvm.Cond.code ({ cls := "RingMeets", name := "isStand", desc := "(I)Z" } : Jvm.MethodName) prog_1_method_6_code (2 : Nat) (Option.some Jvm.ClassFile.FieldType.boolean)) ∈ lw_all := lw_g (lw_at lw_m1 191 rfl) rfl
theorem q248 : (Jvm.Cond.constantLong "RingMeets" (120 : Nat) (2 : Int64)) ∈ lw_all := lw_g (lw_at lw_m1 192 rfl) rfl
theorem q249 : (Jvm.Cond.methodLink "RingMeets" (122 : Nat) ({ cls := "RingMeets", name := "stands", desc := "()I" } : Jvm.MethodName)) ∈ lw_all := lw_g (lw_at lw_m1 193 rfl) rfl
theorem q250 : (Jvm.Cond.privateMethod ({ cls := "RingMeets", name := "stands", desc := "()I" } : Jvm.MethodName)) ∈ lw_tbl := lw_at lw_m1 194 rfl
theorem q251 : (Jvm.Cond.instanceMethod ({ cls := "RingMeets", name := "stands", desc := "()I" } : Jvm.MethodName)) ∈ lw_all := lw_g (lw_at lw_m1 195 rfl) rfl
theorem q252 : (Jvm.Cond.code ({ cls := "RingMeets", name := "stands", desc := "()I" } : Jvm.MethodName) prog_1_method_5_code (1 : Nat) (Option.some Jvm.ClassFile.FieldType.int)) ∈ lw_all := lw_g (lw_at lw_m1 196 rfl) rfl
theorem q253 : (Jvm.Cond.methodLink "RingMeets" (74 : Nat) ({ cls := "RingMeets$Desk", name := "with", desc := "(I)I" } : Jvm.MethodName)) ∈ lw_all := lw_g (lw_at lw_m1 197 rfl) rfl
theorem q257 : (Jvm.Cond.methodLink "RingMeets" (108 : Nat) ({ cls := "java/lang/Integer", name := "bitCount", desc := "(I)I" } : Jvm.MethodName)) ∈ lw_all := lw_g (lw_at lw_m1 201 rfl) rfl
theorem q263 : (Jvm.Cond.methodLink "RingMeets" (125 : Nat) ({ cls := "RingMeets", name := "sideOf", desc := "(II)I" } : Jvm.MethodName)) ∈ lw_all := lw_g (lw_at lw_m1 207 rfl) rfl
theorem q264 : (Jvm.Cond.privateMethod ({ cls := "RingMeets", name := "sideOf", desc := "(II)I" } : Jvm.MethodName)) ∈ lw_tbl := lw_at lw_m1 208 rfl
theorem q265 : (Jvm.Cond.instanceMethod ({ cls := "RingMeets", name := "sideOf", desc := "(II)I" } : Jvm.MethodName)) ∈ lw_all := lw_g (lw_at lw_m1 209 rfl) rfl
theorem q266 : (Jvm.Cond.code ({ cls := "RingMeets", name := "sideOf", desc := "(II)I" } : Jvm.MethodName) prog_1_method_13_code (3 : Nat) (Option.some Jvm.ClassFile.FieldType.int)) ∈ lw_all := lw_g (lw_at lw_m1 210 rfl) rfl
theorem q267 : (Jvm.Cond.methodLink "RingMeets" (113 : Nat) ({ cls := "RingMeets", name := "compared", desc := "(IIIII)I" } : Jvm.MethodName)) ∈ lw_all := lw_g (lw_at lw_m1 211 rfl) rfl
theorem q268 : (Jvm.Cond.privateMethod ({ cls := "RingMeets", name := "compared", desc := "(IIIII)I" } : Jvm.MethodName)) ∈ lw_tbl := lw_at lw_m1 212 rfl
theorem q269 : (Jvm.Cond.instanceMethod ({ cls := "RingMeets", name := "compared", desc := "(IIIII)I" } : Jvm.MethodName)) ∈ lw_all := lw_g (lw_at lw_m1 213 rfl) rfl
theorem q270 : (Jvm.Cond.code ({ cls := "RingMeets", name := "compared", desc := "(IIIII)I" } : Jvm.MethodName) prog_1_method_12_code (11 : Nat) (Option.some Jvm.ClassFile.FieldType.int)) ∈ lw_all := lw_g (lw_at lw_m1 214 rfl) rfl
theorem q271 : (Jvm.Cond.methodLink "RingMeets" (104 : Nat) ({ cls := "RingMeets", name := "gapOf", desc := "(III)I" } : Jvm.MethodName)) ∈ lw_all := lw_g (lw_at lw_m1 215 rfl) rfl
theorem q272 : (Jvm.Cond.privateMethod ({ cls := "RingMeets", name := "gapOf", desc := "(III)I" } : Jvm.MethodName)) ∈ lw_tbl := lw_at lw_m1 216 rfl
theorem q273 : (Jvm.Cond.instanceMethod ({ cls := "RingMeets", name := "gapOf", desc := "(III)I" } : Jvm.MethodName)) ∈ lw_all := lw_g (lw_at lw_m1 217 rfl) rfl
theorem q274 : (Jvm.Cond.code ({ cls := "RingMeets", name := "gapOf", desc := "(III)I" } : Jvm.MethodName) prog_1_method_10_code (6 : Nat) (Option.some Jvm.ClassFile.FieldType.int)) ∈ lw_all := lw_g (lw_at lw_m1 218 rfl) rfl
theorem q275 : (Jvm.Cond.methodLink "RingMeets" (101 : Nat) ({ cls := "RingMeets", name := "beyond", desc := "(II)I" } : Jvm.MethodName)) ∈ lw_all := lw_g (lw_at lw_m1 219 rfl) rfl
theorem q276 : (Jvm.Cond.privateMethod ({ cls := "RingMeets", name := "beyond", desc := "(II)I" } : Jvm.MethodName)) ∈ lw_tbl := lw_at lw_m1 220 rfl
theorem q277 : (Jvm.Cond.instanceMethod ({ cls := "RingMeets", name := "beyond", desc := "(II)I" } : Jvm.MethodName)) ∈ lw_all := lw_g (lw_at lw_m1 221 rfl) rfl
theorem q278 : (Jvm.Cond.code ({ cls := "RingMeets", name := "beyond", desc := "(II)I" } : Jvm.MethodName) prog_1_method_9_code (3 : Nat) (Option.some Jvm.ClassFile.FieldType.int)) ∈ lw_all := lw_g (lw_at lw_m1 222 rfl) rfl
theorem q279 : (Jvm.Cond.methodLink "RingMeets" (95 : Nat) ({ cls := "java/lang/Math", name := "floorMod", desc := "(II)I" } : Jvm.MethodName)) ∈ lw_all := lw_g (lw_at lw_m1 223 rfl) rfl
theorem q282 : (Jvm.Cond.methodLink "RingMeets" (128 : Nat) ({ cls := "RingMeets", name := "gapAt", desc := "(IIII)I" } : Jvm.MethodName)) ∈ lw_all := lw_g (lw_at lw_m1 226 rfl) rfl
theorem q283 : (Jvm.Cond.privateMethod ({ cls := "RingMeets", name := "gapAt", desc := "(IIII)I" } : Jvm.MethodName)) ∈ lw_tbl := lw_at lw_m1 227 rfl
theorem q284 : (Jvm.Cond.instanceMethod ({ cls := "RingMeets", name := "gapAt", desc := "(IIII)I" } : Jvm.MethodName)) ∈ lw_all := lw_g (lw_at lw_m1 228 rfl) rfl
theorem q285 : (Jvm.Cond.code ({ cls := "RingMeets", name := "gapAt", desc := "(IIII)I" } : Jvm.MethodName) prog_1_method_11_code (7 : Nat) (Option.some Jvm.ClassFile.FieldType.int)) ∈ lw_all := lw_g (lw_at lw_m1 229 rfl) rfl
theorem q287 : (Jvm.Cond.instanceMethod ({ cls := "RingMeets", name := "shape", desc := "(I)I" } : Jvm.MethodName)) ∈ lw_all := lw_g (lw_at lw_m1 231 rfl) rfl
theorem q288 : (Jvm.Cond.selects "RingMeets" ({ cls := "RingMeets", name := "shape", desc := "(I)I" } : Jvm.MethodName) ({ cls := "RingMeets", name := "shape", desc := "(I)I" } : Jvm.MethodName)) ∈ lw_all := lw_g (lw_at lw_m1 232 rfl) rfl
theorem q289 : (Jvm.Cond.code ({ cls := "RingMeets", name := "shape", desc := "(I)I" } : Jvm.MethodName) prog_1_method_19_code (3 : Nat) (Option.some Jvm.ClassFile.FieldType.int)) ∈ lw_all := lw_g (lw_at lw_m1 233 rfl) rfl
theorem q290 : (Jvm.Cond.methodLink "RingMeets" (169 : Nat) ({ cls := "RingMeets$Likeness", name := "isAny", desc := "(I)Z" } : Jvm.MethodName)) ∈ lw_all := lw_g (lw_at lw_m1 234 rfl) rfl
theorem q393 : (Jvm.Cond.methodLink "RingMeets" (172 : Nat) ({ cls := "RingMeets", name := "evenOnes", desc := "(I)I" } : Jvm.MethodName)) ∈ lw_all := lw_g (lw_at lw_m2 97 rfl) rfl
theorem q394 : (Jvm.Cond.privateMethod ({ cls := "RingMeets", name := "evenOnes", desc := "(I)I" } : Jvm.MethodName)) ∈ lw_tbl := lw_at lw_m2 98 rfl
theorem q395 : (Jvm.Cond.instanceMethod ({ cls := "RingMeets", name := "evenOnes", desc := "(I)I" } : Jvm.MethodName)) ∈ lw_all := lw_g (lw_at lw_m2 99 rfl) rfl
theorem q396 : (Jvm.Cond.code ({ cls := "RingMeets", name := "evenOnes", desc := "(I)I" } : Jvm.MethodName) prog_1_method_15_code (5 : Nat) (Option.some Jvm.ClassFile.FieldType.int)) ∈ lw_all := lw_g (lw_at lw_m2 100 rfl) rfl
theorem q397 : (Jvm.Cond.classLink "RingMeets" (132 : Nat) "RingMeets$Cells") ∈ lw_all := lw_g (lw_at lw_m2 101 rfl) rfl
theorem q398 : (Jvm.Cond.methodLink "RingMeets" (134 : Nat) ({ cls := "RingMeets$Cells", name := "<init>", desc := "(I)V" } : Jvm.MethodName)) ∈ lw_all := lw_g (lw_at lw_m2 102 rfl) rfl
theorem q399 : (Jvm.Cond.methodLink "RingMeets" (137 : Nat) ({ cls := "RingMeets$Cells", name := "iterator", desc := "()Ljava/util/Iterator;" } : Jvm.MethodName)) ∈ lw_all := lw_g (lw_at lw_m2 103 rfl) rfl
theorem q400 : (Jvm.Cond.interfaceEntry "RingMeets" (141 : Nat)) ∈ lw_tbl := lw_at lw_m2 104 rfl
theorem q401 : (Jvm.Cond.methodLink "RingMeets" (141 : Nat) ({ cls := "java/util/Iterator", name := "hasNext", desc := "()Z" } : Jvm.MethodName)) ∈ lw_all := lw_g (lw_at lw_m2 105 rfl) rfl
theorem q402 : (Jvm.Cond.interfaceEntry "RingMeets" (147 : Nat)) ∈ lw_tbl := lw_at lw_m2 106 rfl
theorem q403 : (Jvm.Cond.methodLink "RingMeets" (147 : Nat) ({ cls := "java/util/Iterator", name := "next", desc := "()Ljava/lang/Object;" } : Jvm.MethodName)) ∈ lw_all := lw_g (lw_at lw_m2 107 rfl) rfl
theorem q404 : (Jvm.Cond.classLink "RingMeets" (109 : Nat) "java/lang/Integer") ∈ lw_all := lw_g (lw_at lw_m2 108 rfl) rfl
theorem q405 : (Jvm.Cond.methodLink "RingMeets" (151 : Nat) ({ cls := "java/lang/Integer", name := "intValue", desc := "()I" } : Jvm.MethodName)) ∈ lw_all := lw_g (lw_at lw_m2 109 rfl) rfl
theorem q406 : (Jvm.Cond.methodLink "RingMeets" (154 : Nat) ({ cls := "RingMeets$Likeness", name := "isLike", desc := "(III)Z" } : Jvm.MethodName)) ∈ lw_all := lw_g (lw_at lw_m2 110 rfl) rfl
theorem q407 : (Jvm.Cond.methodLink "RingMeets" (175 : Nat) ({ cls := "RingMeets", name := "views", desc := "(I)I" } : Jvm.MethodName)) ∈ lw_all := lw_g (lw_at lw_m2 111 rfl) rfl
theorem q408 : (Jvm.Cond.privateMethod ({ cls := "RingMeets", name := "views", desc := "(I)I" } : Jvm.MethodName)) ∈ lw_tbl := lw_at lw_m2 112 rfl
theorem q409 : (Jvm.Cond.instanceMethod ({ cls := "RingMeets", name := "views", desc := "(I)I" } : Jvm.MethodName)) ∈ lw_all := lw_g (lw_at lw_m2 113 rfl) rfl
theorem q410 : (Jvm.Cond.code ({ cls := "RingMeets", name := "views", desc := "(I)I" } : Jvm.MethodName) prog_1_method_16_code (2 : Nat) (Option.some Jvm.ClassFile.FieldType.int)) ∈ lw_all := lw_g (lw_at lw_m2 114 rfl) rfl
theorem q411 : (Jvm.Cond.classLink "RingMeets" (160 : Nat) "RingMeets$1Views") ∈ lw_all := lw_g (lw_at lw_m2 115 rfl) rfl
theorem q413 : (Jvm.Cond.methodLink "RingMeets" (162 : Nat) ({ cls := "RingMeets$1Views", name := "<init>", desc := "(LRingMeets;)V" } : Jvm.MethodName)) ∈ lw_all := lw_g (lw_at lw_m2 117 rfl) rfl
theorem q422 : (Jvm.Cond.methodLink "RingMeets" (163 : Nat) ({ cls := "RingMeets$1Views", name := "kinds", desc := "(I)I" } : Jvm.MethodName)) ∈ lw_all := lw_g (lw_at lw_m2 126 rfl) rfl
theorem q428 : (Jvm.Cond.methodLink "RingMeets" (178 : Nat) ({ cls := "RingMeets", name := "turnsBy", desc := "(I)I" } : Jvm.MethodName)) ∈ lw_all := lw_g (lw_at lw_m2 132 rfl) rfl
theorem q429 : (Jvm.Cond.privateMethod ({ cls := "RingMeets", name := "turnsBy", desc := "(I)I" } : Jvm.MethodName)) ∈ lw_tbl := lw_at lw_m2 133 rfl
theorem q430 : (Jvm.Cond.instanceMethod ({ cls := "RingMeets", name := "turnsBy", desc := "(I)I" } : Jvm.MethodName)) ∈ lw_all := lw_g (lw_at lw_m2 134 rfl) rfl
theorem q431 : (Jvm.Cond.code ({ cls := "RingMeets", name := "turnsBy", desc := "(I)I" } : Jvm.MethodName) prog_1_method_17_code (3 : Nat) (Option.some Jvm.ClassFile.FieldType.int)) ∈ lw_all := lw_g (lw_at lw_m2 135 rfl) rfl
theorem q432 : (Jvm.Cond.methodLink "RingMeets" (166 : Nat) ({ cls := "RingMeets", name := "turnedSet", desc := "(II)I" } : Jvm.MethodName)) ∈ lw_all := lw_g (lw_at lw_m2 136 rfl) rfl
theorem q433 : (Jvm.Cond.privateMethod ({ cls := "RingMeets", name := "turnedSet", desc := "(II)I" } : Jvm.MethodName)) ∈ lw_tbl := lw_at lw_m2 137 rfl
theorem q434 : (Jvm.Cond.instanceMethod ({ cls := "RingMeets", name := "turnedSet", desc := "(II)I" } : Jvm.MethodName)) ∈ lw_all := lw_g (lw_at lw_m2 138 rfl) rfl
theorem q435 : (Jvm.Cond.code ({ cls := "RingMeets", name := "turnedSet", desc := "(II)I" } : Jvm.MethodName) prog_1_method_18_code (6 : Nat) (Option.some Jvm.ClassFile.FieldType.int)) ∈ lw_all := lw_g (lw_at lw_m2 139 rfl) rfl
theorem q437 : (Jvm.Cond.instanceMethod ({ cls := "RingMeets", name := "rule", desc := "(IIIII)I" } : Jvm.MethodName)) ∈ lw_all := lw_g (lw_at lw_m2 141 rfl) rfl
theorem q438 : (Jvm.Cond.selects "RingMeets" ({ cls := "RingMeets", name := "rule", desc := "(IIIII)I" } : Jvm.MethodName) ({ cls := "RingMeets", name := "rule", desc := "(IIIII)I" } : Jvm.MethodName)) ∈ lw_all := lw_g (lw_at lw_m2 142 rfl) rfl
theorem q439 : (Jvm.Cond.code ({ cls := "RingMeets", name := "rule", desc := "(IIIII)I" } : Jvm.MethodName) prog_1_method_21_code (7 : Nat) (Option.some Jvm.ClassFile.FieldType.int)) ∈ lw_all := lw_g (lw_at lw_m2 143 rfl) rfl
theorem q440 : (Jvm.Cond.constantLong "RingMeets" (184 : Nat) (4 : Int64)) ∈ lw_all := lw_g (lw_at lw_m2 144 rfl) rfl
theorem q442 : (Jvm.Cond.instanceMethod ({ cls := "RingMeets", name := "whom", desc := "(II)I" } : Jvm.MethodName)) ∈ lw_all := lw_g (lw_at lw_m2 146 rfl) rfl
theorem q443 : (Jvm.Cond.selects "RingMeets" ({ cls := "RingMeets", name := "whom", desc := "(II)I" } : Jvm.MethodName) ({ cls := "RingMeets", name := "whom", desc := "(II)I" } : Jvm.MethodName)) ∈ lw_all := lw_g (lw_at lw_m2 147 rfl) rfl
theorem q444 : (Jvm.Cond.code ({ cls := "RingMeets", name := "whom", desc := "(II)I" } : Jvm.MethodName) prog_1_method_22_code (4 : Nat) (Option.some Jvm.ClassFile.FieldType.int)) ∈ lw_all := lw_g (lw_at lw_m2 148 rfl) rfl
theorem q445 : (Jvm.Cond.methodLink "RingMeets" (209 : Nat) ({ cls := "RingMeets", name := "isRule", desc := "(I)Z" } : Jvm.MethodName)) ∈ lw_all := lw_g (lw_at lw_m2 149 rfl) rfl
theorem q446 : (Jvm.Cond.privateMethod ({ cls := "RingMeets", name := "isRule", desc := "(I)Z" } : Jvm.MethodName)) ∈ lw_tbl := lw_at lw_m2 150 rfl
theorem q447 : (Jvm.Cond.instanceMethod ({ cls := "RingMeets", name := "isRule", desc := "(I)Z" } : Jvm.MethodName)) ∈ lw_all := lw_g (lw_at lw_m2 151 rfl) rfl
theorem q448 : (Jvm.Cond.code ({ cls := "RingMeets", name := "isRule", desc := "(I)Z" } : Jvm.MethodName) prog_1_method_20_code (2 : Nat) (Option.some Jvm.ClassFile.FieldType.boolean)) ∈ lw_all := lw_g (lw_at lw_m2 152 rfl) rfl
theorem q450 : (Jvm.Cond.instanceMethod ({ cls := "RingMeets", name := "drop", desc := "(I)I" } : Jvm.MethodName)) ∈ lw_all := lw_g (lw_at lw_m2 154 rfl) rfl
theorem q451 : (Jvm.Cond.selects "RingMeets" ({ cls := "RingMeets", name := "drop", desc := "(I)I" } : Jvm.MethodName) ({ cls := "RingMeets", name := "drop", desc := "(I)I" } : Jvm.MethodName)) ∈ lw_all := lw_g (lw_at lw_m2 155 rfl) rfl
theorem q452 : (Jvm.Cond.code ({ cls := "RingMeets", name := "drop", desc := "(I)I" } : Jvm.MethodName) prog_1_method_23_code (3 : Nat) (Option.some Jvm.ClassFile.FieldType.int)) ∈ lw_all := lw_g (lw_at lw_m2 156 rfl) rfl
theorem q453 : (Jvm.Cond.methodLink "RingMeets" (212 : Nat) ({ cls := "RingMeets$Rule", name := "take", desc := "(LRingMeets$Rule;)V" } : Jvm.MethodName)) ∈ lw_all := lw_g (lw_at lw_m2 157 rfl) rfl
theorem q458 : (Jvm.Cond.instanceMethod ({ cls := "RingMeets", name := "of", desc := "(II)I" } : Jvm.MethodName)) ∈ lw_all := lw_g (lw_at lw_m2 162 rfl) rfl
theorem q459 : (Jvm.Cond.selects "RingMeets" ({ cls := "RingMeets", name := "of", desc := "(II)I" } : Jvm.MethodName) ({ cls := "RingMeets", name := "of", desc := "(II)I" } : Jvm.MethodName)) ∈ lw_all := lw_g (lw_at lw_m2 163 rfl) rfl
theorem q460 : (Jvm.Cond.code ({ cls := "RingMeets", name := "of", desc := "(II)I" } : Jvm.MethodName) prog_1_method_24_code (4 : Nat) (Option.some Jvm.ClassFile.FieldType.int)) ∈ lw_all := lw_g (lw_at lw_m2 164 rfl) rfl
theorem q462 : (Jvm.Cond.instanceMethod ({ cls := "RingMeets", name := "does", desc := "(II)I" } : Jvm.MethodName)) ∈ lw_all := lw_g (lw_at lw_m2 166 rfl) rfl
theorem q463 : (Jvm.Cond.selects "RingMeets" ({ cls := "RingMeets", name := "does", desc := "(II)I" } : Jvm.MethodName) ({ cls := "RingMeets", name := "does", desc := "(II)I" } : Jvm.MethodName)) ∈ lw_all := lw_g (lw_at lw_m2 167 rfl) rfl
theorem q464 : (Jvm.Cond.code ({ cls := "RingMeets", name := "does", desc := "(II)I" } : Jvm.MethodName) prog_1_method_29_code (5 : Nat) (Option.some Jvm.ClassFile.FieldType.int)) ∈ lw_all := lw_g (lw_at lw_m2 168 rfl) rfl
theorem q465 : (Jvm.Cond.methodLink "RingMeets" (223 : Nat) ({ cls := "RingMeets", name := "ruleOf", desc := "(III)I" } : Jvm.MethodName)) ∈ lw_all := lw_g (lw_at lw_m2 169 rfl) rfl
theorem q466 : (Jvm.Cond.privateMethod ({ cls := "RingMeets", name := "ruleOf", desc := "(III)I" } : Jvm.MethodName)) ∈ lw_tbl := lw_at lw_m2 170 rfl
theorem q467 : (Jvm.Cond.instanceMethod ({ cls := "RingMeets", name := "ruleOf", desc := "(III)I" } : Jvm.MethodName)) ∈ lw_all := lw_g (lw_at lw_m2 171 rfl) rfl
theorem q468 : (Jvm.Cond.code ({ cls := "RingMeets", name := "ruleOf", desc := "(III)I" } : Jvm.MethodName) prog_1_method_26_code (6 : Nat) (Option.some Jvm.ClassFile.FieldType.int)) ∈ lw_all := lw_g (lw_at lw_m2 172 rfl) rfl
theorem q469 : (Jvm.Cond.methodLink "RingMeets" (219 : Nat) ({ cls := "RingMeets", name := "fits", desc := "(LRingMeets$Rule;IIIZ)Z" } : Jvm.MethodName)) ∈ lw_all := lw_g (lw_at lw_m2 173 rfl) rfl
theorem q470 : (Jvm.Cond.privateMethod ({ cls := "RingMeets", name := "fits", desc := "(LRingMeets$Rule;IIIZ)Z" } : Jvm.MethodName)) ∈ lw_tbl := lw_at lw_m2 174 rfl
theorem q471 : (Jvm.Cond.instanceMethod ({ cls := "RingMeets", name := "fits", desc := "(LRingMeets$Rule;IIIZ)Z" } : Jvm.MethodName)) ∈ lw_all := lw_g (lw_at lw_m2 175 rfl) rfl
theorem q472 : (Jvm.Cond.code ({ cls := "RingMeets", name := "fits", desc := "(LRingMeets$Rule;IIIZ)Z" } : Jvm.MethodName) prog_1_method_25_code (8 : Nat) (Option.some Jvm.ClassFile.FieldType.boolean)) ∈ lw_all := lw_g (lw_at lw_m2 176 rfl) rfl
theorem q473 : (Jvm.Cond.methodLink "RingMeets" (216 : Nat) ({ cls := "RingMeets$Rule", name := "isSo", desc := "(I)Z" } : Jvm.MethodName)) ∈ lw_all := lw_g (lw_at lw_m2 177 rfl) rfl
theorem q477 : (Jvm.Cond.methodLink "RingMeets" (226 : Nat) ({ cls := "RingMeets", name := "doneBy", desc := "(I)I" } : Jvm.MethodName)) ∈ lw_all := lw_g (lw_at lw_m2 181 rfl) rfl
theorem q478 : (Jvm.Cond.privateMethod ({ cls := "RingMeets", name := "doneBy", desc := "(I)I" } : Jvm.MethodName)) ∈ lw_tbl := lw_at lw_m2 182 rfl
theorem q479 : (Jvm.Cond.instanceMethod ({ cls := "RingMeets", name := "doneBy", desc := "(I)I" } : Jvm.MethodName)) ∈ lw_all := lw_g (lw_at lw_m2 183 rfl) rfl
theorem q480 : (Jvm.Cond.code ({ cls := "RingMeets", name := "doneBy", desc := "(I)I" } : Jvm.MethodName) prog_1_method_27_code (2 : Nat) (Option.some Jvm.ClassFile.FieldType.int)) ∈ lw_all := lw_g (lw_at lw_m2 184 rfl) rfl
theorem q481 : (Jvm.Cond.methodLink "RingMeets" (229 : Nat) ({ cls := "RingMeets", name := "goesTo", desc := "(III)I" } : Jvm.MethodName)) ∈ lw_all := lw_g (lw_at lw_m2 185 rfl) rfl
theorem q482 : (Jvm.Cond.privateMethod ({ cls := "RingMeets", name := "goesTo", desc := "(III)I" } : Jvm.MethodName)) ∈ lw_tbl := lw_at lw_m2 186 rfl
theorem q483 : (Jvm.Cond.instanceMethod ({ cls := "RingMeets", name := "goesTo", desc := "(III)I" } : Jvm.MethodName)) ∈ lw_all := lw_g (lw_at lw_m2 187 rfl) rfl
theorem q484 : (Jvm.Cond.code ({ cls := "RingMeets", name := "goesTo", desc := "(III)I" } : Jvm.MethodName) prog_1_method_28_code (4 : Nat) (Option.some Jvm.ClassFile.FieldType.int)) ∈ lw_all := lw_g (lw_at lw_m2 188 rfl) rfl
theorem q486 : (Jvm.Cond.instanceMethod ({ cls := "RingMeets", name := "step", desc := "(I)I" } : Jvm.MethodName)) ∈ lw_all := lw_g (lw_at lw_m2 190 rfl) rfl
theorem q487 : (Jvm.Cond.selects "RingMeets" ({ cls := "RingMeets", name := "step", desc := "(I)I" } : Jvm.MethodName) ({ cls := "RingMeets", name := "step", desc := "(I)I" } : Jvm.MethodName)) ∈ lw_all := lw_g (lw_at lw_m2 191 rfl) rfl
theorem q488 : (Jvm.Cond.code ({ cls := "RingMeets", name := "step", desc := "(I)I" } : Jvm.MethodName) prog_1_method_30_code (8 : Nat) (Option.some Jvm.ClassFile.FieldType.int)) ∈ lw_all := lw_g (lw_at lw_m2 192 rfl) rfl
theorem q489 : (Jvm.Cond.methodLink "RingMeets" (232 : Nat) ({ cls := "java/lang/System", name := "arraycopy", desc := "(Ljava/lang/Object;ILjava/lang/Object;II)V" } : Jvm.MethodName)) ∈ lw_all := lw_g (lw_at lw_m2 193 rfl) rfl
theorem q493 : (Jvm.Cond.instanceMethod ({ cls := "RingMeets", name := "meets", desc := "(II)I" } : Jvm.MethodName)) ∈ lw_all := lw_g (lw_at lw_m2 197 rfl) rfl
theorem q494 : (Jvm.Cond.selects "RingMeets" ({ cls := "RingMeets", name := "meets", desc := "(II)I" } : Jvm.MethodName) ({ cls := "RingMeets", name := "meets", desc := "(II)I" } : Jvm.MethodName)) ∈ lw_all := lw_g (lw_at lw_m2 198 rfl) rfl
theorem q495 : (Jvm.Cond.code ({ cls := "RingMeets", name := "meets", desc := "(II)I" } : Jvm.MethodName) prog_1_method_33_code (4 : Nat) (Option.some Jvm.ClassFile.FieldType.int)) ∈ lw_all := lw_g (lw_at lw_m2 199 rfl) rfl
theorem q496 : (Jvm.Cond.methodLink "RingMeets" (253 : Nat) ({ cls := "RingMeets", name := "isSchedule", desc := "(I)Z" } : Jvm.MethodName)) ∈ lw_all := lw_g (lw_at lw_m2 200 rfl) rfl
theorem q497 : (Jvm.Cond.static ({ cls := "RingMeets", name := "isSchedule", desc := "(I)Z" } : Jvm.MethodName)) ∈ lw_all := lw_g (lw_at lw_m2 201 rfl) rfl
theorem q498 : (Jvm.Cond.code ({ cls := "RingMeets", name := "isSchedule", desc := "(I)Z" } : Jvm.MethodName) prog_1_method_31_code (1 : Nat) (Option.some Jvm.ClassFile.FieldType.boolean)) ∈ lw_all := lw_g (lw_at lw_m2 202 rfl) rfl
theorem q499 : (Jvm.Cond.methodLink "RingMeets" (256 : Nat) ({ cls := "RingMeets", name := "netOf", desc := "(IZ)LRingMeets$Net;" } : Jvm.MethodName)) ∈ lw_all := lw_g (lw_at lw_m2 203 rfl) rfl
theorem q500 : (Jvm.Cond.privateMethod ({ cls := "RingMeets", name := "netOf", desc := "(IZ)LRingMeets$Net;" } : Jvm.MethodName)) ∈ lw_tbl := lw_at lw_m2 204 rfl
theorem q501 : (Jvm.Cond.instanceMethod ({ cls := "RingMeets", name := "netOf", desc := "(IZ)LRingMeets$Net;" } : Jvm.MethodName)) ∈ lw_all := lw_g (lw_at lw_m2 205 rfl) rfl
theorem q502 : (Jvm.Cond.code ({ cls := "RingMeets", name := "netOf", desc := "(IZ)LRingMeets$Net;" } : Jvm.MethodName) prog_1_method_32_code (4 : Nat) (Option.some (Jvm.ClassFile.FieldType.object "RingMeets$Net"))) ∈ lw_all := lw_g (lw_at lw_m2 206 rfl) rfl
theorem q503 : (Jvm.Cond.classLink "RingMeets" (238 : Nat) "RingMeets$Net") ∈ lw_all := lw_g (lw_at lw_m2 207 rfl) rfl
theorem q505 : (Jvm.Cond.fieldLink "RingMeets" (240 : Nat) "RingMeets" "SCHEDULES" "[LRingMeets$Schedule;") ∈ lw_all := lw_g (lw_at lw_m2 209 rfl) rfl
theorem q506 : (Jvm.Cond.laysStatic "RingMeets" "SCHEDULES" "[LRingMeets$Schedule;") ∈ lw_tbl := lw_at lw_m2 210 rfl
theorem q507 : (Jvm.Cond.methodLink "RingMeets" (244 : Nat) ({ cls := "RingMeets$Net", name := "<init>", desc := "(LRingMeets;LRingMeets$Schedule;Z)V" } : Jvm.MethodName)) ∈ lw_all := lw_g (lw_at lw_m2 211 rfl) rfl
theorem q513 : (Jvm.Cond.fieldLinkNest "RingMeets" (272 : Nat) "RingMeets$Net" "schedule" "LRingMeets$Schedule;" "RingMeets") ∈ lw_tbl := lw_at lw_m2 217 rfl
theorem q516 : (Jvm.Cond.fieldLinkNest "RingMeets" (263 : Nat) "RingMeets$Net" "states" "I" "RingMeets") ∈ lw_tbl := lw_at lw_m2 220 rfl
theorem q518 : (Jvm.Cond.fieldLinkNest "RingMeets" (266 : Nat) "RingMeets$Net" "stuck" "I" "RingMeets") ∈ lw_tbl := lw_at lw_m2 222 rfl
theorem q520 : (Jvm.Cond.fieldLinkNest "RingMeets" (280 : Nat) "RingMeets$Net" "used" "I" "RingMeets") ∈ lw_tbl := lw_at lw_m2 224 rfl
theorem q535 : (Jvm.Cond.methodLink "RingMeets" (247 : Nat) ({ cls := "RingMeets$Net", name := "come", desc := "(II)I" } : Jvm.MethodName)) ∈ lw_all := lw_g (lw_at lw_m2 239 rfl) rfl
theorem q539 : (Jvm.Cond.methodLink "RingMeets" (250 : Nat) ({ cls := "RingMeets$Net", name := "lay", desc := "()V" } : Jvm.MethodName)) ∈ lw_all := lw_g (lw_at lw_m3 3 rfl) rfl
theorem q586 : (Jvm.Cond.methodLink "RingMeets" (260 : Nat) ({ cls := "RingMeets$Net", name := "kind", desc := "(I)I" } : Jvm.MethodName)) ∈ lw_all := lw_g (lw_at lw_m3 50 rfl) rfl
theorem q591 : (Jvm.Cond.instanceMethod ({ cls := "RingMeets", name := "first", desc := "(I)I" } : Jvm.MethodName)) ∈ lw_all := lw_g (lw_at lw_m3 55 rfl) rfl
theorem q592 : (Jvm.Cond.selects "RingMeets" ({ cls := "RingMeets", name := "first", desc := "(I)I" } : Jvm.MethodName) ({ cls := "RingMeets", name := "first", desc := "(I)I" } : Jvm.MethodName)) ∈ lw_all := lw_g (lw_at lw_m3 56 rfl) rfl
theorem q593 : (Jvm.Cond.code ({ cls := "RingMeets", name := "first", desc := "(I)I" } : Jvm.MethodName) prog_1_method_34_code (8 : Nat) (Option.some Jvm.ClassFile.FieldType.int)) ∈ lw_all := lw_g (lw_at lw_m3 57 rfl) rfl
theorem q594 : (Jvm.Cond.methodLinkNest "RingMeets" (269 : Nat) ({ cls := "RingMeets$Net", name := "movers", desc := "(II)I" } : Jvm.MethodName) "RingMeets") ∈ lw_tbl := lw_at lw_m3 58 rfl
theorem q595 : (Jvm.Cond.methodLink "RingMeets" (276 : Nat) ({ cls := "RingMeets$Schedule", name := "next", desc := "(II)I" } : Jvm.MethodName)) ∈ lw_all := lw_g (lw_at lw_m3 59 rfl) rfl
theorem q597 : (Jvm.Cond.instanceMethod ({ cls := "RingMeets", name := "blind", desc := "(I)I" } : Jvm.MethodName)) ∈ lw_all := lw_g (lw_at lw_m3 61 rfl) rfl
theorem q598 : (Jvm.Cond.selects "RingMeets" ({ cls := "RingMeets", name := "blind", desc := "(I)I" } : Jvm.MethodName) ({ cls := "RingMeets", name := "blind", desc := "(I)I" } : Jvm.MethodName)) ∈ lw_all := lw_g (lw_at lw_m3 62 rfl) rfl
theorem q599 : (Jvm.Cond.code ({ cls := "RingMeets", name := "blind", desc := "(I)I" } : Jvm.MethodName) prog_1_method_35_code (2 : Nat) (Option.some Jvm.ClassFile.FieldType.int)) ∈ lw_all := lw_g (lw_at lw_m3 63 rfl) rfl
theorem q601 : (Jvm.Cond.instanceMethod ({ cls := "RingMeets", name := "used", desc := "(I)I" } : Jvm.MethodName)) ∈ lw_all := lw_g (lw_at lw_m3 65 rfl) rfl
theorem q602 : (Jvm.Cond.selects "RingMeets" ({ cls := "RingMeets", name := "used", desc := "(I)I" } : Jvm.MethodName) ({ cls := "RingMeets", name := "used", desc := "(I)I" } : Jvm.MethodName)) ∈ lw_all := lw_g (lw_at lw_m3 66 rfl) rfl
theorem q603 : (Jvm.Cond.code ({ cls := "RingMeets", name := "used", desc := "(I)I" } : Jvm.MethodName) prog_1_method_36_code (2 : Nat) (Option.some Jvm.ClassFile.FieldType.int)) ∈ lw_all := lw_g (lw_at lw_m3 67 rfl) rfl
theorem q605 : (Jvm.Cond.instanceMethod ({ cls := "RingMeets", name := "all", desc := "(III)I" } : Jvm.MethodName)) ∈ lw_all := lw_g (lw_at lw_m3 69 rfl) rfl
theorem q606 : (Jvm.Cond.selects "RingMeets" ({ cls := "RingMeets", name := "all", desc := "(III)I" } : Jvm.MethodName) ({ cls := "RingMeets", name := "all", desc := "(III)I" } : Jvm.MethodName)) ∈ lw_all := lw_g (lw_at lw_m3 70 rfl) rfl
theorem q607 : (Jvm.Cond.code ({ cls := "RingMeets", name := "all", desc := "(III)I" } : Jvm.MethodName) prog_1_method_37_code (8 : Nat) (Option.some Jvm.ClassFile.FieldType.int)) ∈ lw_all := lw_g (lw_at lw_m3 71 rfl) rfl
theorem q608 : (Jvm.Cond.methodLink "RingMeets" (283 : Nat) ({ cls := "java/lang/Math", name := "min", desc := "(II)I" } : Jvm.MethodName)) ∈ lw_all := lw_g (lw_at lw_m3 72 rfl) rfl
theorem q612 : (Jvm.Cond.instanceMethod ({ cls := "RingMeets", name := "image", desc := "(I)I" } : Jvm.MethodName)) ∈ lw_all := lw_g (lw_at lw_m3 76 rfl) rfl
theorem q613 : (Jvm.Cond.selects "RingMeets" ({ cls := "RingMeets", name := "image", desc := "(I)I" } : Jvm.MethodName) ({ cls := "RingMeets", name := "image", desc := "(I)I" } : Jvm.MethodName)) ∈ lw_all := lw_g (lw_at lw_m3 77 rfl) rfl
theorem q614 : (Jvm.Cond.code ({ cls := "RingMeets", name := "image", desc := "(I)I" } : Jvm.MethodName) prog_1_method_38_code (2 : Nat) (Option.some Jvm.ClassFile.FieldType.int)) ∈ lw_all := lw_g (lw_at lw_m3 78 rfl) rfl
theorem q615 : (Jvm.Cond.methodLink "RingMeets" (286 : Nat) ({ cls := "RingMeets", name := "isEnd", desc := "(I)Z" } : Jvm.MethodName)) ∈ lw_all := lw_g (lw_at lw_m3 79 rfl) rfl
theorem q616 : (Jvm.Cond.static ({ cls := "RingMeets", name := "isEnd", desc := "(I)Z" } : Jvm.MethodName)) ∈ lw_all := lw_g (lw_at lw_m3 80 rfl) rfl
theorem q617 : (Jvm.Cond.code ({ cls := "RingMeets", name := "isEnd", desc := "(I)Z" } : Jvm.MethodName) prog_1_method_2_code (1 : Nat) (Option.some Jvm.ClassFile.FieldType.boolean)) ∈ lw_all := lw_g (lw_at lw_m3 81 rfl) rfl
theorem q618 : (Jvm.Cond.methodLink "RingMeets" (289 : Nat) ({ cls := "RingMeets$Desk", name := "take", desc := "(LRingMeets$Desk;)V" } : Jvm.MethodName)) ∈ lw_all := lw_g (lw_at lw_m3 82 rfl) rfl
theorem q625 : (Jvm.Cond.instanceMethod ({ cls := "RingMeets", name := "restore", desc := "(I)I" } : Jvm.MethodName)) ∈ lw_all := lw_g (lw_at lw_m3 89 rfl) rfl
theorem q626 : (Jvm.Cond.selects "RingMeets" ({ cls := "RingMeets", name := "restore", desc := "(I)I" } : Jvm.MethodName) ({ cls := "RingMeets", name := "restore", desc := "(I)I" } : Jvm.MethodName)) ∈ lw_all := lw_g (lw_at lw_m3 90 rfl) rfl
theorem q627 : (Jvm.Cond.code ({ cls := "RingMeets", name := "restore", desc := "(I)I" } : Jvm.MethodName) prog_1_method_39_code (2 : Nat) (Option.some Jvm.ClassFile.FieldType.int)) ∈ lw_all := lw_g (lw_at lw_m3 91 rfl) rfl
theorem q629 : (Jvm.Cond.instanceMethod ({ cls := "RingMeets", name := "count", desc := "(I)I" } : Jvm.MethodName)) ∈ lw_all := lw_g (lw_at lw_m3 93 rfl) rfl
theorem q630 : (Jvm.Cond.selects "RingMeets" ({ cls := "RingMeets", name := "count", desc := "(I)I" } : Jvm.MethodName) ({ cls := "RingMeets", name := "count", desc := "(I)I" } : Jvm.MethodName)) ∈ lw_all := lw_g (lw_at lw_m3 94 rfl) rfl
theorem q631 : (Jvm.Cond.code ({ cls := "RingMeets", name := "count", desc := "(I)I" } : Jvm.MethodName) prog_1_method_40_code (2 : Nat) (Option.some Jvm.ClassFile.FieldType.int)) ∈ lw_all := lw_g (lw_at lw_m3 95 rfl) rfl
theorem q632 : (Jvm.Cond.constantLong "RingMeets" (292 : Nat) (19 : Int64)) ∈ lw_all := lw_g (lw_at lw_m3 96 rfl) rfl
theorem in_X0 : ∀ w ∈ wsX00, w ∈ lw_all := lw_in wsX00 [191, 193, 195, 197, 199, 201, 203, 205, 207, 209, 211, 213, 215] (by decide +kernel) (by decide +kernel)

/-! RingMeets$Net -/
set_option maxRecDepth 100000
def RX10 : String := "RingMeets$Net"
def TX10 : u_T := fun k => match k with
  | 0 => ("RingMeets$Net", "schedule", "LRingMeets$Schedule;", true)
  | 1 => ("RingMeets$Net", "isBlind", "Z", true)
  | 2 => ("RingMeets$Net", "states", "I", false)
  | 3 => ("RingMeets$Net", "stuck", "I", false)
  | 4 => ("RingMeets$Net", "used", "I", false)
  | _ => ("RingMeets$Net", "this$0", "LRingMeets;", true)
def tyX10 : Nat → FieldType := fun k => match k with
  | 0 => .object "RingMeets$Schedule"
  | 1 => .boolean
  | 2 => .int
  | 3 => .int
  | 4 => .int
  | _ => .object "RingMeets"
abbrev wsX100 : List Cond := u_ws RX10 TX10 6
theorem nmX10 : ∀ a, a < 6 → ∀ b, b < 6 → a ≠ b → (TX10 a).2.1 ≠ (TX10 b).2.1 := by decide +kernel
theorem tyX10_ok : ∀ k, k < 6 → parseFieldDescriptor (TX10 k).2.2.1 = some (tyX10 k) := by decide +kernel
abbrev cX10_init : ByteArray := prog_12_method_1_code
def yX10_init : MethodName := ⟨RX10, "<init>", "(LRingMeets;LRingMeets$Schedule;Z)V"⟩
def dkwX10_init_1 : List UInt8 := [18, 23, 162, 0, 18, 43, 180, 0, 24, 21, 4, 16, 250, 79, 132, 4, 1, 167, 255, 237, 177]
abbrev dktX10_init_1 : List UInt8 := dkwX10_init_1 ++ []
def dkwX10_init_0 : List UInt8 := [42, 43, 181, 0, 3, 42, 183, 0, 9, 42, 44, 181, 0, 15, 42, 29, 181, 0, 19, 3, 54, 4, 21, 4]
abbrev dktX10_init_0 : List UInt8 := dkwX10_init_0 ++ dktX10_init_1
theorem dksX10_init_0 : cX10_init.data.toList.drop 0 = dktX10_init_0 := by decide +kernel
theorem dksX10_init_1 : cX10_init.data.toList.drop 24 = dktX10_init_1 := dk_seg dksX10_init_0 24 rfl rfl
theorem dX10_init_0 : decode cX10_init 0 = .ok (.aload_n 0, 1) := dk_42 (dk_at dksX10_init_0 0 rfl rfl)
theorem dX10_init_1 : decode cX10_init 1 = .ok (.aload_n 1, 1) := dk_43 (dk_at dksX10_init_0 1 rfl rfl)
theorem dX10_init_2 : decode cX10_init 2 = .ok (.putfield 3, 3) := dk_181 0 3 (dk_at dksX10_init_0 2 rfl rfl)
theorem dX10_init_5 : decode cX10_init 5 = .ok (.aload_n 0, 1) := dk_42 (dk_at dksX10_init_0 5 rfl rfl)
theorem dX10_init_6 : decode cX10_init 6 = .ok (.invokespecial 9, 3) := dk_183 0 9 (dk_at dksX10_init_0 6 rfl rfl)
theorem dX10_init_9 : decode cX10_init 9 = .ok (.aload_n 0, 1) := dk_42 (dk_at dksX10_init_0 9 rfl rfl)
theorem dX10_init_10 : decode cX10_init 10 = .ok (.aload_n 2, 1) := dk_44 (dk_at dksX10_init_0 10 rfl rfl)
theorem dX10_init_11 : decode cX10_init 11 = .ok (.putfield 15, 3) := dk_181 0 15 (dk_at dksX10_init_0 11 rfl rfl)
theorem dX10_init_14 : decode cX10_init 14 = .ok (.aload_n 0, 1) := dk_42 (dk_at dksX10_init_0 14 rfl rfl)
theorem dX10_init_15 : decode cX10_init 15 = .ok (.iload_n 3, 1) := dk_29 (dk_at dksX10_init_0 15 rfl rfl)
theorem dX10_init_16 : decode cX10_init 16 = .ok (.putfield 19, 3) := dk_181 0 19 (dk_at dksX10_init_0 16 rfl rfl)
theorem dX10_init_19 : decode cX10_init 19 = .ok (.iconst 0, 1) := dk_3 (dk_at dksX10_init_0 19 rfl rfl)
theorem dX10_init_20 : decode cX10_init 20 = .ok (.istore 4, 2) := dk_54 4 (dk_at dksX10_init_0 20 rfl rfl)
theorem dX10_init_22 : decode cX10_init 22 = .ok (.iload 4, 2) := dk_21 4 (dk_at dksX10_init_0 22 rfl rfl)
theorem dX10_init_24 : decode cX10_init 24 = .ok (.ldc 23, 2) := dk_18 23 (dk_at dksX10_init_1 0 rfl rfl)
theorem dX10_init_26 : decode cX10_init 26 = .ok (.if_icmp .ge 18, 3) := dk_162 0 18 (dk_at dksX10_init_1 2 rfl rfl)
theorem dX10_init_29 : decode cX10_init 29 = .ok (.aload_n 1, 1) := dk_43 (dk_at dksX10_init_1 5 rfl rfl)
theorem dX10_init_30 : decode cX10_init 30 = .ok (.getfield 24, 3) := dk_180 0 24 (dk_at dksX10_init_1 6 rfl rfl)
theorem dX10_init_33 : decode cX10_init 33 = .ok (.iload 4, 2) := dk_21 4 (dk_at dksX10_init_1 9 rfl rfl)
theorem dX10_init_35 : decode cX10_init 35 = .ok (.bipush (-6), 2) := dk_16 250 (dk_at dksX10_init_1 11 rfl rfl)
theorem dX10_init_37 : decode cX10_init 37 = .ok (.iastore, 1) := dk_79 (dk_at dksX10_init_1 13 rfl rfl)
theorem dX10_init_38 : decode cX10_init 38 = .ok (.iinc 4 1, 3) := dk_132 4 1 (dk_at dksX10_init_1 14 rfl rfl)
theorem dX10_init_41 : decode cX10_init 41 = .ok (.goto (-19), 3) := dk_167 255 237 (dk_at dksX10_init_1 17 rfl rfl)
theorem dX10_init_44 : decode cX10_init 44 = .ok (.return_, 1) := dk_177 (dk_at dksX10_init_1 20 rfl rfl)
abbrev cX10_come : ByteArray := prog_12_method_2_code
def yX10_come : MethodName := ⟨RX10, "come", "(II)I"⟩
def dkwX10_come_4 : List UInt8 := [28, 79, 42, 89, 180, 0, 38, 4, 96, 181, 0, 38, 42, 180, 0, 3, 180, 0, 24, 29, 46, 172]
abbrev dktX10_come_4 : List UInt8 := dkwX10_come_4 ++ []
def dkwX10_come_3 : List UInt8 := [42, 180, 0, 3, 180, 0, 41, 42, 180, 0, 38, 27, 79, 42, 180, 0, 3, 180, 0, 44, 42, 180, 0, 38]
abbrev dktX10_come_3 : List UInt8 := dkwX10_come_3 ++ dktX10_come_4
def dkwX10_come_2 : List UInt8 := [180, 0, 3, 180, 0, 24, 29, 46, 156, 0, 52, 42, 180, 0, 3, 180, 0, 24, 29, 42, 180, 0, 38, 79]
abbrev dktX10_come_2 : List UInt8 := dkwX10_come_2 ++ dktX10_come_3
def dkwX10_come_1 : List UInt8 := [27, 21, 4, 122, 4, 126, 96, 28, 21, 4, 122, 4, 126, 96, 62, 132, 4, 255, 167, 255, 230, 42]
abbrev dktX10_come_1 : List UInt8 := dkwX10_come_1 ++ dktX10_come_2
def dkwX10_come_0 : List UInt8 := [3, 62, 42, 180, 0, 3, 180, 0, 28, 180, 0, 32, 4, 100, 54, 4, 21, 4, 155, 0, 27, 6, 29, 104]
abbrev dktX10_come_0 : List UInt8 := dkwX10_come_0 ++ dktX10_come_1
theorem dksX10_come_0 : cX10_come.data.toList.drop 0 = dktX10_come_0 := by decide +kernel
theorem dksX10_come_1 : cX10_come.data.toList.drop 24 = dktX10_come_1 := dk_seg dksX10_come_0 24 rfl rfl
theorem dksX10_come_2 : cX10_come.data.toList.drop 46 = dktX10_come_2 := dk_seg dksX10_come_1 22 rfl rfl
theorem dksX10_come_3 : cX10_come.data.toList.drop 70 = dktX10_come_3 := dk_seg dksX10_come_2 24 rfl rfl
theorem dksX10_come_4 : cX10_come.data.toList.drop 94 = dktX10_come_4 := dk_seg dksX10_come_3 24 rfl rfl
theorem dX10_come_0 : decode cX10_come 0 = .ok (.iconst 0, 1) := dk_3 (dk_at dksX10_come_0 0 rfl rfl)
theorem dX10_come_1 : decode cX10_come 1 = .ok (.istore_n 3, 1) := dk_62 (dk_at dksX10_come_0 1 rfl rfl)
theorem dX10_come_2 : decode cX10_come 2 = .ok (.aload_n 0, 1) := dk_42 (dk_at dksX10_come_0 2 rfl rfl)
theorem dX10_come_3 : decode cX10_come 3 = .ok (.getfield 3, 3) := dk_180 0 3 (dk_at dksX10_come_0 3 rfl rfl)
theorem dX10_come_6 : decode cX10_come 6 = .ok (.getfield 28, 3) := dk_180 0 28 (dk_at dksX10_come_0 6 rfl rfl)
theorem dX10_come_9 : decode cX10_come 9 = .ok (.getfield 32, 3) := dk_180 0 32 (dk_at dksX10_come_0 9 rfl rfl)
theorem dX10_come_12 : decode cX10_come 12 = .ok (.iconst 1, 1) := dk_4 (dk_at dksX10_come_0 12 rfl rfl)
theorem dX10_come_13 : decode cX10_come 13 = .ok (.isub, 1) := dk_100 (dk_at dksX10_come_0 13 rfl rfl)
theorem dX10_come_14 : decode cX10_come 14 = .ok (.istore 4, 2) := dk_54 4 (dk_at dksX10_come_0 14 rfl rfl)
theorem dX10_come_16 : decode cX10_come 16 = .ok (.iload 4, 2) := dk_21 4 (dk_at dksX10_come_0 16 rfl rfl)
theorem dX10_come_18 : decode cX10_come 18 = .ok (.ifCond .lt 27, 3) := dk_155 0 27 (dk_at dksX10_come_0 18 rfl rfl)
theorem dX10_come_21 : decode cX10_come 21 = .ok (.iconst 3, 1) := dk_6 (dk_at dksX10_come_0 21 rfl rfl)
theorem dX10_come_22 : decode cX10_come 22 = .ok (.iload_n 3, 1) := dk_29 (dk_at dksX10_come_0 22 rfl rfl)
theorem dX10_come_23 : decode cX10_come 23 = .ok (.imul, 1) := dk_104 (dk_at dksX10_come_0 23 rfl rfl)
theorem dX10_come_24 : decode cX10_come 24 = .ok (.iload_n 1, 1) := dk_27 (dk_at dksX10_come_1 0 rfl rfl)
theorem dX10_come_25 : decode cX10_come 25 = .ok (.iload 4, 2) := dk_21 4 (dk_at dksX10_come_1 1 rfl rfl)
theorem dX10_come_27 : decode cX10_come 27 = .ok (.ishr, 1) := dk_122 (dk_at dksX10_come_1 3 rfl rfl)
theorem dX10_come_28 : decode cX10_come 28 = .ok (.iconst 1, 1) := dk_4 (dk_at dksX10_come_1 4 rfl rfl)
theorem dX10_come_29 : decode cX10_come 29 = .ok (.iand, 1) := dk_126 (dk_at dksX10_come_1 5 rfl rfl)
theorem dX10_come_30 : decode cX10_come 30 = .ok (.iadd, 1) := dk_96 (dk_at dksX10_come_1 6 rfl rfl)
theorem dX10_come_31 : decode cX10_come 31 = .ok (.iload_n 2, 1) := dk_28 (dk_at dksX10_come_1 7 rfl rfl)
theorem dX10_come_32 : decode cX10_come 32 = .ok (.iload 4, 2) := dk_21 4 (dk_at dksX10_come_1 8 rfl rfl)
theorem dX10_come_34 : decode cX10_come 34 = .ok (.ishr, 1) := dk_122 (dk_at dksX10_come_1 10 rfl rfl)
theorem dX10_come_35 : decode cX10_come 35 = .ok (.iconst 1, 1) := dk_4 (dk_at dksX10_come_1 11 rfl rfl)
theorem dX10_come_36 : decode cX10_come 36 = .ok (.iand, 1) := dk_126 (dk_at dksX10_come_1 12 rfl rfl)
theorem dX10_come_37 : decode cX10_come 37 = .ok (.iadd, 1) := dk_96 (dk_at dksX10_come_1 13 rfl rfl)
theorem dX10_come_38 : decode cX10_come 38 = .ok (.istore_n 3, 1) := dk_62 (dk_at dksX10_come_1 14 rfl rfl)
theorem dX10_come_39 : decode cX10_come 39 = .ok (.iinc 4 (-1), 3) := dk_132 4 255 (dk_at dksX10_come_1 15 rfl rfl)
theorem dX10_come_42 : decode cX10_come 42 = .ok (.goto (-26), 3) := dk_167 255 230 (dk_at dksX10_come_1 18 rfl rfl)
theorem dX10_come_45 : decode cX10_come 45 = .ok (.aload_n 0, 1) := dk_42 (dk_at dksX10_come_1 21 rfl rfl)
theorem dX10_come_46 : decode cX10_come 46 = .ok (.getfield 3, 3) := dk_180 0 3 (dk_at dksX10_come_2 0 rfl rfl)
theorem dX10_come_49 : decode cX10_come 49 = .ok (.getfield 24, 3) := dk_180 0 24 (dk_at dksX10_come_2 3 rfl rfl)
theorem dX10_come_52 : decode cX10_come 52 = .ok (.iload_n 3, 1) := dk_29 (dk_at dksX10_come_2 6 rfl rfl)
theorem dX10_come_53 : decode cX10_come 53 = .ok (.iaload, 1) := dk_46 (dk_at dksX10_come_2 7 rfl rfl)
theorem dX10_come_54 : decode cX10_come 54 = .ok (.ifCond .ge 52, 3) := dk_156 0 52 (dk_at dksX10_come_2 8 rfl rfl)
theorem dX10_come_57 : decode cX10_come 57 = .ok (.aload_n 0, 1) := dk_42 (dk_at dksX10_come_2 11 rfl rfl)
theorem dX10_come_58 : decode cX10_come 58 = .ok (.getfield 3, 3) := dk_180 0 3 (dk_at dksX10_come_2 12 rfl rfl)
theorem dX10_come_61 : decode cX10_come 61 = .ok (.getfield 24, 3) := dk_180 0 24 (dk_at dksX10_come_2 15 rfl rfl)
theorem dX10_come_64 : decode cX10_come 64 = .ok (.iload_n 3, 1) := dk_29 (dk_at dksX10_come_2 18 rfl rfl)
theorem dX10_come_65 : decode cX10_come 65 = .ok (.aload_n 0, 1) := dk_42 (dk_at dksX10_come_2 19 rfl rfl)
theorem dX10_come_66 : decode cX10_come 66 = .ok (.getfield 38, 3) := dk_180 0 38 (dk_at dksX10_come_2 20 rfl rfl)
theorem dX10_come_69 : decode cX10_come 69 = .ok (.iastore, 1) := dk_79 (dk_at dksX10_come_2 23 rfl rfl)
theorem dX10_come_70 : decode cX10_come 70 = .ok (.aload_n 0, 1) := dk_42 (dk_at dksX10_come_3 0 rfl rfl)
theorem dX10_come_71 : decode cX10_come 71 = .ok (.getfield 3, 3) := dk_180 0 3 (dk_at dksX10_come_3 1 rfl rfl)
theorem dX10_come_74 : decode cX10_come 74 = .ok (.getfield 41, 3) := dk_180 0 41 (dk_at dksX10_come_3 4 rfl rfl)
theorem dX10_come_77 : decode cX10_come 77 = .ok (.aload_n 0, 1) := dk_42 (dk_at dksX10_come_3 7 rfl rfl)
theorem dX10_come_78 : decode cX10_come 78 = .ok (.getfield 38, 3) := dk_180 0 38 (dk_at dksX10_come_3 8 rfl rfl)
theorem dX10_come_81 : decode cX10_come 81 = .ok (.iload_n 1, 1) := dk_27 (dk_at dksX10_come_3 11 rfl rfl)
theorem dX10_come_82 : decode cX10_come 82 = .ok (.iastore, 1) := dk_79 (dk_at dksX10_come_3 12 rfl rfl)
theorem dX10_come_83 : decode cX10_come 83 = .ok (.aload_n 0, 1) := dk_42 (dk_at dksX10_come_3 13 rfl rfl)
theorem dX10_come_84 : decode cX10_come 84 = .ok (.getfield 3, 3) := dk_180 0 3 (dk_at dksX10_come_3 14 rfl rfl)
theorem dX10_come_87 : decode cX10_come 87 = .ok (.getfield 44, 3) := dk_180 0 44 (dk_at dksX10_come_3 17 rfl rfl)
theorem dX10_come_90 : decode cX10_come 90 = .ok (.aload_n 0, 1) := dk_42 (dk_at dksX10_come_3 20 rfl rfl)
theorem dX10_come_91 : decode cX10_come 91 = .ok (.getfield 38, 3) := dk_180 0 38 (dk_at dksX10_come_3 21 rfl rfl)
theorem dX10_come_94 : decode cX10_come 94 = .ok (.iload_n 2, 1) := dk_28 (dk_at dksX10_come_4 0 rfl rfl)
theorem dX10_come_95 : decode cX10_come 95 = .ok (.iastore, 1) := dk_79 (dk_at dksX10_come_4 1 rfl rfl)
theorem dX10_come_96 : decode cX10_come 96 = .ok (.aload_n 0, 1) := dk_42 (dk_at dksX10_come_4 2 rfl rfl)
theorem dX10_come_97 : decode cX10_come 97 = .ok (.dup, 1) := dk_89 (dk_at dksX10_come_4 3 rfl rfl)
theorem dX10_come_98 : decode cX10_come 98 = .ok (.getfield 38, 3) := dk_180 0 38 (dk_at dksX10_come_4 4 rfl rfl)
theorem dX10_come_101 : decode cX10_come 101 = .ok (.iconst 1, 1) := dk_4 (dk_at dksX10_come_4 7 rfl rfl)
theorem dX10_come_102 : decode cX10_come 102 = .ok (.iadd, 1) := dk_96 (dk_at dksX10_come_4 8 rfl rfl)
theorem dX10_come_103 : decode cX10_come 103 = .ok (.putfield 38, 3) := dk_181 0 38 (dk_at dksX10_come_4 9 rfl rfl)
theorem dX10_come_106 : decode cX10_come 106 = .ok (.aload_n 0, 1) := dk_42 (dk_at dksX10_come_4 12 rfl rfl)
theorem dX10_come_107 : decode cX10_come 107 = .ok (.getfield 3, 3) := dk_180 0 3 (dk_at dksX10_come_4 13 rfl rfl)
theorem dX10_come_110 : decode cX10_come 110 = .ok (.getfield 24, 3) := dk_180 0 24 (dk_at dksX10_come_4 16 rfl rfl)
theorem dX10_come_113 : decode cX10_come 113 = .ok (.iload_n 3, 1) := dk_29 (dk_at dksX10_come_4 19 rfl rfl)
theorem dX10_come_114 : decode cX10_come 114 = .ok (.iaload, 1) := dk_46 (dk_at dksX10_come_4 20 rfl rfl)
theorem dX10_come_115 : decode cX10_come 115 = .ok (.ireturn, 1) := dk_172 (dk_at dksX10_come_4 21 rfl rfl)
abbrev cX10_lay : ByteArray := prog_12_method_6_code
def yX10_lay : MethodName := ⟨RX10, "lay", "()V"⟩
def dkwX10_lay_11 : List UInt8 := [182, 0, 106, 128, 128, 61, 132, 3, 255, 167, 255, 235, 167, 255, 219, 177]
abbrev dktX10_lay_11 : List UInt8 := dkwX10_lay_11 ++ []
def dkwX10_lay_10 : List UInt8 := [153, 0, 39, 3, 61, 42, 180, 0, 38, 4, 100, 62, 29, 155, 0, 23, 28, 42, 29, 182, 0, 103, 42, 29]
abbrev dktX10_lay_10 : List UInt8 := dkwX10_lay_10 ++ dktX10_lay_11
def dkwX10_lay_9 : List UInt8 := [182, 0, 76, 153, 0, 7, 3, 167, 0, 5, 16, 250, 79, 132, 2, 1, 167, 255, 199, 4, 61, 28]
abbrev dktX10_lay_9 : List UInt8 := dkwX10_lay_9 ++ dktX10_lay_10
def dkwX10_lay_8 : List UInt8 := [28, 182, 0, 76, 153, 0, 7, 3, 167, 0, 5, 16, 250, 79, 42, 180, 0, 3, 180, 0, 100, 28, 42, 28]
abbrev dktX10_lay_8 : List UInt8 := dkwX10_lay_8 ++ dktX10_lay_9
def dkwX10_lay_7 : List UInt8 := [180, 0, 38, 27, 79, 3, 61, 28, 42, 180, 0, 38, 162, 0, 55, 42, 180, 0, 3, 180, 0, 97, 28, 42]
abbrev dktX10_lay_7 : List UInt8 := dkwX10_lay_7 ++ dktX10_lay_8
def dkwX10_lay_6 : List UInt8 := [182, 0, 86, 54, 4, 167, 255, 203, 132, 2, 1, 167, 255, 107, 42, 180, 0, 3, 180, 0, 73, 42]
abbrev dktX10_lay_6 : List UInt8 := dkwX10_lay_6 ++ dktX10_lay_7
def dkwX10_lay_5 : List UInt8 := [180, 0, 3, 180, 0, 44, 28, 46, 21, 4, 182, 0, 94, 79, 132, 1, 1, 42, 180, 0, 15, 29, 21, 4]
abbrev dktX10_lay_5 : List UInt8 := dkwX10_lay_5 ++ dktX10_lay_6
def dkwX10_lay_4 : List UInt8 := [21, 4, 153, 0, 54, 42, 180, 0, 3, 180, 0, 91, 27, 42, 42, 180, 0, 3, 180, 0, 41, 28, 46, 42]
abbrev dktX10_lay_4 : List UInt8 := dkwX10_lay_4 ++ dktX10_lay_5
def dkwX10_lay_3 : List UInt8 := [154, 0, 7, 4, 167, 0, 4, 3, 96, 181, 0, 83, 42, 180, 0, 15, 29, 3, 182, 0, 86, 54, 4]
abbrev dktX10_lay_3 : List UInt8 := dkwX10_lay_3 ++ dktX10_lay_4
def dkwX10_lay_2 : List UInt8 := [180, 0, 44, 28, 46, 182, 0, 80, 62, 42, 89, 180, 0, 83, 29, 154, 0, 15, 42, 28, 182, 0, 76]
abbrev dktX10_lay_2 : List UInt8 := dkwX10_lay_2 ++ dktX10_lay_3
def dkwX10_lay_1 : List UInt8 := [182, 0, 76, 153, 0, 7, 3, 167, 0, 25, 42, 42, 180, 0, 3, 180, 0, 41, 28, 46, 42, 180, 0, 3]
abbrev dktX10_lay_1 : List UInt8 := dkwX10_lay_1 ++ dktX10_lay_2
def dkwX10_lay_0 : List UInt8 := [3, 60, 3, 61, 28, 42, 180, 0, 38, 162, 0, 147, 42, 180, 0, 3, 180, 0, 73, 28, 27, 79, 42, 28]
abbrev dktX10_lay_0 : List UInt8 := dkwX10_lay_0 ++ dktX10_lay_1
theorem dksX10_lay_0 : cX10_lay.data.toList.drop 0 = dktX10_lay_0 := by decide +kernel
theorem dksX10_lay_1 : cX10_lay.data.toList.drop 24 = dktX10_lay_1 := dk_seg dksX10_lay_0 24 rfl rfl
theorem dksX10_lay_2 : cX10_lay.data.toList.drop 48 = dktX10_lay_2 := dk_seg dksX10_lay_1 24 rfl rfl
theorem dksX10_lay_3 : cX10_lay.data.toList.drop 71 = dktX10_lay_3 := dk_seg dksX10_lay_2 23 rfl rfl
theorem dksX10_lay_4 : cX10_lay.data.toList.drop 94 = dktX10_lay_4 := dk_seg dksX10_lay_3 23 rfl rfl
theorem dksX10_lay_5 : cX10_lay.data.toList.drop 118 = dktX10_lay_5 := dk_seg dksX10_lay_4 24 rfl rfl
theorem dksX10_lay_6 : cX10_lay.data.toList.drop 142 = dktX10_lay_6 := dk_seg dksX10_lay_5 24 rfl rfl
theorem dksX10_lay_7 : cX10_lay.data.toList.drop 164 = dktX10_lay_7 := dk_seg dksX10_lay_6 22 rfl rfl
theorem dksX10_lay_8 : cX10_lay.data.toList.drop 188 = dktX10_lay_8 := dk_seg dksX10_lay_7 24 rfl rfl
theorem dksX10_lay_9 : cX10_lay.data.toList.drop 212 = dktX10_lay_9 := dk_seg dksX10_lay_8 24 rfl rfl
theorem dksX10_lay_10 : cX10_lay.data.toList.drop 234 = dktX10_lay_10 := dk_seg dksX10_lay_9 22 rfl rfl
theorem dksX10_lay_11 : cX10_lay.data.toList.drop 258 = dktX10_lay_11 := dk_seg dksX10_lay_10 24 rfl rfl
theorem dX10_lay_0 : decode cX10_lay 0 = .ok (.iconst 0, 1) := dk_3 (dk_at dksX10_lay_0 0 rfl rfl)
theorem dX10_lay_1 : decode cX10_lay 1 = .ok (.istore_n 1, 1) := dk_60 (dk_at dksX10_lay_0 1 rfl rfl)
theorem dX10_lay_2 : decode cX10_lay 2 = .ok (.iconst 0, 1) := dk_3 (dk_at dksX10_lay_0 2 rfl rfl)
theorem dX10_lay_3 : decode cX10_lay 3 = .ok (.istore_n 2, 1) := dk_61 (dk_at dksX10_lay_0 3 rfl rfl)
theorem dX10_lay_4 : decode cX10_lay 4 = .ok (.iload_n 2, 1) := dk_28 (dk_at dksX10_lay_0 4 rfl rfl)
theorem dX10_lay_5 : decode cX10_lay 5 = .ok (.aload_n 0, 1) := dk_42 (dk_at dksX10_lay_0 5 rfl rfl)
theorem dX10_lay_6 : decode cX10_lay 6 = .ok (.getfield 38, 3) := dk_180 0 38 (dk_at dksX10_lay_0 6 rfl rfl)
theorem dX10_lay_9 : decode cX10_lay 9 = .ok (.if_icmp .ge 147, 3) := dk_162 0 147 (dk_at dksX10_lay_0 9 rfl rfl)
theorem dX10_lay_12 : decode cX10_lay 12 = .ok (.aload_n 0, 1) := dk_42 (dk_at dksX10_lay_0 12 rfl rfl)
theorem dX10_lay_13 : decode cX10_lay 13 = .ok (.getfield 3, 3) := dk_180 0 3 (dk_at dksX10_lay_0 13 rfl rfl)
theorem dX10_lay_16 : decode cX10_lay 16 = .ok (.getfield 73, 3) := dk_180 0 73 (dk_at dksX10_lay_0 16 rfl rfl)
theorem dX10_lay_19 : decode cX10_lay 19 = .ok (.iload_n 2, 1) := dk_28 (dk_at dksX10_lay_0 19 rfl rfl)
theorem dX10_lay_20 : decode cX10_lay 20 = .ok (.iload_n 1, 1) := dk_27 (dk_at dksX10_lay_0 20 rfl rfl)
theorem dX10_lay_21 : decode cX10_lay 21 = .ok (.iastore, 1) := dk_79 (dk_at dksX10_lay_0 21 rfl rfl)
theorem dX10_lay_22 : decode cX10_lay 22 = .ok (.aload_n 0, 1) := dk_42 (dk_at dksX10_lay_0 22 rfl rfl)
theorem dX10_lay_23 : decode cX10_lay 23 = .ok (.iload_n 2, 1) := dk_28 (dk_at dksX10_lay_0 23 rfl rfl)
theorem dX10_lay_24 : decode cX10_lay 24 = .ok (.invokevirtual 76, 3) := dk_182 0 76 (dk_at dksX10_lay_1 0 rfl rfl)
theorem dX10_lay_27 : decode cX10_lay 27 = .ok (.ifCond .eq 7, 3) := dk_153 0 7 (dk_at dksX10_lay_1 3 rfl rfl)
theorem dX10_lay_30 : decode cX10_lay 30 = .ok (.iconst 0, 1) := dk_3 (dk_at dksX10_lay_1 6 rfl rfl)
theorem dX10_lay_31 : decode cX10_lay 31 = .ok (.goto 25, 3) := dk_167 0 25 (dk_at dksX10_lay_1 7 rfl rfl)
theorem dX10_lay_34 : decode cX10_lay 34 = .ok (.aload_n 0, 1) := dk_42 (dk_at dksX10_lay_1 10 rfl rfl)
theorem dX10_lay_35 : decode cX10_lay 35 = .ok (.aload_n 0, 1) := dk_42 (dk_at dksX10_lay_1 11 rfl rfl)
theorem dX10_lay_36 : decode cX10_lay 36 = .ok (.getfield 3, 3) := dk_180 0 3 (dk_at dksX10_lay_1 12 rfl rfl)
theorem dX10_lay_39 : decode cX10_lay 39 = .ok (.getfield 41, 3) := dk_180 0 41 (dk_at dksX10_lay_1 15 rfl rfl)
theorem dX10_lay_42 : decode cX10_lay 42 = .ok (.iload_n 2, 1) := dk_28 (dk_at dksX10_lay_1 18 rfl rfl)
theorem dX10_lay_43 : decode cX10_lay 43 = .ok (.iaload, 1) := dk_46 (dk_at dksX10_lay_1 19 rfl rfl)
theorem dX10_lay_44 : decode cX10_lay 44 = .ok (.aload_n 0, 1) := dk_42 (dk_at dksX10_lay_1 20 rfl rfl)
theorem dX10_lay_45 : decode cX10_lay 45 = .ok (.getfield 3, 3) := dk_180 0 3 (dk_at dksX10_lay_1 21 rfl rfl)
theorem dX10_lay_48 : decode cX10_lay 48 = .ok (.getfield 44, 3) := dk_180 0 44 (dk_at dksX10_lay_2 0 rfl rfl)
theorem dX10_lay_51 : decode cX10_lay 51 = .ok (.iload_n 2, 1) := dk_28 (dk_at dksX10_lay_2 3 rfl rfl)
theorem dX10_lay_52 : decode cX10_lay 52 = .ok (.iaload, 1) := dk_46 (dk_at dksX10_lay_2 4 rfl rfl)
theorem dX10_lay_53 : decode cX10_lay 53 = .ok (.invokevirtual 80, 3) := dk_182 0 80 (dk_at dksX10_lay_2 5 rfl rfl)
theorem dX10_lay_56 : decode cX10_lay 56 = .ok (.istore_n 3, 1) := dk_62 (dk_at dksX10_lay_2 8 rfl rfl)
theorem dX10_lay_57 : decode cX10_lay 57 = .ok (.aload_n 0, 1) := dk_42 (dk_at dksX10_lay_2 9 rfl rfl)
theorem dX10_lay_58 : decode cX10_lay 58 = .ok (.dup, 1) := dk_89 (dk_at dksX10_lay_2 10 rfl rfl)
theorem dX10_lay_59 : decode cX10_lay 59 = .ok (.getfield 83, 3) := dk_180 0 83 (dk_at dksX10_lay_2 11 rfl rfl)
theorem dX10_lay_62 : decode cX10_lay 62 = .ok (.iload_n 3, 1) := dk_29 (dk_at dksX10_lay_2 14 rfl rfl)
theorem dX10_lay_63 : decode cX10_lay 63 = .ok (.ifCond .ne 15, 3) := dk_154 0 15 (dk_at dksX10_lay_2 15 rfl rfl)
theorem dX10_lay_66 : decode cX10_lay 66 = .ok (.aload_n 0, 1) := dk_42 (dk_at dksX10_lay_2 18 rfl rfl)
theorem dX10_lay_67 : decode cX10_lay 67 = .ok (.iload_n 2, 1) := dk_28 (dk_at dksX10_lay_2 19 rfl rfl)
theorem dX10_lay_68 : decode cX10_lay 68 = .ok (.invokevirtual 76, 3) := dk_182 0 76 (dk_at dksX10_lay_2 20 rfl rfl)
theorem dX10_lay_71 : decode cX10_lay 71 = .ok (.ifCond .ne 7, 3) := dk_154 0 7 (dk_at dksX10_lay_3 0 rfl rfl)
theorem dX10_lay_74 : decode cX10_lay 74 = .ok (.iconst 1, 1) := dk_4 (dk_at dksX10_lay_3 3 rfl rfl)
theorem dX10_lay_75 : decode cX10_lay 75 = .ok (.goto 4, 3) := dk_167 0 4 (dk_at dksX10_lay_3 4 rfl rfl)
theorem dX10_lay_78 : decode cX10_lay 78 = .ok (.iconst 0, 1) := dk_3 (dk_at dksX10_lay_3 7 rfl rfl)
theorem dX10_lay_79 : decode cX10_lay 79 = .ok (.iadd, 1) := dk_96 (dk_at dksX10_lay_3 8 rfl rfl)
theorem dX10_lay_80 : decode cX10_lay 80 = .ok (.putfield 83, 3) := dk_181 0 83 (dk_at dksX10_lay_3 9 rfl rfl)
theorem dX10_lay_83 : decode cX10_lay 83 = .ok (.aload_n 0, 1) := dk_42 (dk_at dksX10_lay_3 12 rfl rfl)
theorem dX10_lay_84 : decode cX10_lay 84 = .ok (.getfield 15, 3) := dk_180 0 15 (dk_at dksX10_lay_3 13 rfl rfl)
theorem dX10_lay_87 : decode cX10_lay 87 = .ok (.iload_n 3, 1) := dk_29 (dk_at dksX10_lay_3 16 rfl rfl)
theorem dX10_lay_88 : decode cX10_lay 88 = .ok (.iconst 0, 1) := dk_3 (dk_at dksX10_lay_3 17 rfl rfl)
theorem dX10_lay_89 : decode cX10_lay 89 = .ok (.invokevirtual 86, 3) := dk_182 0 86 (dk_at dksX10_lay_3 18 rfl rfl)
theorem dX10_lay_92 : decode cX10_lay 92 = .ok (.istore 4, 2) := dk_54 4 (dk_at dksX10_lay_3 21 rfl rfl)
theorem dX10_lay_94 : decode cX10_lay 94 = .ok (.iload 4, 2) := dk_21 4 (dk_at dksX10_lay_4 0 rfl rfl)
theorem dX10_lay_96 : decode cX10_lay 96 = .ok (.ifCond .eq 54, 3) := dk_153 0 54 (dk_at dksX10_lay_4 2 rfl rfl)
theorem dX10_lay_99 : decode cX10_lay 99 = .ok (.aload_n 0, 1) := dk_42 (dk_at dksX10_lay_4 5 rfl rfl)
theorem dX10_lay_100 : decode cX10_lay 100 = .ok (.getfield 3, 3) := dk_180 0 3 (dk_at dksX10_lay_4 6 rfl rfl)
theorem dX10_lay_103 : decode cX10_lay 103 = .ok (.getfield 91, 3) := dk_180 0 91 (dk_at dksX10_lay_4 9 rfl rfl)
theorem dX10_lay_106 : decode cX10_lay 106 = .ok (.iload_n 1, 1) := dk_27 (dk_at dksX10_lay_4 12 rfl rfl)
theorem dX10_lay_107 : decode cX10_lay 107 = .ok (.aload_n 0, 1) := dk_42 (dk_at dksX10_lay_4 13 rfl rfl)
theorem dX10_lay_108 : decode cX10_lay 108 = .ok (.aload_n 0, 1) := dk_42 (dk_at dksX10_lay_4 14 rfl rfl)
theorem dX10_lay_109 : decode cX10_lay 109 = .ok (.getfield 3, 3) := dk_180 0 3 (dk_at dksX10_lay_4 15 rfl rfl)
theorem dX10_lay_112 : decode cX10_lay 112 = .ok (.getfield 41, 3) := dk_180 0 41 (dk_at dksX10_lay_4 18 rfl rfl)
theorem dX10_lay_115 : decode cX10_lay 115 = .ok (.iload_n 2, 1) := dk_28 (dk_at dksX10_lay_4 21 rfl rfl)
theorem dX10_lay_116 : decode cX10_lay 116 = .ok (.iaload, 1) := dk_46 (dk_at dksX10_lay_4 22 rfl rfl)
theorem dX10_lay_117 : decode cX10_lay 117 = .ok (.aload_n 0, 1) := dk_42 (dk_at dksX10_lay_4 23 rfl rfl)
theorem dX10_lay_118 : decode cX10_lay 118 = .ok (.getfield 3, 3) := dk_180 0 3 (dk_at dksX10_lay_5 0 rfl rfl)
theorem dX10_lay_121 : decode cX10_lay 121 = .ok (.getfield 44, 3) := dk_180 0 44 (dk_at dksX10_lay_5 3 rfl rfl)
theorem dX10_lay_124 : decode cX10_lay 124 = .ok (.iload_n 2, 1) := dk_28 (dk_at dksX10_lay_5 6 rfl rfl)
theorem dX10_lay_125 : decode cX10_lay 125 = .ok (.iaload, 1) := dk_46 (dk_at dksX10_lay_5 7 rfl rfl)
theorem dX10_lay_126 : decode cX10_lay 126 = .ok (.iload 4, 2) := dk_21 4 (dk_at dksX10_lay_5 8 rfl rfl)
theorem dX10_lay_128 : decode cX10_lay 128 = .ok (.invokevirtual 94, 3) := dk_182 0 94 (dk_at dksX10_lay_5 10 rfl rfl)
theorem dX10_lay_131 : decode cX10_lay 131 = .ok (.iastore, 1) := dk_79 (dk_at dksX10_lay_5 13 rfl rfl)
theorem dX10_lay_132 : decode cX10_lay 132 = .ok (.iinc 1 1, 3) := dk_132 1 1 (dk_at dksX10_lay_5 14 rfl rfl)
theorem dX10_lay_135 : decode cX10_lay 135 = .ok (.aload_n 0, 1) := dk_42 (dk_at dksX10_lay_5 17 rfl rfl)
theorem dX10_lay_136 : decode cX10_lay 136 = .ok (.getfield 15, 3) := dk_180 0 15 (dk_at dksX10_lay_5 18 rfl rfl)
theorem dX10_lay_139 : decode cX10_lay 139 = .ok (.iload_n 3, 1) := dk_29 (dk_at dksX10_lay_5 21 rfl rfl)
theorem dX10_lay_140 : decode cX10_lay 140 = .ok (.iload 4, 2) := dk_21 4 (dk_at dksX10_lay_5 22 rfl rfl)
theorem dX10_lay_142 : decode cX10_lay 142 = .ok (.invokevirtual 86, 3) := dk_182 0 86 (dk_at dksX10_lay_6 0 rfl rfl)
theorem dX10_lay_145 : decode cX10_lay 145 = .ok (.istore 4, 2) := dk_54 4 (dk_at dksX10_lay_6 3 rfl rfl)
theorem dX10_lay_147 : decode cX10_lay 147 = .ok (.goto (-53), 3) := dk_167 255 203 (dk_at dksX10_lay_6 5 rfl rfl)
theorem dX10_lay_150 : decode cX10_lay 150 = .ok (.iinc 2 1, 3) := dk_132 2 1 (dk_at dksX10_lay_6 8 rfl rfl)
theorem dX10_lay_153 : decode cX10_lay 153 = .ok (.goto (-149), 3) := dk_167 255 107 (dk_at dksX10_lay_6 11 rfl rfl)
theorem dX10_lay_156 : decode cX10_lay 156 = .ok (.aload_n 0, 1) := dk_42 (dk_at dksX10_lay_6 14 rfl rfl)
theorem dX10_lay_157 : decode cX10_lay 157 = .ok (.getfield 3, 3) := dk_180 0 3 (dk_at dksX10_lay_6 15 rfl rfl)
theorem dX10_lay_160 : decode cX10_lay 160 = .ok (.getfield 73, 3) := dk_180 0 73 (dk_at dksX10_lay_6 18 rfl rfl)
theorem dX10_lay_163 : decode cX10_lay 163 = .ok (.aload_n 0, 1) := dk_42 (dk_at dksX10_lay_6 21 rfl rfl)
theorem dX10_lay_164 : decode cX10_lay 164 = .ok (.getfield 38, 3) := dk_180 0 38 (dk_at dksX10_lay_7 0 rfl rfl)
theorem dX10_lay_167 : decode cX10_lay 167 = .ok (.iload_n 1, 1) := dk_27 (dk_at dksX10_lay_7 3 rfl rfl)
theorem dX10_lay_168 : decode cX10_lay 168 = .ok (.iastore, 1) := dk_79 (dk_at dksX10_lay_7 4 rfl rfl)
theorem dX10_lay_169 : decode cX10_lay 169 = .ok (.iconst 0, 1) := dk_3 (dk_at dksX10_lay_7 5 rfl rfl)
theorem dX10_lay_170 : decode cX10_lay 170 = .ok (.istore_n 2, 1) := dk_61 (dk_at dksX10_lay_7 6 rfl rfl)
theorem dX10_lay_171 : decode cX10_lay 171 = .ok (.iload_n 2, 1) := dk_28 (dk_at dksX10_lay_7 7 rfl rfl)
theorem dX10_lay_172 : decode cX10_lay 172 = .ok (.aload_n 0, 1) := dk_42 (dk_at dksX10_lay_7 8 rfl rfl)
theorem dX10_lay_173 : decode cX10_lay 173 = .ok (.getfield 38, 3) := dk_180 0 38 (dk_at dksX10_lay_7 9 rfl rfl)
theorem dX10_lay_176 : decode cX10_lay 176 = .ok (.if_icmp .ge 55, 3) := dk_162 0 55 (dk_at dksX10_lay_7 12 rfl rfl)
theorem dX10_lay_179 : decode cX10_lay 179 = .ok (.aload_n 0, 1) := dk_42 (dk_at dksX10_lay_7 15 rfl rfl)
theorem dX10_lay_180 : decode cX10_lay 180 = .ok (.getfield 3, 3) := dk_180 0 3 (dk_at dksX10_lay_7 16 rfl rfl)
theorem dX10_lay_183 : decode cX10_lay 183 = .ok (.getfield 97, 3) := dk_180 0 97 (dk_at dksX10_lay_7 19 rfl rfl)
theorem dX10_lay_186 : decode cX10_lay 186 = .ok (.iload_n 2, 1) := dk_28 (dk_at dksX10_lay_7 22 rfl rfl)
theorem dX10_lay_187 : decode cX10_lay 187 = .ok (.aload_n 0, 1) := dk_42 (dk_at dksX10_lay_7 23 rfl rfl)
theorem dX10_lay_188 : decode cX10_lay 188 = .ok (.iload_n 2, 1) := dk_28 (dk_at dksX10_lay_8 0 rfl rfl)
theorem dX10_lay_189 : decode cX10_lay 189 = .ok (.invokevirtual 76, 3) := dk_182 0 76 (dk_at dksX10_lay_8 1 rfl rfl)
theorem dX10_lay_192 : decode cX10_lay 192 = .ok (.ifCond .eq 7, 3) := dk_153 0 7 (dk_at dksX10_lay_8 4 rfl rfl)
theorem dX10_lay_195 : decode cX10_lay 195 = .ok (.iconst 0, 1) := dk_3 (dk_at dksX10_lay_8 7 rfl rfl)
theorem dX10_lay_196 : decode cX10_lay 196 = .ok (.goto 5, 3) := dk_167 0 5 (dk_at dksX10_lay_8 8 rfl rfl)
theorem dX10_lay_199 : decode cX10_lay 199 = .ok (.bipush (-6), 2) := dk_16 250 (dk_at dksX10_lay_8 11 rfl rfl)
theorem dX10_lay_201 : decode cX10_lay 201 = .ok (.iastore, 1) := dk_79 (dk_at dksX10_lay_8 13 rfl rfl)
theorem dX10_lay_202 : decode cX10_lay 202 = .ok (.aload_n 0, 1) := dk_42 (dk_at dksX10_lay_8 14 rfl rfl)
theorem dX10_lay_203 : decode cX10_lay 203 = .ok (.getfield 3, 3) := dk_180 0 3 (dk_at dksX10_lay_8 15 rfl rfl)
theorem dX10_lay_206 : decode cX10_lay 206 = .ok (.getfield 100, 3) := dk_180 0 100 (dk_at dksX10_lay_8 18 rfl rfl)
theorem dX10_lay_209 : decode cX10_lay 209 = .ok (.iload_n 2, 1) := dk_28 (dk_at dksX10_lay_8 21 rfl rfl)
theorem dX10_lay_210 : decode cX10_lay 210 = .ok (.aload_n 0, 1) := dk_42 (dk_at dksX10_lay_8 22 rfl rfl)
theorem dX10_lay_211 : decode cX10_lay 211 = .ok (.iload_n 2, 1) := dk_28 (dk_at dksX10_lay_8 23 rfl rfl)
theorem dX10_lay_212 : decode cX10_lay 212 = .ok (.invokevirtual 76, 3) := dk_182 0 76 (dk_at dksX10_lay_9 0 rfl rfl)
theorem dX10_lay_215 : decode cX10_lay 215 = .ok (.ifCond .eq 7, 3) := dk_153 0 7 (dk_at dksX10_lay_9 3 rfl rfl)
theorem dX10_lay_218 : decode cX10_lay 218 = .ok (.iconst 0, 1) := dk_3 (dk_at dksX10_lay_9 6 rfl rfl)
theorem dX10_lay_219 : decode cX10_lay 219 = .ok (.goto 5, 3) := dk_167 0 5 (dk_at dksX10_lay_9 7 rfl rfl)
theorem dX10_lay_222 : decode cX10_lay 222 = .ok (.bipush (-6), 2) := dk_16 250 (dk_at dksX10_lay_9 10 rfl rfl)
theorem dX10_lay_224 : decode cX10_lay 224 = .ok (.iastore, 1) := dk_79 (dk_at dksX10_lay_9 12 rfl rfl)
theorem dX10_lay_225 : decode cX10_lay 225 = .ok (.iinc 2 1, 3) := dk_132 2 1 (dk_at dksX10_lay_9 13 rfl rfl)
theorem dX10_lay_228 : decode cX10_lay 228 = .ok (.goto (-57), 3) := dk_167 255 199 (dk_at dksX10_lay_9 16 rfl rfl)
theorem dX10_lay_231 : decode cX10_lay 231 = .ok (.iconst 1, 1) := dk_4 (dk_at dksX10_lay_9 19 rfl rfl)
theorem dX10_lay_232 : decode cX10_lay 232 = .ok (.istore_n 2, 1) := dk_61 (dk_at dksX10_lay_9 20 rfl rfl)
theorem dX10_lay_233 : decode cX10_lay 233 = .ok (.iload_n 2, 1) := dk_28 (dk_at dksX10_lay_9 21 rfl rfl)
theorem dX10_lay_234 : decode cX10_lay 234 = .ok (.ifCond .eq 39, 3) := dk_153 0 39 (dk_at dksX10_lay_10 0 rfl rfl)
theorem dX10_lay_237 : decode cX10_lay 237 = .ok (.iconst 0, 1) := dk_3 (dk_at dksX10_lay_10 3 rfl rfl)
theorem dX10_lay_238 : decode cX10_lay 238 = .ok (.istore_n 2, 1) := dk_61 (dk_at dksX10_lay_10 4 rfl rfl)
theorem dX10_lay_239 : decode cX10_lay 239 = .ok (.aload_n 0, 1) := dk_42 (dk_at dksX10_lay_10 5 rfl rfl)
theorem dX10_lay_240 : decode cX10_lay 240 = .ok (.getfield 38, 3) := dk_180 0 38 (dk_at dksX10_lay_10 6 rfl rfl)
theorem dX10_lay_243 : decode cX10_lay 243 = .ok (.iconst 1, 1) := dk_4 (dk_at dksX10_lay_10 9 rfl rfl)
theorem dX10_lay_244 : decode cX10_lay 244 = .ok (.isub, 1) := dk_100 (dk_at dksX10_lay_10 10 rfl rfl)
theorem dX10_lay_245 : decode cX10_lay 245 = .ok (.istore_n 3, 1) := dk_62 (dk_at dksX10_lay_10 11 rfl rfl)
theorem dX10_lay_246 : decode cX10_lay 246 = .ok (.iload_n 3, 1) := dk_29 (dk_at dksX10_lay_10 12 rfl rfl)
theorem dX10_lay_247 : decode cX10_lay 247 = .ok (.ifCond .lt 23, 3) := dk_155 0 23 (dk_at dksX10_lay_10 13 rfl rfl)
theorem dX10_lay_250 : decode cX10_lay 250 = .ok (.iload_n 2, 1) := dk_28 (dk_at dksX10_lay_10 16 rfl rfl)
theorem dX10_lay_251 : decode cX10_lay 251 = .ok (.aload_n 0, 1) := dk_42 (dk_at dksX10_lay_10 17 rfl rfl)
theorem dX10_lay_252 : decode cX10_lay 252 = .ok (.iload_n 3, 1) := dk_29 (dk_at dksX10_lay_10 18 rfl rfl)
theorem dX10_lay_253 : decode cX10_lay 253 = .ok (.invokevirtual 103, 3) := dk_182 0 103 (dk_at dksX10_lay_10 19 rfl rfl)
theorem dX10_lay_256 : decode cX10_lay 256 = .ok (.aload_n 0, 1) := dk_42 (dk_at dksX10_lay_10 22 rfl rfl)
theorem dX10_lay_257 : decode cX10_lay 257 = .ok (.iload_n 3, 1) := dk_29 (dk_at dksX10_lay_10 23 rfl rfl)
theorem dX10_lay_258 : decode cX10_lay 258 = .ok (.invokevirtual 106, 3) := dk_182 0 106 (dk_at dksX10_lay_11 0 rfl rfl)
theorem dX10_lay_261 : decode cX10_lay 261 = .ok (.ior, 1) := dk_128 (dk_at dksX10_lay_11 3 rfl rfl)
theorem dX10_lay_262 : decode cX10_lay 262 = .ok (.ior, 1) := dk_128 (dk_at dksX10_lay_11 4 rfl rfl)
theorem dX10_lay_263 : decode cX10_lay 263 = .ok (.istore_n 2, 1) := dk_61 (dk_at dksX10_lay_11 5 rfl rfl)
theorem dX10_lay_264 : decode cX10_lay 264 = .ok (.iinc 3 (-1), 3) := dk_132 3 255 (dk_at dksX10_lay_11 6 rfl rfl)
theorem dX10_lay_267 : decode cX10_lay 267 = .ok (.goto (-21), 3) := dk_167 255 235 (dk_at dksX10_lay_11 9 rfl rfl)
theorem dX10_lay_270 : decode cX10_lay 270 = .ok (.goto (-37), 3) := dk_167 255 219 (dk_at dksX10_lay_11 12 rfl rfl)
theorem dX10_lay_273 : decode cX10_lay 273 = .ok (.return_, 1) := dk_177 (dk_at dksX10_lay_11 15 rfl rfl)
abbrev cX10_hasMet : ByteArray := prog_12_method_5_code
def yX10_hasMet : MethodName := ⟨RX10, "hasMet", "(I)Z"⟩
def dkwX10_hasMet_0 : List UInt8 := [42, 180, 0, 3, 180, 0, 41, 27, 46, 184, 0, 68, 4, 160, 0, 7, 4, 167, 0, 4, 3, 172]
abbrev dktX10_hasMet_0 : List UInt8 := dkwX10_hasMet_0 ++ []
theorem dksX10_hasMet_0 : cX10_hasMet.data.toList.drop 0 = dktX10_hasMet_0 := by decide +kernel
theorem dX10_hasMet_0 : decode cX10_hasMet 0 = .ok (.aload_n 0, 1) := dk_42 (dk_at dksX10_hasMet_0 0 rfl rfl)
theorem dX10_hasMet_1 : decode cX10_hasMet 1 = .ok (.getfield 3, 3) := dk_180 0 3 (dk_at dksX10_hasMet_0 1 rfl rfl)
theorem dX10_hasMet_4 : decode cX10_hasMet 4 = .ok (.getfield 41, 3) := dk_180 0 41 (dk_at dksX10_hasMet_0 4 rfl rfl)
theorem dX10_hasMet_7 : decode cX10_hasMet 7 = .ok (.iload_n 1, 1) := dk_27 (dk_at dksX10_hasMet_0 7 rfl rfl)
theorem dX10_hasMet_8 : decode cX10_hasMet 8 = .ok (.iaload, 1) := dk_46 (dk_at dksX10_hasMet_0 8 rfl rfl)
theorem dX10_hasMet_9 : decode cX10_hasMet 9 = .ok (.invokestatic 68, 3) := dk_184 0 68 (dk_at dksX10_hasMet_0 9 rfl rfl)
theorem dX10_hasMet_12 : decode cX10_hasMet 12 = .ok (.iconst 1, 1) := dk_4 (dk_at dksX10_hasMet_0 12 rfl rfl)
theorem dX10_hasMet_13 : decode cX10_hasMet 13 = .ok (.if_icmp .ne 7, 3) := dk_160 0 7 (dk_at dksX10_hasMet_0 13 rfl rfl)
theorem dX10_hasMet_16 : decode cX10_hasMet 16 = .ok (.iconst 1, 1) := dk_4 (dk_at dksX10_hasMet_0 16 rfl rfl)
theorem dX10_hasMet_17 : decode cX10_hasMet 17 = .ok (.goto 4, 3) := dk_167 0 4 (dk_at dksX10_hasMet_0 17 rfl rfl)
theorem dX10_hasMet_20 : decode cX10_hasMet 20 = .ok (.iconst 0, 1) := dk_3 (dk_at dksX10_hasMet_0 20 rfl rfl)
theorem dX10_hasMet_21 : decode cX10_hasMet 21 = .ok (.ireturn, 1) := dk_172 (dk_at dksX10_hasMet_0 21 rfl rfl)
abbrev cX10_movers : ByteArray := prog_12_method_3_code
def yX10_movers : MethodName := ⟨RX10, "movers", "(II)I"⟩
def dkwX10_movers_5 : List UInt8 := [158, 0, 10, 4, 21, 4, 120, 167, 0, 4, 3, 128, 62, 132, 4, 1, 167, 255, 130, 29, 172]
abbrev dktX10_movers_5 : List UInt8 := dkwX10_movers_5 ++ []
def dkwX10_movers_4 : List UInt8 := [180, 0, 3, 21, 5, 182, 0, 57, 182, 0, 61, 79, 29, 42, 180, 0, 3, 21, 5, 182, 0, 57]
abbrev dktX10_movers_4 : List UInt8 := dkwX10_movers_4 ++ dktX10_movers_5
def dkwX10_movers_3 : List UInt8 := [120, 128, 181, 0, 51, 42, 180, 0, 3, 180, 0, 54, 21, 4, 42, 180, 0, 3, 27, 21, 4, 42]
abbrev dktX10_movers_3 : List UInt8 := dkwX10_movers_3 ++ dktX10_movers_4
def dkwX10_movers_2 : List UInt8 := [21, 4, 182, 0, 47, 54, 5, 42, 89, 180, 0, 51, 21, 5, 156, 0, 7, 3, 167, 0, 7, 4, 21, 5]
abbrev dktX10_movers_2 : List UInt8 := dkwX10_movers_2 ++ dktX10_movers_3
def dkwX10_movers_1 : List UInt8 := [4, 126, 4, 160, 0, 101, 42, 180, 0, 3, 27, 42, 180, 0, 19, 153, 0, 7, 3, 167, 0, 4, 28]
abbrev dktX10_movers_1 : List UInt8 := dkwX10_movers_1 ++ dktX10_movers_2
def dkwX10_movers_0 : List UInt8 := [3, 62, 3, 54, 4, 21, 4, 42, 180, 0, 3, 180, 0, 28, 180, 0, 32, 162, 0, 117, 27, 21, 4, 122]
abbrev dktX10_movers_0 : List UInt8 := dkwX10_movers_0 ++ dktX10_movers_1
theorem dksX10_movers_0 : cX10_movers.data.toList.drop 0 = dktX10_movers_0 := by decide +kernel
theorem dksX10_movers_1 : cX10_movers.data.toList.drop 24 = dktX10_movers_1 := dk_seg dksX10_movers_0 24 rfl rfl
theorem dksX10_movers_2 : cX10_movers.data.toList.drop 47 = dktX10_movers_2 := dk_seg dksX10_movers_1 23 rfl rfl
theorem dksX10_movers_3 : cX10_movers.data.toList.drop 71 = dktX10_movers_3 := dk_seg dksX10_movers_2 24 rfl rfl
theorem dksX10_movers_4 : cX10_movers.data.toList.drop 93 = dktX10_movers_4 := dk_seg dksX10_movers_3 22 rfl rfl
theorem dksX10_movers_5 : cX10_movers.data.toList.drop 115 = dktX10_movers_5 := dk_seg dksX10_movers_4 22 rfl rfl
theorem dX10_movers_0 : decode cX10_movers 0 = .ok (.iconst 0, 1) := dk_3 (dk_at dksX10_movers_0 0 rfl rfl)
theorem dX10_movers_1 : decode cX10_movers 1 = .ok (.istore_n 3, 1) := dk_62 (dk_at dksX10_movers_0 1 rfl rfl)
theorem dX10_movers_2 : decode cX10_movers 2 = .ok (.iconst 0, 1) := dk_3 (dk_at dksX10_movers_0 2 rfl rfl)
theorem dX10_movers_3 : decode cX10_movers 3 = .ok (.istore 4, 2) := dk_54 4 (dk_at dksX10_movers_0 3 rfl rfl)
theorem dX10_movers_5 : decode cX10_movers 5 = .ok (.iload 4, 2) := dk_21 4 (dk_at dksX10_movers_0 5 rfl rfl)
theorem dX10_movers_7 : decode cX10_movers 7 = .ok (.aload_n 0, 1) := dk_42 (dk_at dksX10_movers_0 7 rfl rfl)
theorem dX10_movers_8 : decode cX10_movers 8 = .ok (.getfield 3, 3) := dk_180 0 3 (dk_at dksX10_movers_0 8 rfl rfl)
theorem dX10_movers_11 : decode cX10_movers 11 = .ok (.getfield 28, 3) := dk_180 0 28 (dk_at dksX10_movers_0 11 rfl rfl)
theorem dX10_movers_14 : decode cX10_movers 14 = .ok (.getfield 32, 3) := dk_180 0 32 (dk_at dksX10_movers_0 14 rfl rfl)
theorem dX10_movers_17 : decode cX10_movers 17 = .ok (.if_icmp .ge 117, 3) := dk_162 0 117 (dk_at dksX10_movers_0 17 rfl rfl)
theorem dX10_movers_20 : decode cX10_movers 20 = .ok (.iload_n 1, 1) := dk_27 (dk_at dksX10_movers_0 20 rfl rfl)
theorem dX10_movers_21 : decode cX10_movers 21 = .ok (.iload 4, 2) := dk_21 4 (dk_at dksX10_movers_0 21 rfl rfl)
theorem dX10_movers_23 : decode cX10_movers 23 = .ok (.ishr, 1) := dk_122 (dk_at dksX10_movers_0 23 rfl rfl)
theorem dX10_movers_24 : decode cX10_movers 24 = .ok (.iconst 1, 1) := dk_4 (dk_at dksX10_movers_1 0 rfl rfl)
theorem dX10_movers_25 : decode cX10_movers 25 = .ok (.iand, 1) := dk_126 (dk_at dksX10_movers_1 1 rfl rfl)
theorem dX10_movers_26 : decode cX10_movers 26 = .ok (.iconst 1, 1) := dk_4 (dk_at dksX10_movers_1 2 rfl rfl)
theorem dX10_movers_27 : decode cX10_movers 27 = .ok (.if_icmp .ne 101, 3) := dk_160 0 101 (dk_at dksX10_movers_1 3 rfl rfl)
theorem dX10_movers_30 : decode cX10_movers 30 = .ok (.aload_n 0, 1) := dk_42 (dk_at dksX10_movers_1 6 rfl rfl)
theorem dX10_movers_31 : decode cX10_movers 31 = .ok (.getfield 3, 3) := dk_180 0 3 (dk_at dksX10_movers_1 7 rfl rfl)
theorem dX10_movers_34 : decode cX10_movers 34 = .ok (.iload_n 1, 1) := dk_27 (dk_at dksX10_movers_1 10 rfl rfl)
theorem dX10_movers_35 : decode cX10_movers 35 = .ok (.aload_n 0, 1) := dk_42 (dk_at dksX10_movers_1 11 rfl rfl)
theorem dX10_movers_36 : decode cX10_movers 36 = .ok (.getfield 19, 3) := dk_180 0 19 (dk_at dksX10_movers_1 12 rfl rfl)
theorem dX10_movers_39 : decode cX10_movers 39 = .ok (.ifCond .eq 7, 3) := dk_153 0 7 (dk_at dksX10_movers_1 15 rfl rfl)
theorem dX10_movers_42 : decode cX10_movers 42 = .ok (.iconst 0, 1) := dk_3 (dk_at dksX10_movers_1 18 rfl rfl)
theorem dX10_movers_43 : decode cX10_movers 43 = .ok (.goto 4, 3) := dk_167 0 4 (dk_at dksX10_movers_1 19 rfl rfl)
theorem dX10_movers_46 : decode cX10_movers 46 = .ok (.iload_n 2, 1) := dk_28 (dk_at dksX10_movers_1 22 rfl rfl)
theorem dX10_movers_47 : decode cX10_movers 47 = .ok (.iload 4, 2) := dk_21 4 (dk_at dksX10_movers_2 0 rfl rfl)
theorem dX10_movers_49 : decode cX10_movers 49 = .ok (.invokevirtual 47, 3) := dk_182 0 47 (dk_at dksX10_movers_2 2 rfl rfl)
theorem dX10_movers_52 : decode cX10_movers 52 = .ok (.istore 5, 2) := dk_54 5 (dk_at dksX10_movers_2 5 rfl rfl)
theorem dX10_movers_54 : decode cX10_movers 54 = .ok (.aload_n 0, 1) := dk_42 (dk_at dksX10_movers_2 7 rfl rfl)
theorem dX10_movers_55 : decode cX10_movers 55 = .ok (.dup, 1) := dk_89 (dk_at dksX10_movers_2 8 rfl rfl)
theorem dX10_movers_56 : decode cX10_movers 56 = .ok (.getfield 51, 3) := dk_180 0 51 (dk_at dksX10_movers_2 9 rfl rfl)
theorem dX10_movers_59 : decode cX10_movers 59 = .ok (.iload 5, 2) := dk_21 5 (dk_at dksX10_movers_2 12 rfl rfl)
theorem dX10_movers_61 : decode cX10_movers 61 = .ok (.ifCond .ge 7, 3) := dk_156 0 7 (dk_at dksX10_movers_2 14 rfl rfl)
theorem dX10_movers_64 : decode cX10_movers 64 = .ok (.iconst 0, 1) := dk_3 (dk_at dksX10_movers_2 17 rfl rfl)
theorem dX10_movers_65 : decode cX10_movers 65 = .ok (.goto 7, 3) := dk_167 0 7 (dk_at dksX10_movers_2 18 rfl rfl)
theorem dX10_movers_68 : decode cX10_movers 68 = .ok (.iconst 1, 1) := dk_4 (dk_at dksX10_movers_2 21 rfl rfl)
theorem dX10_movers_69 : decode cX10_movers 69 = .ok (.iload 5, 2) := dk_21 5 (dk_at dksX10_movers_2 22 rfl rfl)
theorem dX10_movers_71 : decode cX10_movers 71 = .ok (.ishl, 1) := dk_120 (dk_at dksX10_movers_3 0 rfl rfl)
theorem dX10_movers_72 : decode cX10_movers 72 = .ok (.ior, 1) := dk_128 (dk_at dksX10_movers_3 1 rfl rfl)
theorem dX10_movers_73 : decode cX10_movers 73 = .ok (.putfield 51, 3) := dk_181 0 51 (dk_at dksX10_movers_3 2 rfl rfl)
theorem dX10_movers_76 : decode cX10_movers 76 = .ok (.aload_n 0, 1) := dk_42 (dk_at dksX10_movers_3 5 rfl rfl)
theorem dX10_movers_77 : decode cX10_movers 77 = .ok (.getfield 3, 3) := dk_180 0 3 (dk_at dksX10_movers_3 6 rfl rfl)
theorem dX10_movers_80 : decode cX10_movers 80 = .ok (.getfield 54, 3) := dk_180 0 54 (dk_at dksX10_movers_3 9 rfl rfl)
theorem dX10_movers_83 : decode cX10_movers 83 = .ok (.iload 4, 2) := dk_21 4 (dk_at dksX10_movers_3 12 rfl rfl)
theorem dX10_movers_85 : decode cX10_movers 85 = .ok (.aload_n 0, 1) := dk_42 (dk_at dksX10_movers_3 14 rfl rfl)
theorem dX10_movers_86 : decode cX10_movers 86 = .ok (.getfield 3, 3) := dk_180 0 3 (dk_at dksX10_movers_3 15 rfl rfl)
theorem dX10_movers_89 : decode cX10_movers 89 = .ok (.iload_n 1, 1) := dk_27 (dk_at dksX10_movers_3 18 rfl rfl)
theorem dX10_movers_90 : decode cX10_movers 90 = .ok (.iload 4, 2) := dk_21 4 (dk_at dksX10_movers_3 19 rfl rfl)
theorem dX10_movers_92 : decode cX10_movers 92 = .ok (.aload_n 0, 1) := dk_42 (dk_at dksX10_movers_3 21 rfl rfl)
theorem dX10_movers_93 : decode cX10_movers 93 = .ok (.getfield 3, 3) := dk_180 0 3 (dk_at dksX10_movers_4 0 rfl rfl)
theorem dX10_movers_96 : decode cX10_movers 96 = .ok (.iload 5, 2) := dk_21 5 (dk_at dksX10_movers_4 3 rfl rfl)
theorem dX10_movers_98 : decode cX10_movers 98 = .ok (.invokevirtual 57, 3) := dk_182 0 57 (dk_at dksX10_movers_4 5 rfl rfl)
theorem dX10_movers_101 : decode cX10_movers 101 = .ok (.invokevirtual 61, 3) := dk_182 0 61 (dk_at dksX10_movers_4 8 rfl rfl)
theorem dX10_movers_104 : decode cX10_movers 104 = .ok (.iastore, 1) := dk_79 (dk_at dksX10_movers_4 11 rfl rfl)
theorem dX10_movers_105 : decode cX10_movers 105 = .ok (.iload_n 3, 1) := dk_29 (dk_at dksX10_movers_4 12 rfl rfl)
theorem dX10_movers_106 : decode cX10_movers 106 = .ok (.aload_n 0, 1) := dk_42 (dk_at dksX10_movers_4 13 rfl rfl)
theorem dX10_movers_107 : decode cX10_movers 107 = .ok (.getfield 3, 3) := dk_180 0 3 (dk_at dksX10_movers_4 14 rfl rfl)
theorem dX10_movers_110 : decode cX10_movers 110 = .ok (.iload 5, 2) := dk_21 5 (dk_at dksX10_movers_4 17 rfl rfl)
theorem dX10_movers_112 : decode cX10_movers 112 = .ok (.invokevirtual 57, 3) := dk_182 0 57 (dk_at dksX10_movers_4 19 rfl rfl)
theorem dX10_movers_115 : decode cX10_movers 115 = .ok (.ifCond .le 10, 3) := dk_158 0 10 (dk_at dksX10_movers_5 0 rfl rfl)
theorem dX10_movers_118 : decode cX10_movers 118 = .ok (.iconst 1, 1) := dk_4 (dk_at dksX10_movers_5 3 rfl rfl)
theorem dX10_movers_119 : decode cX10_movers 119 = .ok (.iload 4, 2) := dk_21 4 (dk_at dksX10_movers_5 4 rfl rfl)
theorem dX10_movers_121 : decode cX10_movers 121 = .ok (.ishl, 1) := dk_120 (dk_at dksX10_movers_5 6 rfl rfl)
theorem dX10_movers_122 : decode cX10_movers 122 = .ok (.goto 4, 3) := dk_167 0 4 (dk_at dksX10_movers_5 7 rfl rfl)
theorem dX10_movers_125 : decode cX10_movers 125 = .ok (.iconst 0, 1) := dk_3 (dk_at dksX10_movers_5 10 rfl rfl)
theorem dX10_movers_126 : decode cX10_movers 126 = .ok (.ior, 1) := dk_128 (dk_at dksX10_movers_5 11 rfl rfl)
theorem dX10_movers_127 : decode cX10_movers 127 = .ok (.istore_n 3, 1) := dk_62 (dk_at dksX10_movers_5 12 rfl rfl)
theorem dX10_movers_128 : decode cX10_movers 128 = .ok (.iinc 4 1, 3) := dk_132 4 1 (dk_at dksX10_movers_5 13 rfl rfl)
theorem dX10_movers_131 : decode cX10_movers 131 = .ok (.goto (-126), 3) := dk_167 255 130 (dk_at dksX10_movers_5 16 rfl rfl)
theorem dX10_movers_134 : decode cX10_movers 134 = .ok (.iload_n 3, 1) := dk_29 (dk_at dksX10_movers_5 19 rfl rfl)
theorem dX10_movers_135 : decode cX10_movers 135 = .ok (.ireturn, 1) := dk_172 (dk_at dksX10_movers_5 20 rfl rfl)
abbrev cX10_stepBy : ByteArray := prog_12_method_4_code
def yX10_stepBy : MethodName := ⟨RX10, "stepBy", "(III)I"⟩
def dkwX10_stepBy_4 : List UInt8 := [128, 54, 4, 132, 6, 1, 167, 255, 165, 42, 21, 4, 21, 5, 182, 0, 64, 172]
abbrev dktX10_stepBy_4 : List UInt8 := dkwX10_stepBy_4 ++ []
def dkwX10_stepBy_3 : List UInt8 := [28, 21, 6, 122, 4, 126, 4, 160, 0, 8, 21, 7, 167, 0, 4, 3, 128, 128, 54, 5, 21, 4, 21, 7]
abbrev dktX10_stepBy_3 : List UInt8 := dkwX10_stepBy_3 ++ dktX10_stepBy_4
def dkwX10_stepBy_2 : List UInt8 := [180, 0, 3, 180, 0, 54, 21, 6, 46, 167, 0, 5, 21, 6, 120, 54, 7, 21, 5, 21, 4, 21, 7, 126]
abbrev dktX10_stepBy_2 : List UInt8 := dkwX10_stepBy_2 ++ dktX10_stepBy_3
def dkwX10_stepBy_1 : List UInt8 := [27, 21, 6, 122, 4, 126, 4, 160, 0, 66, 4, 29, 21, 6, 122, 4, 126, 4, 160, 0, 16, 42]
abbrev dktX10_stepBy_1 : List UInt8 := dkwX10_stepBy_1 ++ dktX10_stepBy_2
def dkwX10_stepBy_0 : List UInt8 := [3, 54, 4, 3, 54, 5, 3, 54, 6, 21, 6, 42, 180, 0, 3, 180, 0, 28, 180, 0, 32, 162, 0, 82]
abbrev dktX10_stepBy_0 : List UInt8 := dkwX10_stepBy_0 ++ dktX10_stepBy_1
theorem dksX10_stepBy_0 : cX10_stepBy.data.toList.drop 0 = dktX10_stepBy_0 := by decide +kernel
theorem dksX10_stepBy_1 : cX10_stepBy.data.toList.drop 24 = dktX10_stepBy_1 := dk_seg dksX10_stepBy_0 24 rfl rfl
theorem dksX10_stepBy_2 : cX10_stepBy.data.toList.drop 46 = dktX10_stepBy_2 := dk_seg dksX10_stepBy_1 22 rfl rfl
theorem dksX10_stepBy_3 : cX10_stepBy.data.toList.drop 70 = dktX10_stepBy_3 := dk_seg dksX10_stepBy_2 24 rfl rfl
theorem dksX10_stepBy_4 : cX10_stepBy.data.toList.drop 94 = dktX10_stepBy_4 := dk_seg dksX10_stepBy_3 24 rfl rfl
theorem dX10_stepBy_0 : decode cX10_stepBy 0 = .ok (.iconst 0, 1) := dk_3 (dk_at dksX10_stepBy_0 0 rfl rfl)
theorem dX10_stepBy_1 : decode cX10_stepBy 1 = .ok (.istore 4, 2) := dk_54 4 (dk_at dksX10_stepBy_0 1 rfl rfl)
theorem dX10_stepBy_3 : decode cX10_stepBy 3 = .ok (.iconst 0, 1) := dk_3 (dk_at dksX10_stepBy_0 3 rfl rfl)
theorem dX10_stepBy_4 : decode cX10_stepBy 4 = .ok (.istore 5, 2) := dk_54 5 (dk_at dksX10_stepBy_0 4 rfl rfl)
theorem dX10_stepBy_6 : decode cX10_stepBy 6 = .ok (.iconst 0, 1) := dk_3 (dk_at dksX10_stepBy_0 6 rfl rfl)
theorem dX10_stepBy_7 : decode cX10_stepBy 7 = .ok (.istore 6, 2) := dk_54 6 (dk_at dksX10_stepBy_0 7 rfl rfl)
theorem dX10_stepBy_9 : decode cX10_stepBy 9 = .ok (.iload 6, 2) := dk_21 6 (dk_at dksX10_stepBy_0 9 rfl rfl)
theorem dX10_stepBy_11 : decode cX10_stepBy 11 = .ok (.aload_n 0, 1) := dk_42 (dk_at dksX10_stepBy_0 11 rfl rfl)
theorem dX10_stepBy_12 : decode cX10_stepBy 12 = .ok (.getfield 3, 3) := dk_180 0 3 (dk_at dksX10_stepBy_0 12 rfl rfl)
theorem dX10_stepBy_15 : decode cX10_stepBy 15 = .ok (.getfield 28, 3) := dk_180 0 28 (dk_at dksX10_stepBy_0 15 rfl rfl)
theorem dX10_stepBy_18 : decode cX10_stepBy 18 = .ok (.getfield 32, 3) := dk_180 0 32 (dk_at dksX10_stepBy_0 18 rfl rfl)
theorem dX10_stepBy_21 : decode cX10_stepBy 21 = .ok (.if_icmp .ge 82, 3) := dk_162 0 82 (dk_at dksX10_stepBy_0 21 rfl rfl)
theorem dX10_stepBy_24 : decode cX10_stepBy 24 = .ok (.iload_n 1, 1) := dk_27 (dk_at dksX10_stepBy_1 0 rfl rfl)
theorem dX10_stepBy_25 : decode cX10_stepBy 25 = .ok (.iload 6, 2) := dk_21 6 (dk_at dksX10_stepBy_1 1 rfl rfl)
theorem dX10_stepBy_27 : decode cX10_stepBy 27 = .ok (.ishr, 1) := dk_122 (dk_at dksX10_stepBy_1 3 rfl rfl)
theorem dX10_stepBy_28 : decode cX10_stepBy 28 = .ok (.iconst 1, 1) := dk_4 (dk_at dksX10_stepBy_1 4 rfl rfl)
theorem dX10_stepBy_29 : decode cX10_stepBy 29 = .ok (.iand, 1) := dk_126 (dk_at dksX10_stepBy_1 5 rfl rfl)
theorem dX10_stepBy_30 : decode cX10_stepBy 30 = .ok (.iconst 1, 1) := dk_4 (dk_at dksX10_stepBy_1 6 rfl rfl)
theorem dX10_stepBy_31 : decode cX10_stepBy 31 = .ok (.if_icmp .ne 66, 3) := dk_160 0 66 (dk_at dksX10_stepBy_1 7 rfl rfl)
theorem dX10_stepBy_34 : decode cX10_stepBy 34 = .ok (.iconst 1, 1) := dk_4 (dk_at dksX10_stepBy_1 10 rfl rfl)
theorem dX10_stepBy_35 : decode cX10_stepBy 35 = .ok (.iload_n 3, 1) := dk_29 (dk_at dksX10_stepBy_1 11 rfl rfl)
theorem dX10_stepBy_36 : decode cX10_stepBy 36 = .ok (.iload 6, 2) := dk_21 6 (dk_at dksX10_stepBy_1 12 rfl rfl)
theorem dX10_stepBy_38 : decode cX10_stepBy 38 = .ok (.ishr, 1) := dk_122 (dk_at dksX10_stepBy_1 14 rfl rfl)
theorem dX10_stepBy_39 : decode cX10_stepBy 39 = .ok (.iconst 1, 1) := dk_4 (dk_at dksX10_stepBy_1 15 rfl rfl)
theorem dX10_stepBy_40 : decode cX10_stepBy 40 = .ok (.iand, 1) := dk_126 (dk_at dksX10_stepBy_1 16 rfl rfl)
theorem dX10_stepBy_41 : decode cX10_stepBy 41 = .ok (.iconst 1, 1) := dk_4 (dk_at dksX10_stepBy_1 17 rfl rfl)
theorem dX10_stepBy_42 : decode cX10_stepBy 42 = .ok (.if_icmp .ne 16, 3) := dk_160 0 16 (dk_at dksX10_stepBy_1 18 rfl rfl)
theorem dX10_stepBy_45 : decode cX10_stepBy 45 = .ok (.aload_n 0, 1) := dk_42 (dk_at dksX10_stepBy_1 21 rfl rfl)
theorem dX10_stepBy_46 : decode cX10_stepBy 46 = .ok (.getfield 3, 3) := dk_180 0 3 (dk_at dksX10_stepBy_2 0 rfl rfl)
theorem dX10_stepBy_49 : decode cX10_stepBy 49 = .ok (.getfield 54, 3) := dk_180 0 54 (dk_at dksX10_stepBy_2 3 rfl rfl)
theorem dX10_stepBy_52 : decode cX10_stepBy 52 = .ok (.iload 6, 2) := dk_21 6 (dk_at dksX10_stepBy_2 6 rfl rfl)
theorem dX10_stepBy_54 : decode cX10_stepBy 54 = .ok (.iaload, 1) := dk_46 (dk_at dksX10_stepBy_2 8 rfl rfl)
theorem dX10_stepBy_55 : decode cX10_stepBy 55 = .ok (.goto 5, 3) := dk_167 0 5 (dk_at dksX10_stepBy_2 9 rfl rfl)
theorem dX10_stepBy_58 : decode cX10_stepBy 58 = .ok (.iload 6, 2) := dk_21 6 (dk_at dksX10_stepBy_2 12 rfl rfl)
theorem dX10_stepBy_60 : decode cX10_stepBy 60 = .ok (.ishl, 1) := dk_120 (dk_at dksX10_stepBy_2 14 rfl rfl)
theorem dX10_stepBy_61 : decode cX10_stepBy 61 = .ok (.istore 7, 2) := dk_54 7 (dk_at dksX10_stepBy_2 15 rfl rfl)
theorem dX10_stepBy_63 : decode cX10_stepBy 63 = .ok (.iload 5, 2) := dk_21 5 (dk_at dksX10_stepBy_2 17 rfl rfl)
theorem dX10_stepBy_65 : decode cX10_stepBy 65 = .ok (.iload 4, 2) := dk_21 4 (dk_at dksX10_stepBy_2 19 rfl rfl)
theorem dX10_stepBy_67 : decode cX10_stepBy 67 = .ok (.iload 7, 2) := dk_21 7 (dk_at dksX10_stepBy_2 21 rfl rfl)
theorem dX10_stepBy_69 : decode cX10_stepBy 69 = .ok (.iand, 1) := dk_126 (dk_at dksX10_stepBy_2 23 rfl rfl)
theorem dX10_stepBy_70 : decode cX10_stepBy 70 = .ok (.iload_n 2, 1) := dk_28 (dk_at dksX10_stepBy_3 0 rfl rfl)
theorem dX10_stepBy_71 : decode cX10_stepBy 71 = .ok (.iload 6, 2) := dk_21 6 (dk_at dksX10_stepBy_3 1 rfl rfl)
theorem dX10_stepBy_73 : decode cX10_stepBy 73 = .ok (.ishr, 1) := dk_122 (dk_at dksX10_stepBy_3 3 rfl rfl)
theorem dX10_stepBy_74 : decode cX10_stepBy 74 = .ok (.iconst 1, 1) := dk_4 (dk_at dksX10_stepBy_3 4 rfl rfl)
theorem dX10_stepBy_75 : decode cX10_stepBy 75 = .ok (.iand, 1) := dk_126 (dk_at dksX10_stepBy_3 5 rfl rfl)
theorem dX10_stepBy_76 : decode cX10_stepBy 76 = .ok (.iconst 1, 1) := dk_4 (dk_at dksX10_stepBy_3 6 rfl rfl)
theorem dX10_stepBy_77 : decode cX10_stepBy 77 = .ok (.if_icmp .ne 8, 3) := dk_160 0 8 (dk_at dksX10_stepBy_3 7 rfl rfl)
theorem dX10_stepBy_80 : decode cX10_stepBy 80 = .ok (.iload 7, 2) := dk_21 7 (dk_at dksX10_stepBy_3 10 rfl rfl)
theorem dX10_stepBy_82 : decode cX10_stepBy 82 = .ok (.goto 4, 3) := dk_167 0 4 (dk_at dksX10_stepBy_3 12 rfl rfl)
theorem dX10_stepBy_85 : decode cX10_stepBy 85 = .ok (.iconst 0, 1) := dk_3 (dk_at dksX10_stepBy_3 15 rfl rfl)
theorem dX10_stepBy_86 : decode cX10_stepBy 86 = .ok (.ior, 1) := dk_128 (dk_at dksX10_stepBy_3 16 rfl rfl)
theorem dX10_stepBy_87 : decode cX10_stepBy 87 = .ok (.ior, 1) := dk_128 (dk_at dksX10_stepBy_3 17 rfl rfl)
theorem dX10_stepBy_88 : decode cX10_stepBy 88 = .ok (.istore 5, 2) := dk_54 5 (dk_at dksX10_stepBy_3 18 rfl rfl)
theorem dX10_stepBy_90 : decode cX10_stepBy 90 = .ok (.iload 4, 2) := dk_21 4 (dk_at dksX10_stepBy_3 20 rfl rfl)
theorem dX10_stepBy_92 : decode cX10_stepBy 92 = .ok (.iload 7, 2) := dk_21 7 (dk_at dksX10_stepBy_3 22 rfl rfl)
theorem dX10_stepBy_94 : decode cX10_stepBy 94 = .ok (.ior, 1) := dk_128 (dk_at dksX10_stepBy_4 0 rfl rfl)
theorem dX10_stepBy_95 : decode cX10_stepBy 95 = .ok (.istore 4, 2) := dk_54 4 (dk_at dksX10_stepBy_4 1 rfl rfl)
theorem dX10_stepBy_97 : decode cX10_stepBy 97 = .ok (.iinc 6 1, 3) := dk_132 6 1 (dk_at dksX10_stepBy_4 3 rfl rfl)
theorem dX10_stepBy_100 : decode cX10_stepBy 100 = .ok (.goto (-91), 3) := dk_167 255 165 (dk_at dksX10_stepBy_4 6 rfl rfl)
theorem dX10_stepBy_103 : decode cX10_stepBy 103 = .ok (.aload_n 0, 1) := dk_42 (dk_at dksX10_stepBy_4 9 rfl rfl)
theorem dX10_stepBy_104 : decode cX10_stepBy 104 = .ok (.iload 4, 2) := dk_21 4 (dk_at dksX10_stepBy_4 10 rfl rfl)
theorem dX10_stepBy_106 : decode cX10_stepBy 106 = .ok (.iload 5, 2) := dk_21 5 (dk_at dksX10_stepBy_4 12 rfl rfl)
theorem dX10_stepBy_108 : decode cX10_stepBy 108 = .ok (.invokevirtual 64, 3) := dk_182 0 64 (dk_at dksX10_stepBy_4 14 rfl rfl)
theorem dX10_stepBy_111 : decode cX10_stepBy 111 = .ok (.ireturn, 1) := dk_172 (dk_at dksX10_stepBy_4 17 rfl rfl)
abbrev cX10_sooner : ByteArray := prog_12_method_7_code
def yX10_sooner : MethodName := ⟨RX10, "sooner", "(I)Z"⟩
def dkwX10_sooner_5 : List UInt8 := [167, 255, 161, 42, 180, 0, 3, 180, 0, 97, 27, 46, 28, 159, 0, 7, 4, 167, 0, 4, 3, 172]
abbrev dktX10_sooner_5 : List UInt8 := dkwX10_sooner_5 ++ []
def dkwX10_sooner_4 : List UInt8 := [162, 0, 10, 21, 4, 4, 96, 167, 0, 12, 42, 180, 0, 3, 180, 0, 97, 27, 46, 79, 132, 3, 1]
abbrev dktX10_sooner_4 : List UInt8 := dkwX10_sooner_4 ++ dktX10_sooner_5
def dkwX10_sooner_3 : List UInt8 := [180, 0, 3, 180, 0, 97, 27, 46, 155, 0, 19, 21, 4, 4, 96, 42, 180, 0, 3, 180, 0, 97, 27, 46]
abbrev dktX10_sooner_3 : List UInt8 := dkwX10_sooner_3 ++ dktX10_sooner_4
def dkwX10_sooner_2 : List UInt8 := [180, 0, 91, 29, 46, 46, 54, 4, 42, 180, 0, 3, 180, 0, 97, 27, 21, 4, 155, 0, 38, 42]
abbrev dktX10_sooner_2 : List UInt8 := dkwX10_sooner_2 ++ dktX10_sooner_3
def dkwX10_sooner_1 : List UInt8 := [180, 0, 3, 180, 0, 73, 27, 4, 96, 46, 162, 0, 86, 42, 180, 0, 3, 180, 0, 97, 42, 180, 0, 3]
abbrev dktX10_sooner_1 : List UInt8 := dkwX10_sooner_1 ++ dktX10_sooner_2
def dkwX10_sooner_0 : List UInt8 := [42, 180, 0, 3, 180, 0, 97, 27, 46, 61, 42, 180, 0, 3, 180, 0, 73, 27, 46, 62, 29, 42]
abbrev dktX10_sooner_0 : List UInt8 := dkwX10_sooner_0 ++ dktX10_sooner_1
theorem dksX10_sooner_0 : cX10_sooner.data.toList.drop 0 = dktX10_sooner_0 := by decide +kernel
theorem dksX10_sooner_1 : cX10_sooner.data.toList.drop 22 = dktX10_sooner_1 := dk_seg dksX10_sooner_0 22 rfl rfl
theorem dksX10_sooner_2 : cX10_sooner.data.toList.drop 46 = dktX10_sooner_2 := dk_seg dksX10_sooner_1 24 rfl rfl
theorem dksX10_sooner_3 : cX10_sooner.data.toList.drop 68 = dktX10_sooner_3 := dk_seg dksX10_sooner_2 22 rfl rfl
theorem dksX10_sooner_4 : cX10_sooner.data.toList.drop 92 = dktX10_sooner_4 := dk_seg dksX10_sooner_3 24 rfl rfl
theorem dksX10_sooner_5 : cX10_sooner.data.toList.drop 115 = dktX10_sooner_5 := dk_seg dksX10_sooner_4 23 rfl rfl
theorem dX10_sooner_0 : decode cX10_sooner 0 = .ok (.aload_n 0, 1) := dk_42 (dk_at dksX10_sooner_0 0 rfl rfl)
theorem dX10_sooner_1 : decode cX10_sooner 1 = .ok (.getfield 3, 3) := dk_180 0 3 (dk_at dksX10_sooner_0 1 rfl rfl)
theorem dX10_sooner_4 : decode cX10_sooner 4 = .ok (.getfield 97, 3) := dk_180 0 97 (dk_at dksX10_sooner_0 4 rfl rfl)
theorem dX10_sooner_7 : decode cX10_sooner 7 = .ok (.iload_n 1, 1) := dk_27 (dk_at dksX10_sooner_0 7 rfl rfl)
theorem dX10_sooner_8 : decode cX10_sooner 8 = .ok (.iaload, 1) := dk_46 (dk_at dksX10_sooner_0 8 rfl rfl)
theorem dX10_sooner_9 : decode cX10_sooner 9 = .ok (.istore_n 2, 1) := dk_61 (dk_at dksX10_sooner_0 9 rfl rfl)
theorem dX10_sooner_10 : decode cX10_sooner 10 = .ok (.aload_n 0, 1) := dk_42 (dk_at dksX10_sooner_0 10 rfl rfl)
theorem dX10_sooner_11 : decode cX10_sooner 11 = .ok (.getfield 3, 3) := dk_180 0 3 (dk_at dksX10_sooner_0 11 rfl rfl)
theorem dX10_sooner_14 : decode cX10_sooner 14 = .ok (.getfield 73, 3) := dk_180 0 73 (dk_at dksX10_sooner_0 14 rfl rfl)
theorem dX10_sooner_17 : decode cX10_sooner 17 = .ok (.iload_n 1, 1) := dk_27 (dk_at dksX10_sooner_0 17 rfl rfl)
theorem dX10_sooner_18 : decode cX10_sooner 18 = .ok (.iaload, 1) := dk_46 (dk_at dksX10_sooner_0 18 rfl rfl)
theorem dX10_sooner_19 : decode cX10_sooner 19 = .ok (.istore_n 3, 1) := dk_62 (dk_at dksX10_sooner_0 19 rfl rfl)
theorem dX10_sooner_20 : decode cX10_sooner 20 = .ok (.iload_n 3, 1) := dk_29 (dk_at dksX10_sooner_0 20 rfl rfl)
theorem dX10_sooner_21 : decode cX10_sooner 21 = .ok (.aload_n 0, 1) := dk_42 (dk_at dksX10_sooner_0 21 rfl rfl)
theorem dX10_sooner_22 : decode cX10_sooner 22 = .ok (.getfield 3, 3) := dk_180 0 3 (dk_at dksX10_sooner_1 0 rfl rfl)
theorem dX10_sooner_25 : decode cX10_sooner 25 = .ok (.getfield 73, 3) := dk_180 0 73 (dk_at dksX10_sooner_1 3 rfl rfl)
theorem dX10_sooner_28 : decode cX10_sooner 28 = .ok (.iload_n 1, 1) := dk_27 (dk_at dksX10_sooner_1 6 rfl rfl)
theorem dX10_sooner_29 : decode cX10_sooner 29 = .ok (.iconst 1, 1) := dk_4 (dk_at dksX10_sooner_1 7 rfl rfl)
theorem dX10_sooner_30 : decode cX10_sooner 30 = .ok (.iadd, 1) := dk_96 (dk_at dksX10_sooner_1 8 rfl rfl)
theorem dX10_sooner_31 : decode cX10_sooner 31 = .ok (.iaload, 1) := dk_46 (dk_at dksX10_sooner_1 9 rfl rfl)
theorem dX10_sooner_32 : decode cX10_sooner 32 = .ok (.if_icmp .ge 86, 3) := dk_162 0 86 (dk_at dksX10_sooner_1 10 rfl rfl)
theorem dX10_sooner_35 : decode cX10_sooner 35 = .ok (.aload_n 0, 1) := dk_42 (dk_at dksX10_sooner_1 13 rfl rfl)
theorem dX10_sooner_36 : decode cX10_sooner 36 = .ok (.getfield 3, 3) := dk_180 0 3 (dk_at dksX10_sooner_1 14 rfl rfl)
theorem dX10_sooner_39 : decode cX10_sooner 39 = .ok (.getfield 97, 3) := dk_180 0 97 (dk_at dksX10_sooner_1 17 rfl rfl)
theorem dX10_sooner_42 : decode cX10_sooner 42 = .ok (.aload_n 0, 1) := dk_42 (dk_at dksX10_sooner_1 20 rfl rfl)
theorem dX10_sooner_43 : decode cX10_sooner 43 = .ok (.getfield 3, 3) := dk_180 0 3 (dk_at dksX10_sooner_1 21 rfl rfl)
theorem dX10_sooner_46 : decode cX10_sooner 46 = .ok (.getfield 91, 3) := dk_180 0 91 (dk_at dksX10_sooner_2 0 rfl rfl)
theorem dX10_sooner_49 : decode cX10_sooner 49 = .ok (.iload_n 3, 1) := dk_29 (dk_at dksX10_sooner_2 3 rfl rfl)
theorem dX10_sooner_50 : decode cX10_sooner 50 = .ok (.iaload, 1) := dk_46 (dk_at dksX10_sooner_2 4 rfl rfl)
theorem dX10_sooner_51 : decode cX10_sooner 51 = .ok (.iaload, 1) := dk_46 (dk_at dksX10_sooner_2 5 rfl rfl)
theorem dX10_sooner_52 : decode cX10_sooner 52 = .ok (.istore 4, 2) := dk_54 4 (dk_at dksX10_sooner_2 6 rfl rfl)
theorem dX10_sooner_54 : decode cX10_sooner 54 = .ok (.aload_n 0, 1) := dk_42 (dk_at dksX10_sooner_2 8 rfl rfl)
theorem dX10_sooner_55 : decode cX10_sooner 55 = .ok (.getfield 3, 3) := dk_180 0 3 (dk_at dksX10_sooner_2 9 rfl rfl)
theorem dX10_sooner_58 : decode cX10_sooner 58 = .ok (.getfield 97, 3) := dk_180 0 97 (dk_at dksX10_sooner_2 12 rfl rfl)
theorem dX10_sooner_61 : decode cX10_sooner 61 = .ok (.iload_n 1, 1) := dk_27 (dk_at dksX10_sooner_2 15 rfl rfl)
theorem dX10_sooner_62 : decode cX10_sooner 62 = .ok (.iload 4, 2) := dk_21 4 (dk_at dksX10_sooner_2 16 rfl rfl)
theorem dX10_sooner_64 : decode cX10_sooner 64 = .ok (.ifCond .lt 38, 3) := dk_155 0 38 (dk_at dksX10_sooner_2 18 rfl rfl)
theorem dX10_sooner_67 : decode cX10_sooner 67 = .ok (.aload_n 0, 1) := dk_42 (dk_at dksX10_sooner_2 21 rfl rfl)
theorem dX10_sooner_68 : decode cX10_sooner 68 = .ok (.getfield 3, 3) := dk_180 0 3 (dk_at dksX10_sooner_3 0 rfl rfl)
theorem dX10_sooner_71 : decode cX10_sooner 71 = .ok (.getfield 97, 3) := dk_180 0 97 (dk_at dksX10_sooner_3 3 rfl rfl)
theorem dX10_sooner_74 : decode cX10_sooner 74 = .ok (.iload_n 1, 1) := dk_27 (dk_at dksX10_sooner_3 6 rfl rfl)
theorem dX10_sooner_75 : decode cX10_sooner 75 = .ok (.iaload, 1) := dk_46 (dk_at dksX10_sooner_3 7 rfl rfl)
theorem dX10_sooner_76 : decode cX10_sooner 76 = .ok (.ifCond .lt 19, 3) := dk_155 0 19 (dk_at dksX10_sooner_3 8 rfl rfl)
theorem dX10_sooner_79 : decode cX10_sooner 79 = .ok (.iload 4, 2) := dk_21 4 (dk_at dksX10_sooner_3 11 rfl rfl)
theorem dX10_sooner_81 : decode cX10_sooner 81 = .ok (.iconst 1, 1) := dk_4 (dk_at dksX10_sooner_3 13 rfl rfl)
theorem dX10_sooner_82 : decode cX10_sooner 82 = .ok (.iadd, 1) := dk_96 (dk_at dksX10_sooner_3 14 rfl rfl)
theorem dX10_sooner_83 : decode cX10_sooner 83 = .ok (.aload_n 0, 1) := dk_42 (dk_at dksX10_sooner_3 15 rfl rfl)
theorem dX10_sooner_84 : decode cX10_sooner 84 = .ok (.getfield 3, 3) := dk_180 0 3 (dk_at dksX10_sooner_3 16 rfl rfl)
theorem dX10_sooner_87 : decode cX10_sooner 87 = .ok (.getfield 97, 3) := dk_180 0 97 (dk_at dksX10_sooner_3 19 rfl rfl)
theorem dX10_sooner_90 : decode cX10_sooner 90 = .ok (.iload_n 1, 1) := dk_27 (dk_at dksX10_sooner_3 22 rfl rfl)
theorem dX10_sooner_91 : decode cX10_sooner 91 = .ok (.iaload, 1) := dk_46 (dk_at dksX10_sooner_3 23 rfl rfl)
theorem dX10_sooner_92 : decode cX10_sooner 92 = .ok (.if_icmp .ge 10, 3) := dk_162 0 10 (dk_at dksX10_sooner_4 0 rfl rfl)
theorem dX10_sooner_95 : decode cX10_sooner 95 = .ok (.iload 4, 2) := dk_21 4 (dk_at dksX10_sooner_4 3 rfl rfl)
theorem dX10_sooner_97 : decode cX10_sooner 97 = .ok (.iconst 1, 1) := dk_4 (dk_at dksX10_sooner_4 5 rfl rfl)
theorem dX10_sooner_98 : decode cX10_sooner 98 = .ok (.iadd, 1) := dk_96 (dk_at dksX10_sooner_4 6 rfl rfl)
theorem dX10_sooner_99 : decode cX10_sooner 99 = .ok (.goto 12, 3) := dk_167 0 12 (dk_at dksX10_sooner_4 7 rfl rfl)
theorem dX10_sooner_102 : decode cX10_sooner 102 = .ok (.aload_n 0, 1) := dk_42 (dk_at dksX10_sooner_4 10 rfl rfl)
theorem dX10_sooner_103 : decode cX10_sooner 103 = .ok (.getfield 3, 3) := dk_180 0 3 (dk_at dksX10_sooner_4 11 rfl rfl)
theorem dX10_sooner_106 : decode cX10_sooner 106 = .ok (.getfield 97, 3) := dk_180 0 97 (dk_at dksX10_sooner_4 14 rfl rfl)
theorem dX10_sooner_109 : decode cX10_sooner 109 = .ok (.iload_n 1, 1) := dk_27 (dk_at dksX10_sooner_4 17 rfl rfl)
theorem dX10_sooner_110 : decode cX10_sooner 110 = .ok (.iaload, 1) := dk_46 (dk_at dksX10_sooner_4 18 rfl rfl)
theorem dX10_sooner_111 : decode cX10_sooner 111 = .ok (.iastore, 1) := dk_79 (dk_at dksX10_sooner_4 19 rfl rfl)
theorem dX10_sooner_112 : decode cX10_sooner 112 = .ok (.iinc 3 1, 3) := dk_132 3 1 (dk_at dksX10_sooner_4 20 rfl rfl)
theorem dX10_sooner_115 : decode cX10_sooner 115 = .ok (.goto (-95), 3) := dk_167 255 161 (dk_at dksX10_sooner_5 0 rfl rfl)
theorem dX10_sooner_118 : decode cX10_sooner 118 = .ok (.aload_n 0, 1) := dk_42 (dk_at dksX10_sooner_5 3 rfl rfl)
theorem dX10_sooner_119 : decode cX10_sooner 119 = .ok (.getfield 3, 3) := dk_180 0 3 (dk_at dksX10_sooner_5 4 rfl rfl)
theorem dX10_sooner_122 : decode cX10_sooner 122 = .ok (.getfield 97, 3) := dk_180 0 97 (dk_at dksX10_sooner_5 7 rfl rfl)
theorem dX10_sooner_125 : decode cX10_sooner 125 = .ok (.iload_n 1, 1) := dk_27 (dk_at dksX10_sooner_5 10 rfl rfl)
theorem dX10_sooner_126 : decode cX10_sooner 126 = .ok (.iaload, 1) := dk_46 (dk_at dksX10_sooner_5 11 rfl rfl)
theorem dX10_sooner_127 : decode cX10_sooner 127 = .ok (.iload_n 2, 1) := dk_28 (dk_at dksX10_sooner_5 12 rfl rfl)
theorem dX10_sooner_128 : decode cX10_sooner 128 = .ok (.if_icmp .eq 7, 3) := dk_159 0 7 (dk_at dksX10_sooner_5 13 rfl rfl)
theorem dX10_sooner_131 : decode cX10_sooner 131 = .ok (.iconst 1, 1) := dk_4 (dk_at dksX10_sooner_5 16 rfl rfl)
theorem dX10_sooner_132 : decode cX10_sooner 132 = .ok (.goto 4, 3) := dk_167 0 4 (dk_at dksX10_sooner_5 17 rfl rfl)
theorem dX10_sooner_135 : decode cX10_sooner 135 = .ok (.iconst 0, 1) := dk_3 (dk_at dksX10_sooner_5 20 rfl rfl)
theorem dX10_sooner_136 : decode cX10_sooner 136 = .ok (.ireturn, 1) := dk_172 (dk_at dksX10_sooner_5 21 rfl rfl)
abbrev cX10_later : ByteArray := prog_12_method_8_code
def yX10_later : MethodName := ⟨RX10, "later", "(I)Z"⟩
def dkwX10_later_5 : List UInt8 := [180, 0, 3, 180, 0, 100, 27, 28, 4, 96, 79, 4, 172]
abbrev dktX10_later_5 : List UInt8 := dkwX10_later_5 ++ []
def dkwX10_later_4 : List UInt8 := [180, 0, 100, 42, 180, 0, 3, 180, 0, 91, 29, 46, 46, 184, 0, 109, 61, 132, 3, 1, 167, 255, 194, 42]
abbrev dktX10_later_4 : List UInt8 := dkwX10_later_4 ++ dktX10_later_5
def dkwX10_later_3 : List UInt8 := [180, 0, 100, 42, 180, 0, 3, 180, 0, 91, 29, 46, 46, 156, 0, 5, 3, 172, 28, 42, 180, 0, 3]
abbrev dktX10_later_3 : List UInt8 := dkwX10_later_3 ++ dktX10_later_4
def dkwX10_later_2 : List UInt8 := [27, 46, 62, 29, 42, 180, 0, 3, 180, 0, 73, 27, 4, 96, 46, 162, 0, 53, 42, 180, 0, 3]
abbrev dktX10_later_2 : List UInt8 := dkwX10_later_2 ++ dktX10_later_3
def dkwX10_later_1 : List UInt8 := [180, 0, 3, 180, 0, 73, 27, 4, 96, 46, 160, 0, 5, 3, 172, 3, 61, 42, 180, 0, 3, 180, 0, 73]
abbrev dktX10_later_1 : List UInt8 := dkwX10_later_1 ++ dktX10_later_2
def dkwX10_later_0 : List UInt8 := [42, 180, 0, 3, 180, 0, 100, 27, 46, 156, 0, 26, 42, 180, 0, 3, 180, 0, 73, 27, 46, 42]
abbrev dktX10_later_0 : List UInt8 := dkwX10_later_0 ++ dktX10_later_1
theorem dksX10_later_0 : cX10_later.data.toList.drop 0 = dktX10_later_0 := by decide +kernel
theorem dksX10_later_1 : cX10_later.data.toList.drop 22 = dktX10_later_1 := dk_seg dksX10_later_0 22 rfl rfl
theorem dksX10_later_2 : cX10_later.data.toList.drop 46 = dktX10_later_2 := dk_seg dksX10_later_1 24 rfl rfl
theorem dksX10_later_3 : cX10_later.data.toList.drop 68 = dktX10_later_3 := dk_seg dksX10_later_2 22 rfl rfl
theorem dksX10_later_4 : cX10_later.data.toList.drop 91 = dktX10_later_4 := dk_seg dksX10_later_3 23 rfl rfl
theorem dksX10_later_5 : cX10_later.data.toList.drop 115 = dktX10_later_5 := dk_seg dksX10_later_4 24 rfl rfl
theorem dX10_later_0 : decode cX10_later 0 = .ok (.aload_n 0, 1) := dk_42 (dk_at dksX10_later_0 0 rfl rfl)
theorem dX10_later_1 : decode cX10_later 1 = .ok (.getfield 3, 3) := dk_180 0 3 (dk_at dksX10_later_0 1 rfl rfl)
theorem dX10_later_4 : decode cX10_later 4 = .ok (.getfield 100, 3) := dk_180 0 100 (dk_at dksX10_later_0 4 rfl rfl)
theorem dX10_later_7 : decode cX10_later 7 = .ok (.iload_n 1, 1) := dk_27 (dk_at dksX10_later_0 7 rfl rfl)
theorem dX10_later_8 : decode cX10_later 8 = .ok (.iaload, 1) := dk_46 (dk_at dksX10_later_0 8 rfl rfl)
theorem dX10_later_9 : decode cX10_later 9 = .ok (.ifCond .ge 26, 3) := dk_156 0 26 (dk_at dksX10_later_0 9 rfl rfl)
theorem dX10_later_12 : decode cX10_later 12 = .ok (.aload_n 0, 1) := dk_42 (dk_at dksX10_later_0 12 rfl rfl)
theorem dX10_later_13 : decode cX10_later 13 = .ok (.getfield 3, 3) := dk_180 0 3 (dk_at dksX10_later_0 13 rfl rfl)
theorem dX10_later_16 : decode cX10_later 16 = .ok (.getfield 73, 3) := dk_180 0 73 (dk_at dksX10_later_0 16 rfl rfl)
theorem dX10_later_19 : decode cX10_later 19 = .ok (.iload_n 1, 1) := dk_27 (dk_at dksX10_later_0 19 rfl rfl)
theorem dX10_later_20 : decode cX10_later 20 = .ok (.iaload, 1) := dk_46 (dk_at dksX10_later_0 20 rfl rfl)
theorem dX10_later_21 : decode cX10_later 21 = .ok (.aload_n 0, 1) := dk_42 (dk_at dksX10_later_0 21 rfl rfl)
theorem dX10_later_22 : decode cX10_later 22 = .ok (.getfield 3, 3) := dk_180 0 3 (dk_at dksX10_later_1 0 rfl rfl)
theorem dX10_later_25 : decode cX10_later 25 = .ok (.getfield 73, 3) := dk_180 0 73 (dk_at dksX10_later_1 3 rfl rfl)
theorem dX10_later_28 : decode cX10_later 28 = .ok (.iload_n 1, 1) := dk_27 (dk_at dksX10_later_1 6 rfl rfl)
theorem dX10_later_29 : decode cX10_later 29 = .ok (.iconst 1, 1) := dk_4 (dk_at dksX10_later_1 7 rfl rfl)
theorem dX10_later_30 : decode cX10_later 30 = .ok (.iadd, 1) := dk_96 (dk_at dksX10_later_1 8 rfl rfl)
theorem dX10_later_31 : decode cX10_later 31 = .ok (.iaload, 1) := dk_46 (dk_at dksX10_later_1 9 rfl rfl)
theorem dX10_later_32 : decode cX10_later 32 = .ok (.if_icmp .ne 5, 3) := dk_160 0 5 (dk_at dksX10_later_1 10 rfl rfl)
theorem dX10_later_35 : decode cX10_later 35 = .ok (.iconst 0, 1) := dk_3 (dk_at dksX10_later_1 13 rfl rfl)
theorem dX10_later_36 : decode cX10_later 36 = .ok (.ireturn, 1) := dk_172 (dk_at dksX10_later_1 14 rfl rfl)
theorem dX10_later_37 : decode cX10_later 37 = .ok (.iconst 0, 1) := dk_3 (dk_at dksX10_later_1 15 rfl rfl)
theorem dX10_later_38 : decode cX10_later 38 = .ok (.istore_n 2, 1) := dk_61 (dk_at dksX10_later_1 16 rfl rfl)
theorem dX10_later_39 : decode cX10_later 39 = .ok (.aload_n 0, 1) := dk_42 (dk_at dksX10_later_1 17 rfl rfl)
theorem dX10_later_40 : decode cX10_later 40 = .ok (.getfield 3, 3) := dk_180 0 3 (dk_at dksX10_later_1 18 rfl rfl)
theorem dX10_later_43 : decode cX10_later 43 = .ok (.getfield 73, 3) := dk_180 0 73 (dk_at dksX10_later_1 21 rfl rfl)
theorem dX10_later_46 : decode cX10_later 46 = .ok (.iload_n 1, 1) := dk_27 (dk_at dksX10_later_2 0 rfl rfl)
theorem dX10_later_47 : decode cX10_later 47 = .ok (.iaload, 1) := dk_46 (dk_at dksX10_later_2 1 rfl rfl)
theorem dX10_later_48 : decode cX10_later 48 = .ok (.istore_n 3, 1) := dk_62 (dk_at dksX10_later_2 2 rfl rfl)
theorem dX10_later_49 : decode cX10_later 49 = .ok (.iload_n 3, 1) := dk_29 (dk_at dksX10_later_2 3 rfl rfl)
theorem dX10_later_50 : decode cX10_later 50 = .ok (.aload_n 0, 1) := dk_42 (dk_at dksX10_later_2 4 rfl rfl)
theorem dX10_later_51 : decode cX10_later 51 = .ok (.getfield 3, 3) := dk_180 0 3 (dk_at dksX10_later_2 5 rfl rfl)
theorem dX10_later_54 : decode cX10_later 54 = .ok (.getfield 73, 3) := dk_180 0 73 (dk_at dksX10_later_2 8 rfl rfl)
theorem dX10_later_57 : decode cX10_later 57 = .ok (.iload_n 1, 1) := dk_27 (dk_at dksX10_later_2 11 rfl rfl)
theorem dX10_later_58 : decode cX10_later 58 = .ok (.iconst 1, 1) := dk_4 (dk_at dksX10_later_2 12 rfl rfl)
theorem dX10_later_59 : decode cX10_later 59 = .ok (.iadd, 1) := dk_96 (dk_at dksX10_later_2 13 rfl rfl)
theorem dX10_later_60 : decode cX10_later 60 = .ok (.iaload, 1) := dk_46 (dk_at dksX10_later_2 14 rfl rfl)
theorem dX10_later_61 : decode cX10_later 61 = .ok (.if_icmp .ge 53, 3) := dk_162 0 53 (dk_at dksX10_later_2 15 rfl rfl)
theorem dX10_later_64 : decode cX10_later 64 = .ok (.aload_n 0, 1) := dk_42 (dk_at dksX10_later_2 18 rfl rfl)
theorem dX10_later_65 : decode cX10_later 65 = .ok (.getfield 3, 3) := dk_180 0 3 (dk_at dksX10_later_2 19 rfl rfl)
theorem dX10_later_68 : decode cX10_later 68 = .ok (.getfield 100, 3) := dk_180 0 100 (dk_at dksX10_later_3 0 rfl rfl)
theorem dX10_later_71 : decode cX10_later 71 = .ok (.aload_n 0, 1) := dk_42 (dk_at dksX10_later_3 3 rfl rfl)
theorem dX10_later_72 : decode cX10_later 72 = .ok (.getfield 3, 3) := dk_180 0 3 (dk_at dksX10_later_3 4 rfl rfl)
theorem dX10_later_75 : decode cX10_later 75 = .ok (.getfield 91, 3) := dk_180 0 91 (dk_at dksX10_later_3 7 rfl rfl)
theorem dX10_later_78 : decode cX10_later 78 = .ok (.iload_n 3, 1) := dk_29 (dk_at dksX10_later_3 10 rfl rfl)
theorem dX10_later_79 : decode cX10_later 79 = .ok (.iaload, 1) := dk_46 (dk_at dksX10_later_3 11 rfl rfl)
theorem dX10_later_80 : decode cX10_later 80 = .ok (.iaload, 1) := dk_46 (dk_at dksX10_later_3 12 rfl rfl)
theorem dX10_later_81 : decode cX10_later 81 = .ok (.ifCond .ge 5, 3) := dk_156 0 5 (dk_at dksX10_later_3 13 rfl rfl)
theorem dX10_later_84 : decode cX10_later 84 = .ok (.iconst 0, 1) := dk_3 (dk_at dksX10_later_3 16 rfl rfl)
theorem dX10_later_85 : decode cX10_later 85 = .ok (.ireturn, 1) := dk_172 (dk_at dksX10_later_3 17 rfl rfl)
theorem dX10_later_86 : decode cX10_later 86 = .ok (.iload_n 2, 1) := dk_28 (dk_at dksX10_later_3 18 rfl rfl)
theorem dX10_later_87 : decode cX10_later 87 = .ok (.aload_n 0, 1) := dk_42 (dk_at dksX10_later_3 19 rfl rfl)
theorem dX10_later_88 : decode cX10_later 88 = .ok (.getfield 3, 3) := dk_180 0 3 (dk_at dksX10_later_3 20 rfl rfl)
theorem dX10_later_91 : decode cX10_later 91 = .ok (.getfield 100, 3) := dk_180 0 100 (dk_at dksX10_later_4 0 rfl rfl)
theorem dX10_later_94 : decode cX10_later 94 = .ok (.aload_n 0, 1) := dk_42 (dk_at dksX10_later_4 3 rfl rfl)
theorem dX10_later_95 : decode cX10_later 95 = .ok (.getfield 3, 3) := dk_180 0 3 (dk_at dksX10_later_4 4 rfl rfl)
theorem dX10_later_98 : decode cX10_later 98 = .ok (.getfield 91, 3) := dk_180 0 91 (dk_at dksX10_later_4 7 rfl rfl)
theorem dX10_later_101 : decode cX10_later 101 = .ok (.iload_n 3, 1) := dk_29 (dk_at dksX10_later_4 10 rfl rfl)
theorem dX10_later_102 : decode cX10_later 102 = .ok (.iaload, 1) := dk_46 (dk_at dksX10_later_4 11 rfl rfl)
theorem dX10_later_103 : decode cX10_later 103 = .ok (.iaload, 1) := dk_46 (dk_at dksX10_later_4 12 rfl rfl)
theorem dX10_later_104 : decode cX10_later 104 = .ok (.invokestatic 109, 3) := dk_184 0 109 (dk_at dksX10_later_4 13 rfl rfl)
theorem dX10_later_107 : decode cX10_later 107 = .ok (.istore_n 2, 1) := dk_61 (dk_at dksX10_later_4 16 rfl rfl)
theorem dX10_later_108 : decode cX10_later 108 = .ok (.iinc 3 1, 3) := dk_132 3 1 (dk_at dksX10_later_4 17 rfl rfl)
theorem dX10_later_111 : decode cX10_later 111 = .ok (.goto (-62), 3) := dk_167 255 194 (dk_at dksX10_later_4 20 rfl rfl)
theorem dX10_later_114 : decode cX10_later 114 = .ok (.aload_n 0, 1) := dk_42 (dk_at dksX10_later_4 23 rfl rfl)
theorem dX10_later_115 : decode cX10_later 115 = .ok (.getfield 3, 3) := dk_180 0 3 (dk_at dksX10_later_5 0 rfl rfl)
theorem dX10_later_118 : decode cX10_later 118 = .ok (.getfield 100, 3) := dk_180 0 100 (dk_at dksX10_later_5 3 rfl rfl)
theorem dX10_later_121 : decode cX10_later 121 = .ok (.iload_n 1, 1) := dk_27 (dk_at dksX10_later_5 6 rfl rfl)
theorem dX10_later_122 : decode cX10_later 122 = .ok (.iload_n 2, 1) := dk_28 (dk_at dksX10_later_5 7 rfl rfl)
theorem dX10_later_123 : decode cX10_later 123 = .ok (.iconst 1, 1) := dk_4 (dk_at dksX10_later_5 8 rfl rfl)
theorem dX10_later_124 : decode cX10_later 124 = .ok (.iadd, 1) := dk_96 (dk_at dksX10_later_5 9 rfl rfl)
theorem dX10_later_125 : decode cX10_later 125 = .ok (.iastore, 1) := dk_79 (dk_at dksX10_later_5 10 rfl rfl)
theorem dX10_later_126 : decode cX10_later 126 = .ok (.iconst 1, 1) := dk_4 (dk_at dksX10_later_5 11 rfl rfl)
theorem dX10_later_127 : decode cX10_later 127 = .ok (.ireturn, 1) := dk_172 (dk_at dksX10_later_5 12 rfl rfl)
abbrev cX10_kind : ByteArray := prog_12_method_9_code
def yX10_kind : MethodName := ⟨RX10, "kind", "(I)I"⟩
def dkwX10_kind_1 : List UInt8 := [4, 167, 0, 20, 42, 180, 0, 3, 180, 0, 97, 27, 46, 155, 0, 7, 5, 167, 0, 4, 6, 172]
abbrev dktX10_kind_1 : List UInt8 := dkwX10_kind_1 ++ []
def dkwX10_kind_0 : List UInt8 := [42, 27, 182, 0, 76, 153, 0, 7, 3, 167, 0, 36, 42, 180, 0, 3, 180, 0, 100, 27, 46, 155, 0, 7]
abbrev dktX10_kind_0 : List UInt8 := dkwX10_kind_0 ++ dktX10_kind_1
theorem dksX10_kind_0 : cX10_kind.data.toList.drop 0 = dktX10_kind_0 := by decide +kernel
theorem dksX10_kind_1 : cX10_kind.data.toList.drop 24 = dktX10_kind_1 := dk_seg dksX10_kind_0 24 rfl rfl
theorem dX10_kind_0 : decode cX10_kind 0 = .ok (.aload_n 0, 1) := dk_42 (dk_at dksX10_kind_0 0 rfl rfl)
theorem dX10_kind_1 : decode cX10_kind 1 = .ok (.iload_n 1, 1) := dk_27 (dk_at dksX10_kind_0 1 rfl rfl)
theorem dX10_kind_2 : decode cX10_kind 2 = .ok (.invokevirtual 76, 3) := dk_182 0 76 (dk_at dksX10_kind_0 2 rfl rfl)
theorem dX10_kind_5 : decode cX10_kind 5 = .ok (.ifCond .eq 7, 3) := dk_153 0 7 (dk_at dksX10_kind_0 5 rfl rfl)
theorem dX10_kind_8 : decode cX10_kind 8 = .ok (.iconst 0, 1) := dk_3 (dk_at dksX10_kind_0 8 rfl rfl)
theorem dX10_kind_9 : decode cX10_kind 9 = .ok (.goto 36, 3) := dk_167 0 36 (dk_at dksX10_kind_0 9 rfl rfl)
theorem dX10_kind_12 : decode cX10_kind 12 = .ok (.aload_n 0, 1) := dk_42 (dk_at dksX10_kind_0 12 rfl rfl)
theorem dX10_kind_13 : decode cX10_kind 13 = .ok (.getfield 3, 3) := dk_180 0 3 (dk_at dksX10_kind_0 13 rfl rfl)
theorem dX10_kind_16 : decode cX10_kind 16 = .ok (.getfield 100, 3) := dk_180 0 100 (dk_at dksX10_kind_0 16 rfl rfl)
theorem dX10_kind_19 : decode cX10_kind 19 = .ok (.iload_n 1, 1) := dk_27 (dk_at dksX10_kind_0 19 rfl rfl)
theorem dX10_kind_20 : decode cX10_kind 20 = .ok (.iaload, 1) := dk_46 (dk_at dksX10_kind_0 20 rfl rfl)
theorem dX10_kind_21 : decode cX10_kind 21 = .ok (.ifCond .lt 7, 3) := dk_155 0 7 (dk_at dksX10_kind_0 21 rfl rfl)
theorem dX10_kind_24 : decode cX10_kind 24 = .ok (.iconst 1, 1) := dk_4 (dk_at dksX10_kind_1 0 rfl rfl)
theorem dX10_kind_25 : decode cX10_kind 25 = .ok (.goto 20, 3) := dk_167 0 20 (dk_at dksX10_kind_1 1 rfl rfl)
theorem dX10_kind_28 : decode cX10_kind 28 = .ok (.aload_n 0, 1) := dk_42 (dk_at dksX10_kind_1 4 rfl rfl)
theorem dX10_kind_29 : decode cX10_kind 29 = .ok (.getfield 3, 3) := dk_180 0 3 (dk_at dksX10_kind_1 5 rfl rfl)
theorem dX10_kind_32 : decode cX10_kind 32 = .ok (.getfield 97, 3) := dk_180 0 97 (dk_at dksX10_kind_1 8 rfl rfl)
theorem dX10_kind_35 : decode cX10_kind 35 = .ok (.iload_n 1, 1) := dk_27 (dk_at dksX10_kind_1 11 rfl rfl)
theorem dX10_kind_36 : decode cX10_kind 36 = .ok (.iaload, 1) := dk_46 (dk_at dksX10_kind_1 12 rfl rfl)
theorem dX10_kind_37 : decode cX10_kind 37 = .ok (.ifCond .lt 7, 3) := dk_155 0 7 (dk_at dksX10_kind_1 13 rfl rfl)
theorem dX10_kind_40 : decode cX10_kind 40 = .ok (.iconst 2, 1) := dk_5 (dk_at dksX10_kind_1 16 rfl rfl)
theorem dX10_kind_41 : decode cX10_kind 41 = .ok (.goto 4, 3) := dk_167 0 4 (dk_at dksX10_kind_1 17 rfl rfl)
theorem dX10_kind_44 : decode cX10_kind 44 = .ok (.iconst 3, 1) := dk_6 (dk_at dksX10_kind_1 20 rfl rfl)
theorem dX10_kind_45 : decode cX10_kind 45 = .ok (.ireturn, 1) := dk_172 (dk_at dksX10_kind_1 21 rfl rfl)
theorem q72 : (Jvm.Cond.initialized "RingMeets$Net") ∈ lw_all := lw_g (lw_at lw_m1 16 rfl) rfl
theorem q121 : (Jvm.Cond.fieldLinkNest "RingMeets$Net" (32 : Nat) "RingMeets$Desk" "cells" "I" "RingMeets") ∈ lw_tbl := lw_at lw_m1 65 rfl
theorem q169 : (Jvm.Cond.fieldLinkNest "RingMeets$Net" (28 : Nat) "RingMeets" "desk" "LRingMeets$Desk;" "RingMeets") ∈ lw_tbl := lw_at lw_m1 113 rfl
theorem q175 : (Jvm.Cond.fieldLinkNest "RingMeets$Net" (24 : Nat) "RingMeets" "numberOf" "[I" "RingMeets") ∈ lw_tbl := lw_at lw_m1 119 rfl
theorem q177 : (Jvm.Cond.fieldLinkNest "RingMeets$Net" (41 : Nat) "RingMeets" "standsOf" "[I" "RingMeets") ∈ lw_tbl := lw_at lw_m1 121 rfl
theorem q179 : (Jvm.Cond.fieldLinkNest "RingMeets$Net" (44 : Nat) "RingMeets" "towersOf" "[I" "RingMeets") ∈ lw_tbl := lw_at lw_m1 123 rfl
theorem q182 : (Jvm.Cond.fieldLinkNest "RingMeets$Net" (73 : Nat) "RingMeets" "firstStep" "[I" "RingMeets") ∈ lw_tbl := lw_at lw_m1 126 rfl
theorem q184 : (Jvm.Cond.fieldLinkNest "RingMeets$Net" (91 : Nat) "RingMeets" "steps" "[I" "RingMeets") ∈ lw_tbl := lw_at lw_m1 128 rfl
theorem q186 : (Jvm.Cond.fieldLinkNest "RingMeets$Net" (97 : Nat) "RingMeets" "soon" "[I" "RingMeets") ∈ lw_tbl := lw_at lw_m1 130 rfl
theorem q188 : (Jvm.Cond.fieldLinkNest "RingMeets$Net" (100 : Nat) "RingMeets" "late" "[I" "RingMeets") ∈ lw_tbl := lw_at lw_m1 132 rfl
theorem q189 : (Jvm.Cond.fieldLinkNest "RingMeets$Net" (54 : Nat) "RingMeets" "target" "[I" "RingMeets") ∈ lw_tbl := lw_at lw_m1 133 rfl
theorem q504 : (Jvm.Cond.instantiable "RingMeets$Net" (6 : Nat)) ∈ lw_all := lw_g (lw_at lw_m2 208 rfl) rfl
theorem q508 : (Jvm.Cond.instanceMethod ({ cls := "RingMeets$Net", name := "<init>", desc := "(LRingMeets;LRingMeets$Schedule;Z)V" } : Jvm.MethodName)) ∈ lw_all := lw_g (lw_at lw_m2 212 rfl) rfl
theorem q509 : (Jvm.Cond.code ({ cls := "RingMeets$Net", name := "<init>", desc := "(LRingMeets;LRingMeets$Schedule;Z)V" } : Jvm.MethodName) prog_12_method_1_code (5 : Nat) (Option.none : Option Jvm.ClassFile.FieldType)) ∈ lw_all := lw_g (lw_at lw_m2 213 rfl) rfl
theorem q510 : (Jvm.Cond.methodLink "RingMeets$Net" (9 : Nat) ({ cls := "java/lang/Object", name := "<init>", desc := "()V" } : Jvm.MethodName)) ∈ lw_all := lw_g (lw_at lw_m2 214 rfl) rfl
theorem q511 : (Jvm.Cond.constant "RingMeets$Net" (23 : Nat) (59049 : Int32)) ∈ lw_all := lw_g (lw_at lw_m2 215 rfl) rfl
theorem q512 : (Jvm.Cond.fieldLink "RingMeets$Net" (15 : Nat) "RingMeets$Net" "schedule" "LRingMeets$Schedule;") ∈ lw_all := lw_g (lw_at lw_m2 216 rfl) rfl
theorem q514 : (Jvm.Cond.fieldLink "RingMeets$Net" (19 : Nat) "RingMeets$Net" "isBlind" "Z") ∈ lw_all := lw_g (lw_at lw_m2 218 rfl) rfl
theorem q515 : (Jvm.Cond.fieldLink "RingMeets$Net" (38 : Nat) "RingMeets$Net" "states" "I") ∈ lw_all := lw_g (lw_at lw_m2 219 rfl) rfl
theorem q517 : (Jvm.Cond.fieldLink "RingMeets$Net" (83 : Nat) "RingMeets$Net" "stuck" "I") ∈ lw_all := lw_g (lw_at lw_m2 221 rfl) rfl
theorem q519 : (Jvm.Cond.fieldLink "RingMeets$Net" (51 : Nat) "RingMeets$Net" "used" "I") ∈ lw_all := lw_g (lw_at lw_m2 223 rfl) rfl
theorem q521 : (Jvm.Cond.fieldLink "RingMeets$Net" (3 : Nat) "RingMeets$Net" "this$0" "LRingMeets;") ∈ lw_all := lw_g (lw_at lw_m2 225 rfl) rfl
theorem q522 : (Jvm.Cond.laysFinal "RingMeets$Net" "RingMeets$Net" "schedule" "LRingMeets$Schedule;") ∈ lw_all := lw_g (lw_at lw_m2 226 rfl) rfl
theorem q523 : (Jvm.Cond.soleField "RingMeets$Net" "schedule") ∈ lw_all := lw_g (lw_at lw_m2 227 rfl) rfl
theorem q524 : (Jvm.Cond.laysFinal "RingMeets$Net" "RingMeets$Net" "isBlind" "Z") ∈ lw_all := lw_g (lw_at lw_m2 228 rfl) rfl
theorem q525 : (Jvm.Cond.soleField "RingMeets$Net" "isBlind") ∈ lw_all := lw_g (lw_at lw_m2 229 rfl) rfl
theorem q526 : (Jvm.Cond.lays "RingMeets$Net" "RingMeets$Net" "states" "I") ∈ lw_all := lw_g (lw_at lw_m2 230 rfl) rfl
theorem q527 : (Jvm.Cond.soleField "RingMeets$Net" "states") ∈ lw_all := lw_g (lw_at lw_m2 231 rfl) rfl
theorem q528 : (Jvm.Cond.lays "RingMeets$Net" "RingMeets$Net" "stuck" "I") ∈ lw_all := lw_g (lw_at lw_m2 232 rfl) rfl
theorem q529 : (Jvm.Cond.soleField "RingMeets$Net" "stuck") ∈ lw_all := lw_g (lw_at lw_m2 233 rfl) rfl
theorem q530 : (Jvm.Cond.lays "RingMeets$Net" "RingMeets$Net" "used" "I") ∈ lw_all := lw_g (lw_at lw_m2 234 rfl) rfl
theorem q531 : (Jvm.Cond.soleField "RingMeets$Net" "used") ∈ lw_all := lw_g (lw_at lw_m2 235 rfl) rfl
theorem q532 : (Jvm.Cond.laysFinal "RingMeets$Net" "RingMeets$Net" "this$0" "LRingMeets;") ∈ lw_all := lw_g (lw_at lw_m2 236 rfl) rfl
theorem q533 : (Jvm.Cond.soleField "RingMeets$Net" "this$0") ∈ lw_all := lw_g (lw_at lw_m2 237 rfl) rfl
theorem q534 : (Jvm.Cond.superclass "RingMeets$Net" "java/lang/Object") ∈ lw_all := lw_g (lw_at lw_m2 238 rfl) rfl
theorem q536 : (Jvm.Cond.instanceMethod ({ cls := "RingMeets$Net", name := "come", desc := "(II)I" } : Jvm.MethodName)) ∈ lw_all := lw_g (lw_at lw_m3 0 rfl) rfl
theorem q537 : (Jvm.Cond.selects "RingMeets$Net" ({ cls := "RingMeets$Net", name := "come", desc := "(II)I" } : Jvm.MethodName) ({ cls := "RingMeets$Net", name := "come", desc := "(II)I" } : Jvm.MethodName)) ∈ lw_all := lw_g (lw_at lw_m3 1 rfl) rfl
theorem q538 : (Jvm.Cond.code ({ cls := "RingMeets$Net", name := "come", desc := "(II)I" } : Jvm.MethodName) prog_12_method_2_code (5 : Nat) (Option.some Jvm.ClassFile.FieldType.int)) ∈ lw_all := lw_g (lw_at lw_m3 2 rfl) rfl
theorem q540 : (Jvm.Cond.instanceMethod ({ cls := "RingMeets$Net", name := "lay", desc := "()V" } : Jvm.MethodName)) ∈ lw_all := lw_g (lw_at lw_m3 4 rfl) rfl
theorem q541 : (Jvm.Cond.selects "RingMeets$Net" ({ cls := "RingMeets$Net", name := "lay", desc := "()V" } : Jvm.MethodName) ({ cls := "RingMeets$Net", name := "lay", desc := "()V" } : Jvm.MethodName)) ∈ lw_all := lw_g (lw_at lw_m3 5 rfl) rfl
theorem q542 : (Jvm.Cond.code ({ cls := "RingMeets$Net", name := "lay", desc := "()V" } : Jvm.MethodName) prog_12_method_6_code (5 : Nat) (Option.none : Option Jvm.ClassFile.FieldType)) ∈ lw_all := lw_g (lw_at lw_m3 6 rfl) rfl
theorem q543 : (Jvm.Cond.methodLink "RingMeets$Net" (76 : Nat) ({ cls := "RingMeets$Net", name := "hasMet", desc := "(I)Z" } : Jvm.MethodName)) ∈ lw_all := lw_g (lw_at lw_m3 7 rfl) rfl
theorem q544 : (Jvm.Cond.privateMethod ({ cls := "RingMeets$Net", name := "hasMet", desc := "(I)Z" } : Jvm.MethodName)) ∈ lw_tbl := lw_at lw_m3 8 rfl
theorem q545 : (Jvm.Cond.instanceMethod ({ cls := "RingMeets$Net", name := "hasMet", desc := "(I)Z" } : Jvm.MethodName)) ∈ lw_all := lw_g (lw_at lw_m3 9 rfl) rfl
theorem q546 : (Jvm.Cond.code ({ cls := "RingMeets$Net", name := "hasMet", desc := "(I)Z" } : Jvm.MethodName) prog_12_method_5_code (2 : Nat) (Option.some Jvm.ClassFile.FieldType.boolean)) ∈ lw_all := lw_g (lw_at lw_m3 10 rfl) rfl
theorem q547 : (Jvm.Cond.methodLink "RingMeets$Net" (68 : Nat) ({ cls := "java/lang/Integer", name := "bitCount", desc := "(I)I" } : Jvm.MethodName)) ∈ lw_all := lw_g (lw_at lw_m3 11 rfl) rfl
theorem q548 : (Jvm.Cond.methodLink "RingMeets$Net" (80 : Nat) ({ cls := "RingMeets$Net", name := "movers", desc := "(II)I" } : Jvm.MethodName)) ∈ lw_all := lw_g (lw_at lw_m3 12 rfl) rfl
theorem q549 : (Jvm.Cond.privateMethod ({ cls := "RingMeets$Net", name := "movers", desc := "(II)I" } : Jvm.MethodName)) ∈ lw_tbl := lw_at lw_m3 13 rfl
theorem q550 : (Jvm.Cond.instanceMethod ({ cls := "RingMeets$Net", name := "movers", desc := "(II)I" } : Jvm.MethodName)) ∈ lw_all := lw_g (lw_at lw_m3 14 rfl) rfl
theorem q551 : (Jvm.Cond.code ({ cls := "RingMeets$Net", name := "movers", desc := "(II)I" } : Jvm.MethodName) prog_12_method_3_code (6 : Nat) (Option.some Jvm.ClassFile.FieldType.int)) ∈ lw_all := lw_g (lw_at lw_m3 15 rfl) rfl
theorem q552 : (Jvm.Cond.methodLinkNest "RingMeets$Net" (47 : Nat) ({ cls := "RingMeets", name := "ruleOf", desc := "(III)I" } : Jvm.MethodName) "RingMeets") ∈ lw_tbl := lw_at lw_m3 16 rfl
theorem q553 : (Jvm.Cond.methodLinkNest "RingMeets$Net" (57 : Nat) ({ cls := "RingMeets", name := "doneBy", desc := "(I)I" } : Jvm.MethodName) "RingMeets") ∈ lw_tbl := lw_at lw_m3 17 rfl
theorem q554 : (Jvm.Cond.methodLinkNest "RingMeets$Net" (61 : Nat) ({ cls := "RingMeets", name := "goesTo", desc := "(III)I" } : Jvm.MethodName) "RingMeets") ∈ lw_tbl := lw_at lw_m3 18 rfl
theorem q555 : (Jvm.Cond.methodLink "RingMeets$Net" (86 : Nat) ({ cls := "RingMeets$Schedule", name := "next", desc := "(II)I" } : Jvm.MethodName)) ∈ lw_all := lw_g (lw_at lw_m3 19 rfl) rfl
theorem q570 : (Jvm.Cond.methodLink "RingMeets$Net" (94 : Nat) ({ cls := "RingMeets$Net", name := "stepBy", desc := "(III)I" } : Jvm.MethodName)) ∈ lw_all := lw_g (lw_at lw_m3 34 rfl) rfl
theorem q571 : (Jvm.Cond.instanceMethod ({ cls := "RingMeets$Net", name := "stepBy", desc := "(III)I" } : Jvm.MethodName)) ∈ lw_all := lw_g (lw_at lw_m3 35 rfl) rfl
theorem q572 : (Jvm.Cond.selects "RingMeets$Net" ({ cls := "RingMeets$Net", name := "stepBy", desc := "(III)I" } : Jvm.MethodName) ({ cls := "RingMeets$Net", name := "stepBy", desc := "(III)I" } : Jvm.MethodName)) ∈ lw_all := lw_g (lw_at lw_m3 36 rfl) rfl
theorem q573 : (Jvm.Cond.code ({ cls := "RingMeets$Net", name := "stepBy", desc := "(III)I" } : Jvm.MethodName) prog_12_method_4_code (8 : Nat) (Option.some Jvm.ClassFile.FieldType.int)) ∈ lw_all := lw_g (lw_at lw_m3 37 rfl) rfl
theorem q574 : (Jvm.Cond.methodLink "RingMeets$Net" (64 : Nat) ({ cls := "RingMeets$Net", name := "come", desc := "(II)I" } : Jvm.MethodName)) ∈ lw_all := lw_g (lw_at lw_m3 38 rfl) rfl
theorem q575 : (Jvm.Cond.methodLink "RingMeets$Net" (103 : Nat) ({ cls := "RingMeets$Net", name := "sooner", desc := "(I)Z" } : Jvm.MethodName)) ∈ lw_all := lw_g (lw_at lw_m3 39 rfl) rfl
theorem q576 : (Jvm.Cond.privateMethod ({ cls := "RingMeets$Net", name := "sooner", desc := "(I)Z" } : Jvm.MethodName)) ∈ lw_tbl := lw_at lw_m3 40 rfl
theorem q577 : (Jvm.Cond.instanceMethod ({ cls := "RingMeets$Net", name := "sooner", desc := "(I)Z" } : Jvm.MethodName)) ∈ lw_all := lw_g (lw_at lw_m3 41 rfl) rfl
theorem q578 : (Jvm.Cond.code ({ cls := "RingMeets$Net", name := "sooner", desc := "(I)Z" } : Jvm.MethodName) prog_12_method_7_code (5 : Nat) (Option.some Jvm.ClassFile.FieldType.boolean)) ∈ lw_all := lw_g (lw_at lw_m3 42 rfl) rfl
theorem q579 : (Jvm.Cond.methodLink "RingMeets$Net" (106 : Nat) ({ cls := "RingMeets$Net", name := "later", desc := "(I)Z" } : Jvm.MethodName)) ∈ lw_all := lw_g (lw_at lw_m3 43 rfl) rfl
theorem q580 : (Jvm.Cond.privateMethod ({ cls := "RingMeets$Net", name := "later", desc := "(I)Z" } : Jvm.MethodName)) ∈ lw_tbl := lw_at lw_m3 44 rfl
theorem q581 : (Jvm.Cond.instanceMethod ({ cls := "RingMeets$Net", name := "later", desc := "(I)Z" } : Jvm.MethodName)) ∈ lw_all := lw_g (lw_at lw_m3 45 rfl) rfl
theorem q582 : (Jvm.Cond.code ({ cls := "RingMeets$Net", name := "later", desc := "(I)Z" } : Jvm.MethodName) prog_12_method_8_code (4 : Nat) (Option.some Jvm.ClassFile.FieldType.boolean)) ∈ lw_all := lw_g (lw_at lw_m3 46 rfl) rfl
theorem q583 : (Jvm.Cond.methodLink "RingMeets$Net" (109 : Nat) ({ cls := "java/lang/Math", name := "max", desc := "(II)I" } : Jvm.MethodName)) ∈ lw_all := lw_g (lw_at lw_m3 47 rfl) rfl
theorem q587 : (Jvm.Cond.instanceMethod ({ cls := "RingMeets$Net", name := "kind", desc := "(I)I" } : Jvm.MethodName)) ∈ lw_all := lw_g (lw_at lw_m3 51 rfl) rfl
theorem q588 : (Jvm.Cond.selects "RingMeets$Net" ({ cls := "RingMeets$Net", name := "kind", desc := "(I)I" } : Jvm.MethodName) ({ cls := "RingMeets$Net", name := "kind", desc := "(I)I" } : Jvm.MethodName)) ∈ lw_all := lw_g (lw_at lw_m3 52 rfl) rfl
theorem q589 : (Jvm.Cond.code ({ cls := "RingMeets$Net", name := "kind", desc := "(I)I" } : Jvm.MethodName) prog_12_method_9_code (2 : Nat) (Option.some Jvm.ClassFile.FieldType.int)) ∈ lw_all := lw_g (lw_at lw_m3 53 rfl) rfl
theorem in_X10 : ∀ w ∈ wsX100, w ∈ lw_all := lw_in wsX100 [522, 524, 526, 528, 530, 532] (by decide +kernel) (by decide +kernel)
