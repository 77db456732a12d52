/-! FlyWheels -/
set_option maxRecDepth 100000
def RX0 : String := "FlyWheels"
def TX0 : u_T := fun k => match k with
  | 0 => ("FlyWheels", "kinds", "[LFlyWheels$Plain;", true)
  | 1 => ("FlyWheels", "now", "LFlyWheels$Shaft;", true)
  | 2 => ("FlyWheels", "tried", "LFlyWheels$Shaft;", true)
  | 3 => ("FlyWheels", "images", "[LFlyWheels$Shaft;", true)
  | 4 => ("FlyWheels", "kept", "I", false)
  | 5 => ("FlyWheels", "seen", "[I", true)
  | 6 => ("FlyWheels", "seenMany", "I", false)
  | 7 => ("FlyWheels", "doneThen", "I", false)
  | 8 => ("FlyWheels", "lackThen", "I", false)
  | 9 => ("FlyWheels", "lostThen", "I", false)
  | 10 => ("FlyWheels", "fastest", "I", false)
  | 11 => ("FlyWheels", "tape", "[B", true)
  | 12 => ("FlyWheels", "taped", "I", false)
  | 13 => ("FlyWheels", "fault", "I", false)
  | 14 => ("FlyWheels", "found", "I", false)
  | 15 => ("FlyWheels", "foundMuch", "I", false)
  | 16 => ("FlyWheels", "fullSum", "J", false)
  | 17 => ("FlyWheels", "doneSum", "J", false)
  | 18 => ("FlyWheels", "allWays", "J", false)
  | 19 => ("FlyWheels", "swung", "[I", true)
  | 20 => ("FlyWheels", "byLoss", "[I", true)
  | 21 => ("FlyWheels", "sheets", "[LFlyWheels$Sheet;", true)
  | _ => ("FlyWheels", "torn", "I", false)
def tyX0 : Nat → FieldType := fun k => match k with
  | 0 => .array (.object "FlyWheels$Plain")
  | 1 => .object "FlyWheels$Shaft"
  | 2 => .object "FlyWheels$Shaft"
  | 3 => .array (.object "FlyWheels$Shaft")
  | 4 => .int
  | 5 => .array .int
  | 6 => .int
  | 7 => .int
  | 8 => .int
  | 9 => .int
  | 10 => .int
  | 11 => .array .byte
  | 12 => .int
  | 13 => .int
  | 14 => .int
  | 15 => .int
  | 16 => .long
  | 17 => .long
  | 18 => .long
  | 19 => .array .int
  | 20 => .array .int
  | 21 => .array (.object "FlyWheels$Sheet")
  | _ => .int
abbrev wsX00 : List Cond := u_ws RX0 TX0 23
set_option maxRecDepth 100000 in
theorem nmX0 : ∀ a, a < 23 → ∀ b, b < 23 → a ≠ b → (TX0 a).2.1 ≠ (TX0 b).2.1 := by decide +kernel
set_option maxRecDepth 100000 in
theorem tyX0_ok : ∀ k, k < 23 → parseFieldDescriptor (TX0 k).2.2.1 = some (tyX0 k) := by decide +kernel
abbrev cX0_init : ByteArray := prog_1_method_12_code
def yX0_init : MethodName := ⟨RX0, "<init>", "()V"⟩
def dkwX0_init_7 : List UInt8 := [132, 1, 1, 167, 255, 235, 177]
abbrev dktX0_init_7 : List UInt8 := dkwX0_init_7 ++ []
def dkwX0_init_6 : List UInt8 := [181, 0, 157, 3, 60, 27, 7, 162, 0, 22, 42, 180, 0, 157, 27, 187, 0, 155, 89, 183, 0, 161, 83]
abbrev dktX0_init_6 : List UInt8 := dkwX0_init_6 ++ dktX0_init_7
def dkwX0_init_5 : List UInt8 := [42, 17, 0, 164, 188, 10, 181, 0, 149, 42, 17, 1, 154, 188, 10, 181, 0, 152, 42, 7, 189, 0, 155]
abbrev dktX0_init_5 : List UInt8 := dkwX0_init_5 ++ dktX0_init_6
def dkwX0_init_4 : List UInt8 := [183, 0, 133, 83, 181, 0, 137, 42, 16, 18, 188, 10, 181, 0, 141, 42, 17, 0, 160, 188, 8, 181, 0, 145]
abbrev dktX0_init_4 : List UInt8 := dkwX0_init_4 ++ dktX0_init_5
def dkwX0_init_3 : List UInt8 := [181, 0, 111, 42, 5, 189, 0, 21, 89, 3, 187, 0, 21, 89, 183, 0, 133, 83, 89, 4, 187, 0, 21, 89]
abbrev dktX0_init_3 : List UInt8 := dkwX0_init_3 ++ dktX0_init_4
def dkwX0_init_2 : List UInt8 := [83, 181, 0, 16, 42, 187, 0, 21, 89, 183, 0, 133, 181, 0, 134, 42, 187, 0, 21, 89, 183, 0, 133]
abbrev dktX0_init_2 : List UInt8 := dkwX0_init_2 ++ dktX0_init_3
def dkwX0_init_1 : List UInt8 := [89, 183, 0, 126, 83, 89, 5, 187, 0, 127, 89, 183, 0, 129, 83, 89, 6, 187, 0, 130, 89, 183, 0, 132]
abbrev dktX0_init_1 : List UInt8 := dkwX0_init_1 ++ dktX0_init_2
def dkwX0_init_0 : List UInt8 := [42, 183, 0, 118, 42, 7, 189, 0, 39, 89, 3, 187, 0, 39, 89, 183, 0, 123, 83, 89, 4, 187, 0, 124]
abbrev dktX0_init_0 : List UInt8 := dkwX0_init_0 ++ dktX0_init_1
theorem dksX0_init_0 : cX0_init.data.toList.drop 0 = dktX0_init_0 := by decide +kernel
theorem dksX0_init_1 : cX0_init.data.toList.drop 24 = dktX0_init_1 := dk_seg dksX0_init_0 24 rfl rfl
theorem dksX0_init_2 : cX0_init.data.toList.drop 48 = dktX0_init_2 := dk_seg dksX0_init_1 24 rfl rfl
theorem dksX0_init_3 : cX0_init.data.toList.drop 71 = dktX0_init_3 := dk_seg dksX0_init_2 23 rfl rfl
theorem dksX0_init_4 : cX0_init.data.toList.drop 95 = dktX0_init_4 := dk_seg dksX0_init_3 24 rfl rfl
theorem dksX0_init_5 : cX0_init.data.toList.drop 119 = dktX0_init_5 := dk_seg dksX0_init_4 24 rfl rfl
theorem dksX0_init_6 : cX0_init.data.toList.drop 142 = dktX0_init_6 := dk_seg dksX0_init_5 23 rfl rfl
theorem dksX0_init_7 : cX0_init.data.toList.drop 165 = dktX0_init_7 := dk_seg dksX0_init_6 23 rfl rfl
theorem dX0_init_0 : decode cX0_init 0 = .ok (.aload_n 0, 1) := dk_42 (dk_at dksX0_init_0 0 rfl rfl)
theorem dX0_init_1 : decode cX0_init 1 = .ok (.invokespecial 118, 3) := dk_183 0 118 (dk_at dksX0_init_0 1 rfl rfl)
theorem dX0_init_4 : decode cX0_init 4 = .ok (.aload_n 0, 1) := dk_42 (dk_at dksX0_init_0 4 rfl rfl)
theorem dX0_init_5 : decode cX0_init 5 = .ok (.iconst 4, 1) := dk_7 (dk_at dksX0_init_0 5 rfl rfl)
theorem dX0_init_6 : decode cX0_init 6 = .ok (.anewarray 39, 3) := dk_189 0 39 (dk_at dksX0_init_0 6 rfl rfl)
theorem dX0_init_9 : decode cX0_init 9 = .ok (.dup, 1) := dk_89 (dk_at dksX0_init_0 9 rfl rfl)
theorem dX0_init_10 : decode cX0_init 10 = .ok (.iconst 0, 1) := dk_3 (dk_at dksX0_init_0 10 rfl rfl)
theorem dX0_init_11 : decode cX0_init 11 = .ok (.new 39, 3) := dk_187 0 39 (dk_at dksX0_init_0 11 rfl rfl)
theorem dX0_init_14 : decode cX0_init 14 = .ok (.dup, 1) := dk_89 (dk_at dksX0_init_0 14 rfl rfl)
theorem dX0_init_15 : decode cX0_init 15 = .ok (.invokespecial 123, 3) := dk_183 0 123 (dk_at dksX0_init_0 15 rfl rfl)
theorem dX0_init_18 : decode cX0_init 18 = .ok (.aastore, 1) := dk_83 (dk_at dksX0_init_0 18 rfl rfl)
theorem dX0_init_19 : decode cX0_init 19 = .ok (.dup, 1) := dk_89 (dk_at dksX0_init_0 19 rfl rfl)
theorem dX0_init_20 : decode cX0_init 20 = .ok (.iconst 1, 1) := dk_4 (dk_at dksX0_init_0 20 rfl rfl)
theorem dX0_init_21 : decode cX0_init 21 = .ok (.new 124, 3) := dk_187 0 124 (dk_at dksX0_init_0 21 rfl rfl)
theorem dX0_init_24 : decode cX0_init 24 = .ok (.dup, 1) := dk_89 (dk_at dksX0_init_1 0 rfl rfl)
theorem dX0_init_25 : decode cX0_init 25 = .ok (.invokespecial 126, 3) := dk_183 0 126 (dk_at dksX0_init_1 1 rfl rfl)
theorem dX0_init_28 : decode cX0_init 28 = .ok (.aastore, 1) := dk_83 (dk_at dksX0_init_1 4 rfl rfl)
theorem dX0_init_29 : decode cX0_init 29 = .ok (.dup, 1) := dk_89 (dk_at dksX0_init_1 5 rfl rfl)
theorem dX0_init_30 : decode cX0_init 30 = .ok (.iconst 2, 1) := dk_5 (dk_at dksX0_init_1 6 rfl rfl)
theorem dX0_init_31 : decode cX0_init 31 = .ok (.new 127, 3) := dk_187 0 127 (dk_at dksX0_init_1 7 rfl rfl)
theorem dX0_init_34 : decode cX0_init 34 = .ok (.dup, 1) := dk_89 (dk_at dksX0_init_1 10 rfl rfl)
theorem dX0_init_35 : decode cX0_init 35 = .ok (.invokespecial 129, 3) := dk_183 0 129 (dk_at dksX0_init_1 11 rfl rfl)
theorem dX0_init_38 : decode cX0_init 38 = .ok (.aastore, 1) := dk_83 (dk_at dksX0_init_1 14 rfl rfl)
theorem dX0_init_39 : decode cX0_init 39 = .ok (.dup, 1) := dk_89 (dk_at dksX0_init_1 15 rfl rfl)
theorem dX0_init_40 : decode cX0_init 40 = .ok (.iconst 3, 1) := dk_6 (dk_at dksX0_init_1 16 rfl rfl)
theorem dX0_init_41 : decode cX0_init 41 = .ok (.new 130, 3) := dk_187 0 130 (dk_at dksX0_init_1 17 rfl rfl)
theorem dX0_init_44 : decode cX0_init 44 = .ok (.dup, 1) := dk_89 (dk_at dksX0_init_1 20 rfl rfl)
theorem dX0_init_45 : decode cX0_init 45 = .ok (.invokespecial 132, 3) := dk_183 0 132 (dk_at dksX0_init_1 21 rfl rfl)
theorem dX0_init_48 : decode cX0_init 48 = .ok (.aastore, 1) := dk_83 (dk_at dksX0_init_2 0 rfl rfl)
theorem dX0_init_49 : decode cX0_init 49 = .ok (.putfield 16, 3) := dk_181 0 16 (dk_at dksX0_init_2 1 rfl rfl)
theorem dX0_init_52 : decode cX0_init 52 = .ok (.aload_n 0, 1) := dk_42 (dk_at dksX0_init_2 4 rfl rfl)
theorem dX0_init_53 : decode cX0_init 53 = .ok (.new 21, 3) := dk_187 0 21 (dk_at dksX0_init_2 5 rfl rfl)
theorem dX0_init_56 : decode cX0_init 56 = .ok (.dup, 1) := dk_89 (dk_at dksX0_init_2 8 rfl rfl)
theorem dX0_init_57 : decode cX0_init 57 = .ok (.invokespecial 133, 3) := dk_183 0 133 (dk_at dksX0_init_2 9 rfl rfl)
theorem dX0_init_60 : decode cX0_init 60 = .ok (.putfield 134, 3) := dk_181 0 134 (dk_at dksX0_init_2 12 rfl rfl)
theorem dX0_init_63 : decode cX0_init 63 = .ok (.aload_n 0, 1) := dk_42 (dk_at dksX0_init_2 15 rfl rfl)
theorem dX0_init_64 : decode cX0_init 64 = .ok (.new 21, 3) := dk_187 0 21 (dk_at dksX0_init_2 16 rfl rfl)
theorem dX0_init_67 : decode cX0_init 67 = .ok (.dup, 1) := dk_89 (dk_at dksX0_init_2 19 rfl rfl)
theorem dX0_init_68 : decode cX0_init 68 = .ok (.invokespecial 133, 3) := dk_183 0 133 (dk_at dksX0_init_2 20 rfl rfl)
theorem dX0_init_71 : decode cX0_init 71 = .ok (.putfield 111, 3) := dk_181 0 111 (dk_at dksX0_init_3 0 rfl rfl)
theorem dX0_init_74 : decode cX0_init 74 = .ok (.aload_n 0, 1) := dk_42 (dk_at dksX0_init_3 3 rfl rfl)
theorem dX0_init_75 : decode cX0_init 75 = .ok (.iconst 2, 1) := dk_5 (dk_at dksX0_init_3 4 rfl rfl)
theorem dX0_init_76 : decode cX0_init 76 = .ok (.anewarray 21, 3) := dk_189 0 21 (dk_at dksX0_init_3 5 rfl rfl)
theorem dX0_init_79 : decode cX0_init 79 = .ok (.dup, 1) := dk_89 (dk_at dksX0_init_3 8 rfl rfl)
theorem dX0_init_80 : decode cX0_init 80 = .ok (.iconst 0, 1) := dk_3 (dk_at dksX0_init_3 9 rfl rfl)
theorem dX0_init_81 : decode cX0_init 81 = .ok (.new 21, 3) := dk_187 0 21 (dk_at dksX0_init_3 10 rfl rfl)
theorem dX0_init_84 : decode cX0_init 84 = .ok (.dup, 1) := dk_89 (dk_at dksX0_init_3 13 rfl rfl)
theorem dX0_init_85 : decode cX0_init 85 = .ok (.invokespecial 133, 3) := dk_183 0 133 (dk_at dksX0_init_3 14 rfl rfl)
theorem dX0_init_88 : decode cX0_init 88 = .ok (.aastore, 1) := dk_83 (dk_at dksX0_init_3 17 rfl rfl)
theorem dX0_init_89 : decode cX0_init 89 = .ok (.dup, 1) := dk_89 (dk_at dksX0_init_3 18 rfl rfl)
theorem dX0_init_90 : decode cX0_init 90 = .ok (.iconst 1, 1) := dk_4 (dk_at dksX0_init_3 19 rfl rfl)
theorem dX0_init_91 : decode cX0_init 91 = .ok (.new 21, 3) := dk_187 0 21 (dk_at dksX0_init_3 20 rfl rfl)
theorem dX0_init_94 : decode cX0_init 94 = .ok (.dup, 1) := dk_89 (dk_at dksX0_init_3 23 rfl rfl)
theorem dX0_init_95 : decode cX0_init 95 = .ok (.invokespecial 133, 3) := dk_183 0 133 (dk_at dksX0_init_4 0 rfl rfl)
theorem dX0_init_98 : decode cX0_init 98 = .ok (.aastore, 1) := dk_83 (dk_at dksX0_init_4 3 rfl rfl)
theorem dX0_init_99 : decode cX0_init 99 = .ok (.putfield 137, 3) := dk_181 0 137 (dk_at dksX0_init_4 4 rfl rfl)
theorem dX0_init_102 : decode cX0_init 102 = .ok (.aload_n 0, 1) := dk_42 (dk_at dksX0_init_4 7 rfl rfl)
theorem dX0_init_103 : decode cX0_init 103 = .ok (.bipush 18, 2) := dk_16 18 (dk_at dksX0_init_4 8 rfl rfl)
theorem dX0_init_105 : decode cX0_init 105 = .ok (.newarray .int, 2) := dk_188_10 (dk_at dksX0_init_4 10 rfl rfl)
theorem dX0_init_107 : decode cX0_init 107 = .ok (.putfield 141, 3) := dk_181 0 141 (dk_at dksX0_init_4 12 rfl rfl)
theorem dX0_init_110 : decode cX0_init 110 = .ok (.aload_n 0, 1) := dk_42 (dk_at dksX0_init_4 15 rfl rfl)
theorem dX0_init_111 : decode cX0_init 111 = .ok (.sipush 160, 3) := dk_17 0 160 (dk_at dksX0_init_4 16 rfl rfl)
theorem dX0_init_114 : decode cX0_init 114 = .ok (.newarray .byte, 2) := dk_188_8 (dk_at dksX0_init_4 19 rfl rfl)
theorem dX0_init_116 : decode cX0_init 116 = .ok (.putfield 145, 3) := dk_181 0 145 (dk_at dksX0_init_4 21 rfl rfl)
theorem dX0_init_119 : decode cX0_init 119 = .ok (.aload_n 0, 1) := dk_42 (dk_at dksX0_init_5 0 rfl rfl)
theorem dX0_init_120 : decode cX0_init 120 = .ok (.sipush 164, 3) := dk_17 0 164 (dk_at dksX0_init_5 1 rfl rfl)
theorem dX0_init_123 : decode cX0_init 123 = .ok (.newarray .int, 2) := dk_188_10 (dk_at dksX0_init_5 4 rfl rfl)
theorem dX0_init_125 : decode cX0_init 125 = .ok (.putfield 149, 3) := dk_181 0 149 (dk_at dksX0_init_5 6 rfl rfl)
theorem dX0_init_128 : decode cX0_init 128 = .ok (.aload_n 0, 1) := dk_42 (dk_at dksX0_init_5 9 rfl rfl)
theorem dX0_init_129 : decode cX0_init 129 = .ok (.sipush 410, 3) := dk_17 1 154 (dk_at dksX0_init_5 10 rfl rfl)
theorem dX0_init_132 : decode cX0_init 132 = .ok (.newarray .int, 2) := dk_188_10 (dk_at dksX0_init_5 13 rfl rfl)
theorem dX0_init_134 : decode cX0_init 134 = .ok (.putfield 152, 3) := dk_181 0 152 (dk_at dksX0_init_5 15 rfl rfl)
theorem dX0_init_137 : decode cX0_init 137 = .ok (.aload_n 0, 1) := dk_42 (dk_at dksX0_init_5 18 rfl rfl)
theorem dX0_init_138 : decode cX0_init 138 = .ok (.iconst 4, 1) := dk_7 (dk_at dksX0_init_5 19 rfl rfl)
theorem dX0_init_139 : decode cX0_init 139 = .ok (.anewarray 155, 3) := dk_189 0 155 (dk_at dksX0_init_5 20 rfl rfl)
theorem dX0_init_142 : decode cX0_init 142 = .ok (.putfield 157, 3) := dk_181 0 157 (dk_at dksX0_init_6 0 rfl rfl)
theorem dX0_init_145 : decode cX0_init 145 = .ok (.iconst 0, 1) := dk_3 (dk_at dksX0_init_6 3 rfl rfl)
theorem dX0_init_146 : decode cX0_init 146 = .ok (.istore_n 1, 1) := dk_60 (dk_at dksX0_init_6 4 rfl rfl)
theorem dX0_init_147 : decode cX0_init 147 = .ok (.iload_n 1, 1) := dk_27 (dk_at dksX0_init_6 5 rfl rfl)
theorem dX0_init_148 : decode cX0_init 148 = .ok (.iconst 4, 1) := dk_7 (dk_at dksX0_init_6 6 rfl rfl)
theorem dX0_init_149 : decode cX0_init 149 = .ok (.if_icmp .ge 22, 3) := dk_162 0 22 (dk_at dksX0_init_6 7 rfl rfl)
theorem dX0_init_152 : decode cX0_init 152 = .ok (.aload_n 0, 1) := dk_42 (dk_at dksX0_init_6 10 rfl rfl)
theorem dX0_init_153 : decode cX0_init 153 = .ok (.getfield 157, 3) := dk_180 0 157 (dk_at dksX0_init_6 11 rfl rfl)
theorem dX0_init_156 : decode cX0_init 156 = .ok (.iload_n 1, 1) := dk_27 (dk_at dksX0_init_6 14 rfl rfl)
theorem dX0_init_157 : decode cX0_init 157 = .ok (.new 155, 3) := dk_187 0 155 (dk_at dksX0_init_6 15 rfl rfl)
theorem dX0_init_160 : decode cX0_init 160 = .ok (.dup, 1) := dk_89 (dk_at dksX0_init_6 18 rfl rfl)
theorem dX0_init_161 : decode cX0_init 161 = .ok (.invokespecial 161, 3) := dk_183 0 161 (dk_at dksX0_init_6 19 rfl rfl)
theorem dX0_init_164 : decode cX0_init 164 = .ok (.aastore, 1) := dk_83 (dk_at dksX0_init_6 22 rfl rfl)
theorem dX0_init_165 : decode cX0_init 165 = .ok (.iinc 1 1, 3) := dk_132 1 1 (dk_at dksX0_init_7 0 rfl rfl)
theorem dX0_init_168 : decode cX0_init 168 = .ok (.goto (-21), 3) := dk_167 255 235 (dk_at dksX0_init_7 3 rfl rfl)
theorem dX0_init_171 : decode cX0_init 171 = .ok (.return_, 1) := dk_177 (dk_at dksX0_init_7 6 rfl rfl)
abbrev cX0_feed : ByteArray := prog_1_method_13_code
def yX0_feed : MethodName := ⟨RX0, "feed", "(I)I"⟩
def dkwX0_feed_2 : List UInt8 := [42, 180, 0, 168, 172]
abbrev dktX0_feed_2 : List UInt8 := dkwX0_feed_2 ++ []
def dkwX0_feed_1 : List UInt8 := [16, 253, 172, 42, 180, 0, 145, 42, 180, 0, 168, 27, 145, 84, 42, 89, 180, 0, 168, 4, 96, 181, 0, 168]
abbrev dktX0_feed_1 : List UInt8 := dkwX0_feed_1 ++ dktX0_feed_2
def dkwX0_feed_0 : List UInt8 := [27, 133, 9, 20, 0, 162, 184, 0, 164, 154, 0, 5, 2, 172, 42, 180, 0, 168, 17, 0, 160, 160, 0, 6]
abbrev dktX0_feed_0 : List UInt8 := dkwX0_feed_0 ++ dktX0_feed_1
theorem dksX0_feed_0 : cX0_feed.data.toList.drop 0 = dktX0_feed_0 := by decide +kernel
theorem dksX0_feed_1 : cX0_feed.data.toList.drop 24 = dktX0_feed_1 := dk_seg dksX0_feed_0 24 rfl rfl
theorem dksX0_feed_2 : cX0_feed.data.toList.drop 48 = dktX0_feed_2 := dk_seg dksX0_feed_1 24 rfl rfl
theorem dX0_feed_0 : decode cX0_feed 0 = .ok (.iload_n 1, 1) := dk_27 (dk_at dksX0_feed_0 0 rfl rfl)
theorem dX0_feed_1 : decode cX0_feed 1 = .ok (.i2l, 1) := dk_133 (dk_at dksX0_feed_0 1 rfl rfl)
theorem dX0_feed_2 : decode cX0_feed 2 = .ok (.lconst 0, 1) := dk_9 (dk_at dksX0_feed_0 2 rfl rfl)
theorem dX0_feed_3 : decode cX0_feed 3 = .ok (.ldc2_w 162, 3) := dk_20 0 162 (dk_at dksX0_feed_0 3 rfl rfl)
theorem dX0_feed_6 : decode cX0_feed 6 = .ok (.invokestatic 164, 3) := dk_184 0 164 (dk_at dksX0_feed_0 6 rfl rfl)
theorem dX0_feed_9 : decode cX0_feed 9 = .ok (.ifCond .ne 5, 3) := dk_154 0 5 (dk_at dksX0_feed_0 9 rfl rfl)
theorem dX0_feed_12 : decode cX0_feed 12 = .ok (.iconst (-1), 1) := dk_2 (dk_at dksX0_feed_0 12 rfl rfl)
theorem dX0_feed_13 : decode cX0_feed 13 = .ok (.ireturn, 1) := dk_172 (dk_at dksX0_feed_0 13 rfl rfl)
theorem dX0_feed_14 : decode cX0_feed 14 = .ok (.aload_n 0, 1) := dk_42 (dk_at dksX0_feed_0 14 rfl rfl)
theorem dX0_feed_15 : decode cX0_feed 15 = .ok (.getfield 168, 3) := dk_180 0 168 (dk_at dksX0_feed_0 15 rfl rfl)
theorem dX0_feed_18 : decode cX0_feed 18 = .ok (.sipush 160, 3) := dk_17 0 160 (dk_at dksX0_feed_0 18 rfl rfl)
theorem dX0_feed_21 : decode cX0_feed 21 = .ok (.if_icmp .ne 6, 3) := dk_160 0 6 (dk_at dksX0_feed_0 21 rfl rfl)
theorem dX0_feed_24 : decode cX0_feed 24 = .ok (.bipush (-3), 2) := dk_16 253 (dk_at dksX0_feed_1 0 rfl rfl)
theorem dX0_feed_26 : decode cX0_feed 26 = .ok (.ireturn, 1) := dk_172 (dk_at dksX0_feed_1 2 rfl rfl)
theorem dX0_feed_27 : decode cX0_feed 27 = .ok (.aload_n 0, 1) := dk_42 (dk_at dksX0_feed_1 3 rfl rfl)
theorem dX0_feed_28 : decode cX0_feed 28 = .ok (.getfield 145, 3) := dk_180 0 145 (dk_at dksX0_feed_1 4 rfl rfl)
theorem dX0_feed_31 : decode cX0_feed 31 = .ok (.aload_n 0, 1) := dk_42 (dk_at dksX0_feed_1 7 rfl rfl)
theorem dX0_feed_32 : decode cX0_feed 32 = .ok (.getfield 168, 3) := dk_180 0 168 (dk_at dksX0_feed_1 8 rfl rfl)
theorem dX0_feed_35 : decode cX0_feed 35 = .ok (.iload_n 1, 1) := dk_27 (dk_at dksX0_feed_1 11 rfl rfl)
theorem dX0_feed_36 : decode cX0_feed 36 = .ok (.i2b, 1) := dk_145 (dk_at dksX0_feed_1 12 rfl rfl)
theorem dX0_feed_37 : decode cX0_feed 37 = .ok (.bastore, 1) := dk_84 (dk_at dksX0_feed_1 13 rfl rfl)
theorem dX0_feed_38 : decode cX0_feed 38 = .ok (.aload_n 0, 1) := dk_42 (dk_at dksX0_feed_1 14 rfl rfl)
theorem dX0_feed_39 : decode cX0_feed 39 = .ok (.dup, 1) := dk_89 (dk_at dksX0_feed_1 15 rfl rfl)
theorem dX0_feed_40 : decode cX0_feed 40 = .ok (.getfield 168, 3) := dk_180 0 168 (dk_at dksX0_feed_1 16 rfl rfl)
theorem dX0_feed_43 : decode cX0_feed 43 = .ok (.iconst 1, 1) := dk_4 (dk_at dksX0_feed_1 19 rfl rfl)
theorem dX0_feed_44 : decode cX0_feed 44 = .ok (.iadd, 1) := dk_96 (dk_at dksX0_feed_1 20 rfl rfl)
theorem dX0_feed_45 : decode cX0_feed 45 = .ok (.putfield 168, 3) := dk_181 0 168 (dk_at dksX0_feed_1 21 rfl rfl)
theorem dX0_feed_48 : decode cX0_feed 48 = .ok (.aload_n 0, 1) := dk_42 (dk_at dksX0_feed_2 0 rfl rfl)
theorem dX0_feed_49 : decode cX0_feed 49 = .ok (.getfield 168, 3) := dk_180 0 168 (dk_at dksX0_feed_2 1 rfl rfl)
theorem dX0_feed_52 : decode cX0_feed 52 = .ok (.ireturn, 1) := dk_172 (dk_at dksX0_feed_2 4 rfl rfl)
abbrev cX0_in : ByteArray := prog_1_method_1_code
def yX0_in : MethodName := ⟨RX0, "in", "(JJJ)Z"⟩
def dkwX0_in_0 : List UInt8 := [30, 32, 148, 155, 0, 14, 30, 22, 4, 148, 157, 0, 7, 4, 167, 0, 4, 3, 172]
abbrev dktX0_in_0 : List UInt8 := dkwX0_in_0 ++ []
theorem dksX0_in_0 : cX0_in.data.toList.drop 0 = dktX0_in_0 := by decide +kernel
theorem dX0_in_0 : decode cX0_in 0 = .ok (.lload_n 0, 1) := dk_30 (dk_at dksX0_in_0 0 rfl rfl)
theorem dX0_in_1 : decode cX0_in 1 = .ok (.lload_n 2, 1) := dk_32 (dk_at dksX0_in_0 1 rfl rfl)
theorem dX0_in_2 : decode cX0_in 2 = .ok (.lcmp, 1) := dk_148 (dk_at dksX0_in_0 2 rfl rfl)
theorem dX0_in_3 : decode cX0_in 3 = .ok (.ifCond .lt 14, 3) := dk_155 0 14 (dk_at dksX0_in_0 3 rfl rfl)
theorem dX0_in_6 : decode cX0_in 6 = .ok (.lload_n 0, 1) := dk_30 (dk_at dksX0_in_0 6 rfl rfl)
theorem dX0_in_7 : decode cX0_in 7 = .ok (.lload 4, 2) := dk_22 4 (dk_at dksX0_in_0 7 rfl rfl)
theorem dX0_in_9 : decode cX0_in 9 = .ok (.lcmp, 1) := dk_148 (dk_at dksX0_in_0 9 rfl rfl)
theorem dX0_in_10 : decode cX0_in 10 = .ok (.ifCond .gt 7, 3) := dk_157 0 7 (dk_at dksX0_in_0 10 rfl rfl)
theorem dX0_in_13 : decode cX0_in 13 = .ok (.iconst 1, 1) := dk_4 (dk_at dksX0_in_0 13 rfl rfl)
theorem dX0_in_14 : decode cX0_in 14 = .ok (.goto 4, 3) := dk_167 0 4 (dk_at dksX0_in_0 14 rfl rfl)
theorem dX0_in_17 : decode cX0_in 17 = .ok (.iconst 0, 1) := dk_3 (dk_at dksX0_in_0 17 rfl rfl)
theorem dX0_in_18 : decode cX0_in 18 = .ok (.ireturn, 1) := dk_172 (dk_at dksX0_in_0 18 rfl rfl)
abbrev cX0_end : ByteArray := prog_1_method_14_code
def yX0_end : MethodName := ⟨RX0, "end", "(I)I"⟩
def dkwX0_end_1 : List UInt8 := [181, 0, 168, 28, 172]
abbrev dktX0_end_1 : List UInt8 := dkwX0_end_1 ++ []
def dkwX0_end_0 : List UInt8 := [27, 133, 9, 42, 180, 0, 168, 133, 184, 0, 164, 154, 0, 5, 2, 172, 42, 180, 0, 168, 61, 42, 27]
abbrev dktX0_end_0 : List UInt8 := dkwX0_end_0 ++ dktX0_end_1
theorem dksX0_end_0 : cX0_end.data.toList.drop 0 = dktX0_end_0 := by decide +kernel
theorem dksX0_end_1 : cX0_end.data.toList.drop 23 = dktX0_end_1 := dk_seg dksX0_end_0 23 rfl rfl
theorem dX0_end_0 : decode cX0_end 0 = .ok (.iload_n 1, 1) := dk_27 (dk_at dksX0_end_0 0 rfl rfl)
theorem dX0_end_1 : decode cX0_end 1 = .ok (.i2l, 1) := dk_133 (dk_at dksX0_end_0 1 rfl rfl)
theorem dX0_end_2 : decode cX0_end 2 = .ok (.lconst 0, 1) := dk_9 (dk_at dksX0_end_0 2 rfl rfl)
theorem dX0_end_3 : decode cX0_end 3 = .ok (.aload_n 0, 1) := dk_42 (dk_at dksX0_end_0 3 rfl rfl)
theorem dX0_end_4 : decode cX0_end 4 = .ok (.getfield 168, 3) := dk_180 0 168 (dk_at dksX0_end_0 4 rfl rfl)
theorem dX0_end_7 : decode cX0_end 7 = .ok (.i2l, 1) := dk_133 (dk_at dksX0_end_0 7 rfl rfl)
theorem dX0_end_8 : decode cX0_end 8 = .ok (.invokestatic 164, 3) := dk_184 0 164 (dk_at dksX0_end_0 8 rfl rfl)
theorem dX0_end_11 : decode cX0_end 11 = .ok (.ifCond .ne 5, 3) := dk_154 0 5 (dk_at dksX0_end_0 11 rfl rfl)
theorem dX0_end_14 : decode cX0_end 14 = .ok (.iconst (-1), 1) := dk_2 (dk_at dksX0_end_0 14 rfl rfl)
theorem dX0_end_15 : decode cX0_end 15 = .ok (.ireturn, 1) := dk_172 (dk_at dksX0_end_0 15 rfl rfl)
theorem dX0_end_16 : decode cX0_end 16 = .ok (.aload_n 0, 1) := dk_42 (dk_at dksX0_end_0 16 rfl rfl)
theorem dX0_end_17 : decode cX0_end 17 = .ok (.getfield 168, 3) := dk_180 0 168 (dk_at dksX0_end_0 17 rfl rfl)
theorem dX0_end_20 : decode cX0_end 20 = .ok (.istore_n 2, 1) := dk_61 (dk_at dksX0_end_0 20 rfl rfl)
theorem dX0_end_21 : decode cX0_end 21 = .ok (.aload_n 0, 1) := dk_42 (dk_at dksX0_end_0 21 rfl rfl)
theorem dX0_end_22 : decode cX0_end 22 = .ok (.iload_n 1, 1) := dk_27 (dk_at dksX0_end_0 22 rfl rfl)
theorem dX0_end_23 : decode cX0_end 23 = .ok (.putfield 168, 3) := dk_181 0 168 (dk_at dksX0_end_1 0 rfl rfl)
theorem dX0_end_26 : decode cX0_end 26 = .ok (.iload_n 2, 1) := dk_28 (dk_at dksX0_end_1 3 rfl rfl)
theorem dX0_end_27 : decode cX0_end 27 = .ok (.ireturn, 1) := dk_172 (dk_at dksX0_end_1 4 rfl rfl)
abbrev cX0_text : ByteArray := prog_1_method_15_code
def yX0_text : MethodName := ⟨RX0, "text", "()I"⟩
def dkwX0_text_2 : List UInt8 := [181, 0, 192, 29, 172, 77, 42, 44, 180, 0, 197, 181, 0, 171, 16, 246, 44, 180, 0, 200, 100, 172]
abbrev dktX0_text_2 : List UInt8 := dkwX0_text_2 ++ []
def dkwX0_text_1 : List UInt8 := [77, 44, 182, 0, 179, 62, 42, 180, 0, 134, 44, 180, 0, 182, 182, 0, 185, 42, 3, 181, 0, 189, 42, 3]
abbrev dktX0_text_1 : List UInt8 := dkwX0_text_1 ++ dktX0_text_2
def dkwX0_text_0 : List UInt8 := [42, 180, 0, 168, 60, 42, 3, 181, 0, 168, 42, 3, 181, 0, 171, 187, 0, 174, 89, 42, 27, 183, 0, 176]
abbrev dktX0_text_0 : List UInt8 := dkwX0_text_0 ++ dktX0_text_1
theorem dksX0_text_0 : cX0_text.data.toList.drop 0 = dktX0_text_0 := by decide +kernel
theorem dksX0_text_1 : cX0_text.data.toList.drop 24 = dktX0_text_1 := dk_seg dksX0_text_0 24 rfl rfl
theorem dksX0_text_2 : cX0_text.data.toList.drop 48 = dktX0_text_2 := dk_seg dksX0_text_1 24 rfl rfl
theorem dX0_text_0 : decode cX0_text 0 = .ok (.aload_n 0, 1) := dk_42 (dk_at dksX0_text_0 0 rfl rfl)
theorem dX0_text_1 : decode cX0_text 1 = .ok (.getfield 168, 3) := dk_180 0 168 (dk_at dksX0_text_0 1 rfl rfl)
theorem dX0_text_4 : decode cX0_text 4 = .ok (.istore_n 1, 1) := dk_60 (dk_at dksX0_text_0 4 rfl rfl)
theorem dX0_text_5 : decode cX0_text 5 = .ok (.aload_n 0, 1) := dk_42 (dk_at dksX0_text_0 5 rfl rfl)
theorem dX0_text_6 : decode cX0_text 6 = .ok (.iconst 0, 1) := dk_3 (dk_at dksX0_text_0 6 rfl rfl)
theorem dX0_text_7 : decode cX0_text 7 = .ok (.putfield 168, 3) := dk_181 0 168 (dk_at dksX0_text_0 7 rfl rfl)
theorem dX0_text_10 : decode cX0_text 10 = .ok (.aload_n 0, 1) := dk_42 (dk_at dksX0_text_0 10 rfl rfl)
theorem dX0_text_11 : decode cX0_text 11 = .ok (.iconst 0, 1) := dk_3 (dk_at dksX0_text_0 11 rfl rfl)
theorem dX0_text_12 : decode cX0_text 12 = .ok (.putfield 171, 3) := dk_181 0 171 (dk_at dksX0_text_0 12 rfl rfl)
theorem dX0_text_15 : decode cX0_text 15 = .ok (.new 174, 3) := dk_187 0 174 (dk_at dksX0_text_0 15 rfl rfl)
theorem dX0_text_18 : decode cX0_text 18 = .ok (.dup, 1) := dk_89 (dk_at dksX0_text_0 18 rfl rfl)
theorem dX0_text_19 : decode cX0_text 19 = .ok (.aload_n 0, 1) := dk_42 (dk_at dksX0_text_0 19 rfl rfl)
theorem dX0_text_20 : decode cX0_text 20 = .ok (.iload_n 1, 1) := dk_27 (dk_at dksX0_text_0 20 rfl rfl)
theorem dX0_text_21 : decode cX0_text 21 = .ok (.invokespecial 176, 3) := dk_183 0 176 (dk_at dksX0_text_0 21 rfl rfl)
theorem dX0_text_24 : decode cX0_text 24 = .ok (.astore_n 2, 1) := dk_77 (dk_at dksX0_text_1 0 rfl rfl)
theorem dX0_text_25 : decode cX0_text 25 = .ok (.aload_n 2, 1) := dk_44 (dk_at dksX0_text_1 1 rfl rfl)
theorem dX0_text_26 : decode cX0_text 26 = .ok (.invokevirtual 179, 3) := dk_182 0 179 (dk_at dksX0_text_1 2 rfl rfl)
theorem dX0_text_29 : decode cX0_text 29 = .ok (.istore_n 3, 1) := dk_62 (dk_at dksX0_text_1 5 rfl rfl)
theorem dX0_text_30 : decode cX0_text 30 = .ok (.aload_n 0, 1) := dk_42 (dk_at dksX0_text_1 6 rfl rfl)
theorem dX0_text_31 : decode cX0_text 31 = .ok (.getfield 134, 3) := dk_180 0 134 (dk_at dksX0_text_1 7 rfl rfl)
theorem dX0_text_34 : decode cX0_text 34 = .ok (.aload_n 2, 1) := dk_44 (dk_at dksX0_text_1 10 rfl rfl)
theorem dX0_text_35 : decode cX0_text 35 = .ok (.getfield 182, 3) := dk_180 0 182 (dk_at dksX0_text_1 11 rfl rfl)
theorem dX0_text_38 : decode cX0_text 38 = .ok (.invokevirtual 185, 3) := dk_182 0 185 (dk_at dksX0_text_1 14 rfl rfl)
theorem dX0_text_41 : decode cX0_text 41 = .ok (.aload_n 0, 1) := dk_42 (dk_at dksX0_text_1 17 rfl rfl)
theorem dX0_text_42 : decode cX0_text 42 = .ok (.iconst 0, 1) := dk_3 (dk_at dksX0_text_1 18 rfl rfl)
theorem dX0_text_43 : decode cX0_text 43 = .ok (.putfield 189, 3) := dk_181 0 189 (dk_at dksX0_text_1 19 rfl rfl)
theorem dX0_text_46 : decode cX0_text 46 = .ok (.aload_n 0, 1) := dk_42 (dk_at dksX0_text_1 22 rfl rfl)
theorem dX0_text_47 : decode cX0_text 47 = .ok (.iconst 0, 1) := dk_3 (dk_at dksX0_text_1 23 rfl rfl)
theorem dX0_text_48 : decode cX0_text 48 = .ok (.putfield 192, 3) := dk_181 0 192 (dk_at dksX0_text_2 0 rfl rfl)
theorem dX0_text_51 : decode cX0_text 51 = .ok (.iload_n 3, 1) := dk_29 (dk_at dksX0_text_2 3 rfl rfl)
theorem dX0_text_52 : decode cX0_text 52 = .ok (.ireturn, 1) := dk_172 (dk_at dksX0_text_2 4 rfl rfl)
theorem dX0_text_53 : decode cX0_text 53 = .ok (.astore_n 2, 1) := dk_77 (dk_at dksX0_text_2 5 rfl rfl)
theorem dX0_text_54 : decode cX0_text 54 = .ok (.aload_n 0, 1) := dk_42 (dk_at dksX0_text_2 6 rfl rfl)
theorem dX0_text_55 : decode cX0_text 55 = .ok (.aload_n 2, 1) := dk_44 (dk_at dksX0_text_2 7 rfl rfl)
theorem dX0_text_56 : decode cX0_text 56 = .ok (.getfield 197, 3) := dk_180 0 197 (dk_at dksX0_text_2 8 rfl rfl)
theorem dX0_text_59 : decode cX0_text 59 = .ok (.putfield 171, 3) := dk_181 0 171 (dk_at dksX0_text_2 11 rfl rfl)
theorem dX0_text_62 : decode cX0_text 62 = .ok (.bipush (-10), 2) := dk_16 246 (dk_at dksX0_text_2 14 rfl rfl)
theorem dX0_text_64 : decode cX0_text 64 = .ok (.aload_n 2, 1) := dk_44 (dk_at dksX0_text_2 16 rfl rfl)
theorem dX0_text_65 : decode cX0_text 65 = .ok (.getfield 200, 3) := dk_180 0 200 (dk_at dksX0_text_2 17 rfl rfl)
theorem dX0_text_68 : decode cX0_text 68 = .ok (.isub, 1) := dk_100 (dk_at dksX0_text_2 20 rfl rfl)
theorem dX0_text_69 : decode cX0_text 69 = .ok (.ireturn, 1) := dk_172 (dk_at dksX0_text_2 21 rfl rfl)
abbrev cX0_fault : ByteArray := prog_1_method_16_code
def yX0_fault : MethodName := ⟨RX0, "fault", "()I"⟩
theorem dX0_fault_0 : decode cX0_fault 0 = .ok (.aload_n 0, 1) := by decide +kernel
theorem dX0_fault_1 : decode cX0_fault 1 = .ok (.getfield 171, 3) := by decide +kernel
theorem dX0_fault_4 : decode cX0_fault 4 = .ok (.ireturn, 1) := by decide +kernel
abbrev cX0_rule : ByteArray := prog_1_method_22_code
def yX0_rule : MethodName := ⟨RX0, "rule", "(I)I"⟩
def dkwX0_rule_6 : List UInt8 := [2, 172]
abbrev dktX0_rule_6 : List UInt8 := dkwX0_rule_6 ++ []
def dkwX0_rule_5 : List UInt8 := [154, 0, 8, 16, 252, 167, 0, 18, 42, 180, 0, 134, 180, 0, 96, 42, 180, 0, 134, 182, 0, 90, 53, 172]
abbrev dktX0_rule_5 : List UInt8 := dkwX0_rule_5 ++ dktX0_rule_6
def dkwX0_rule_4 : List UInt8 := [42, 180, 0, 134, 180, 0, 50, 172, 42, 180, 0, 134, 182, 0, 83, 172, 42, 180, 0, 134, 180, 0, 203]
abbrev dktX0_rule_4 : List UInt8 := dkwX0_rule_4 ++ dktX0_rule_5
def dkwX0_rule_3 : List UInt8 := [42, 180, 0, 134, 180, 0, 60, 172, 42, 180, 0, 134, 180, 0, 63, 172, 42, 180, 0, 134, 180, 0, 209, 172]
abbrev dktX0_rule_3 : List UInt8 := dkwX0_rule_3 ++ dktX0_rule_4
def dkwX0_rule_2 : List UInt8 := [42, 180, 0, 134, 180, 0, 44, 172, 42, 180, 0, 134, 180, 0, 203, 172, 42, 180, 0, 134, 180, 0, 80, 172]
abbrev dktX0_rule_2 : List UInt8 := dkwX0_rule_2 ++ dktX0_rule_3
def dkwX0_rule_1 : List UInt8 := [170, 0, 0, 0, 0, 0, 146, 0, 0, 0, 0, 0, 0, 0, 8, 0, 0, 0, 51, 0, 0, 0, 59, 0, 0, 0, 67, 0, 0, 0, 75, 0, 0, 0, 83, 0, 0, 0, 91, 0, 0, 0, 99, 0, 0, 0, 107, 0, 0, 0, 115]
abbrev dktX0_rule_1 : List UInt8 := dkwX0_rule_1 ++ dktX0_rule_2
def dkwX0_rule_0 : List UInt8 := [27]
abbrev dktX0_rule_0 : List UInt8 := dkwX0_rule_0 ++ dktX0_rule_1
theorem dksX0_rule_0 : cX0_rule.data.toList.drop 0 = dktX0_rule_0 := by decide +kernel
theorem dksX0_rule_1 : cX0_rule.data.toList.drop 1 = dktX0_rule_1 := dk_seg dksX0_rule_0 1 rfl rfl
theorem dksX0_rule_2 : cX0_rule.data.toList.drop 52 = dktX0_rule_2 := dk_seg dksX0_rule_1 51 rfl rfl
theorem dksX0_rule_3 : cX0_rule.data.toList.drop 76 = dktX0_rule_3 := dk_seg dksX0_rule_2 24 rfl rfl
theorem dksX0_rule_4 : cX0_rule.data.toList.drop 100 = dktX0_rule_4 := dk_seg dksX0_rule_3 24 rfl rfl
theorem dksX0_rule_5 : cX0_rule.data.toList.drop 123 = dktX0_rule_5 := dk_seg dksX0_rule_4 23 rfl rfl
theorem dksX0_rule_6 : cX0_rule.data.toList.drop 147 = dktX0_rule_6 := dk_seg dksX0_rule_5 24 rfl rfl
theorem dX0_rule_0 : decode cX0_rule 0 = .ok (.iload_n 1, 1) := dk_27 (dk_at dksX0_rule_0 0 rfl rfl)
theorem dX0_rule_1 : decode cX0_rule 1 = .ok (.tableswitch 146 0 8 #[51, 59, 67, 75, 83, 91, 99, 107, 115], 51) := by decide +kernel
theorem dX0_rule_52 : decode cX0_rule 52 = .ok (.aload_n 0, 1) := dk_42 (dk_at dksX0_rule_2 0 rfl rfl)
theorem dX0_rule_53 : decode cX0_rule 53 = .ok (.getfield 134, 3) := dk_180 0 134 (dk_at dksX0_rule_2 1 rfl rfl)
theorem dX0_rule_56 : decode cX0_rule 56 = .ok (.getfield 44, 3) := dk_180 0 44 (dk_at dksX0_rule_2 4 rfl rfl)
theorem dX0_rule_59 : decode cX0_rule 59 = .ok (.ireturn, 1) := dk_172 (dk_at dksX0_rule_2 7 rfl rfl)
theorem dX0_rule_60 : decode cX0_rule 60 = .ok (.aload_n 0, 1) := dk_42 (dk_at dksX0_rule_2 8 rfl rfl)
theorem dX0_rule_61 : decode cX0_rule 61 = .ok (.getfield 134, 3) := dk_180 0 134 (dk_at dksX0_rule_2 9 rfl rfl)
theorem dX0_rule_64 : decode cX0_rule 64 = .ok (.getfield 203, 3) := dk_180 0 203 (dk_at dksX0_rule_2 12 rfl rfl)
theorem dX0_rule_67 : decode cX0_rule 67 = .ok (.ireturn, 1) := dk_172 (dk_at dksX0_rule_2 15 rfl rfl)
theorem dX0_rule_68 : decode cX0_rule 68 = .ok (.aload_n 0, 1) := dk_42 (dk_at dksX0_rule_2 16 rfl rfl)
theorem dX0_rule_69 : decode cX0_rule 69 = .ok (.getfield 134, 3) := dk_180 0 134 (dk_at dksX0_rule_2 17 rfl rfl)
theorem dX0_rule_72 : decode cX0_rule 72 = .ok (.getfield 80, 3) := dk_180 0 80 (dk_at dksX0_rule_2 20 rfl rfl)
theorem dX0_rule_75 : decode cX0_rule 75 = .ok (.ireturn, 1) := dk_172 (dk_at dksX0_rule_2 23 rfl rfl)
theorem dX0_rule_76 : decode cX0_rule 76 = .ok (.aload_n 0, 1) := dk_42 (dk_at dksX0_rule_3 0 rfl rfl)
theorem dX0_rule_77 : decode cX0_rule 77 = .ok (.getfield 134, 3) := dk_180 0 134 (dk_at dksX0_rule_3 1 rfl rfl)
theorem dX0_rule_80 : decode cX0_rule 80 = .ok (.getfield 60, 3) := dk_180 0 60 (dk_at dksX0_rule_3 4 rfl rfl)
theorem dX0_rule_83 : decode cX0_rule 83 = .ok (.ireturn, 1) := dk_172 (dk_at dksX0_rule_3 7 rfl rfl)
theorem dX0_rule_84 : decode cX0_rule 84 = .ok (.aload_n 0, 1) := dk_42 (dk_at dksX0_rule_3 8 rfl rfl)
theorem dX0_rule_85 : decode cX0_rule 85 = .ok (.getfield 134, 3) := dk_180 0 134 (dk_at dksX0_rule_3 9 rfl rfl)
theorem dX0_rule_88 : decode cX0_rule 88 = .ok (.getfield 63, 3) := dk_180 0 63 (dk_at dksX0_rule_3 12 rfl rfl)
theorem dX0_rule_91 : decode cX0_rule 91 = .ok (.ireturn, 1) := dk_172 (dk_at dksX0_rule_3 15 rfl rfl)
theorem dX0_rule_92 : decode cX0_rule 92 = .ok (.aload_n 0, 1) := dk_42 (dk_at dksX0_rule_3 16 rfl rfl)
theorem dX0_rule_93 : decode cX0_rule 93 = .ok (.getfield 134, 3) := dk_180 0 134 (dk_at dksX0_rule_3 17 rfl rfl)
theorem dX0_rule_96 : decode cX0_rule 96 = .ok (.getfield 209, 3) := dk_180 0 209 (dk_at dksX0_rule_3 20 rfl rfl)
theorem dX0_rule_99 : decode cX0_rule 99 = .ok (.ireturn, 1) := dk_172 (dk_at dksX0_rule_3 23 rfl rfl)
theorem dX0_rule_100 : decode cX0_rule 100 = .ok (.aload_n 0, 1) := dk_42 (dk_at dksX0_rule_4 0 rfl rfl)
theorem dX0_rule_101 : decode cX0_rule 101 = .ok (.getfield 134, 3) := dk_180 0 134 (dk_at dksX0_rule_4 1 rfl rfl)
theorem dX0_rule_104 : decode cX0_rule 104 = .ok (.getfield 50, 3) := dk_180 0 50 (dk_at dksX0_rule_4 4 rfl rfl)
theorem dX0_rule_107 : decode cX0_rule 107 = .ok (.ireturn, 1) := dk_172 (dk_at dksX0_rule_4 7 rfl rfl)
theorem dX0_rule_108 : decode cX0_rule 108 = .ok (.aload_n 0, 1) := dk_42 (dk_at dksX0_rule_4 8 rfl rfl)
theorem dX0_rule_109 : decode cX0_rule 109 = .ok (.getfield 134, 3) := dk_180 0 134 (dk_at dksX0_rule_4 9 rfl rfl)
theorem dX0_rule_112 : decode cX0_rule 112 = .ok (.invokevirtual 83, 3) := dk_182 0 83 (dk_at dksX0_rule_4 12 rfl rfl)
theorem dX0_rule_115 : decode cX0_rule 115 = .ok (.ireturn, 1) := dk_172 (dk_at dksX0_rule_4 15 rfl rfl)
theorem dX0_rule_116 : decode cX0_rule 116 = .ok (.aload_n 0, 1) := dk_42 (dk_at dksX0_rule_4 16 rfl rfl)
theorem dX0_rule_117 : decode cX0_rule 117 = .ok (.getfield 134, 3) := dk_180 0 134 (dk_at dksX0_rule_4 17 rfl rfl)
theorem dX0_rule_120 : decode cX0_rule 120 = .ok (.getfield 203, 3) := dk_180 0 203 (dk_at dksX0_rule_4 20 rfl rfl)
theorem dX0_rule_123 : decode cX0_rule 123 = .ok (.ifCond .ne 8, 3) := dk_154 0 8 (dk_at dksX0_rule_5 0 rfl rfl)
theorem dX0_rule_126 : decode cX0_rule 126 = .ok (.bipush (-4), 2) := dk_16 252 (dk_at dksX0_rule_5 3 rfl rfl)
theorem dX0_rule_128 : decode cX0_rule 128 = .ok (.goto 18, 3) := dk_167 0 18 (dk_at dksX0_rule_5 5 rfl rfl)
theorem dX0_rule_131 : decode cX0_rule 131 = .ok (.aload_n 0, 1) := dk_42 (dk_at dksX0_rule_5 8 rfl rfl)
theorem dX0_rule_132 : decode cX0_rule 132 = .ok (.getfield 134, 3) := dk_180 0 134 (dk_at dksX0_rule_5 9 rfl rfl)
theorem dX0_rule_135 : decode cX0_rule 135 = .ok (.getfield 96, 3) := dk_180 0 96 (dk_at dksX0_rule_5 12 rfl rfl)
theorem dX0_rule_138 : decode cX0_rule 138 = .ok (.aload_n 0, 1) := dk_42 (dk_at dksX0_rule_5 15 rfl rfl)
theorem dX0_rule_139 : decode cX0_rule 139 = .ok (.getfield 134, 3) := dk_180 0 134 (dk_at dksX0_rule_5 16 rfl rfl)
theorem dX0_rule_142 : decode cX0_rule 142 = .ok (.invokevirtual 90, 3) := dk_182 0 90 (dk_at dksX0_rule_5 19 rfl rfl)
theorem dX0_rule_145 : decode cX0_rule 145 = .ok (.saload, 1) := dk_53 (dk_at dksX0_rule_5 22 rfl rfl)
theorem dX0_rule_146 : decode cX0_rule 146 = .ok (.ireturn, 1) := dk_172 (dk_at dksX0_rule_5 23 rfl rfl)
theorem dX0_rule_147 : decode cX0_rule 147 = .ok (.iconst (-1), 1) := dk_2 (dk_at dksX0_rule_6 0 rfl rfl)
theorem dX0_rule_148 : decode cX0_rule 148 = .ok (.ireturn, 1) := dk_172 (dk_at dksX0_rule_6 1 rfl rfl)
abbrev cX0_wheel : ByteArray := prog_1_method_23_code
def yX0_wheel : MethodName := ⟨RX0, "wheel", "(II)I"⟩
def dkwX0_wheel_3 : List UInt8 := [45, 180, 0, 216, 108, 172, 42, 42, 180, 0, 134, 27, 182, 0, 51, 172, 2, 172]
abbrev dktX0_wheel_3 : List UInt8 := dkwX0_wheel_3 ++ []
def dkwX0_wheel_2 : List UInt8 := [45, 180, 0, 26, 172, 45, 180, 0, 216, 172, 45, 180, 0, 77, 172, 45, 180, 0, 31, 172, 45, 180, 0, 31]
abbrev dktX0_wheel_2 : List UInt8 := dkwX0_wheel_2 ++ dktX0_wheel_3
def dkwX0_wheel_1 : List UInt8 := [170, 0, 0, 0, 0, 0, 79, 0, 0, 0, 0, 0, 0, 0, 5, 0, 0, 0, 39, 0, 0, 0, 44, 0, 0, 0, 49, 0, 0, 0, 54, 0, 0, 0, 59, 0, 0, 0, 69]
abbrev dktX0_wheel_1 : List UInt8 := dkwX0_wheel_1 ++ dktX0_wheel_2
def dkwX0_wheel_0 : List UInt8 := [42, 27, 182, 0, 212, 154, 0, 5, 2, 172, 42, 180, 0, 134, 180, 0, 20, 27, 50, 78, 28]
abbrev dktX0_wheel_0 : List UInt8 := dkwX0_wheel_0 ++ dktX0_wheel_1
theorem dksX0_wheel_0 : cX0_wheel.data.toList.drop 0 = dktX0_wheel_0 := by decide +kernel
theorem dksX0_wheel_1 : cX0_wheel.data.toList.drop 21 = dktX0_wheel_1 := dk_seg dksX0_wheel_0 21 rfl rfl
theorem dksX0_wheel_2 : cX0_wheel.data.toList.drop 60 = dktX0_wheel_2 := dk_seg dksX0_wheel_1 39 rfl rfl
theorem dksX0_wheel_3 : cX0_wheel.data.toList.drop 84 = dktX0_wheel_3 := dk_seg dksX0_wheel_2 24 rfl rfl
theorem dX0_wheel_0 : decode cX0_wheel 0 = .ok (.aload_n 0, 1) := dk_42 (dk_at dksX0_wheel_0 0 rfl rfl)
theorem dX0_wheel_1 : decode cX0_wheel 1 = .ok (.iload_n 1, 1) := dk_27 (dk_at dksX0_wheel_0 1 rfl rfl)
theorem dX0_wheel_2 : decode cX0_wheel 2 = .ok (.invokevirtual 212, 3) := dk_182 0 212 (dk_at dksX0_wheel_0 2 rfl rfl)
theorem dX0_wheel_5 : decode cX0_wheel 5 = .ok (.ifCond .ne 5, 3) := dk_154 0 5 (dk_at dksX0_wheel_0 5 rfl rfl)
theorem dX0_wheel_8 : decode cX0_wheel 8 = .ok (.iconst (-1), 1) := dk_2 (dk_at dksX0_wheel_0 8 rfl rfl)
theorem dX0_wheel_9 : decode cX0_wheel 9 = .ok (.ireturn, 1) := dk_172 (dk_at dksX0_wheel_0 9 rfl rfl)
theorem dX0_wheel_10 : decode cX0_wheel 10 = .ok (.aload_n 0, 1) := dk_42 (dk_at dksX0_wheel_0 10 rfl rfl)
theorem dX0_wheel_11 : decode cX0_wheel 11 = .ok (.getfield 134, 3) := dk_180 0 134 (dk_at dksX0_wheel_0 11 rfl rfl)
theorem dX0_wheel_14 : decode cX0_wheel 14 = .ok (.getfield 20, 3) := dk_180 0 20 (dk_at dksX0_wheel_0 14 rfl rfl)
theorem dX0_wheel_17 : decode cX0_wheel 17 = .ok (.iload_n 1, 1) := dk_27 (dk_at dksX0_wheel_0 17 rfl rfl)
theorem dX0_wheel_18 : decode cX0_wheel 18 = .ok (.aaload, 1) := dk_50 (dk_at dksX0_wheel_0 18 rfl rfl)
theorem dX0_wheel_19 : decode cX0_wheel 19 = .ok (.astore_n 3, 1) := dk_78 (dk_at dksX0_wheel_0 19 rfl rfl)
theorem dX0_wheel_20 : decode cX0_wheel 20 = .ok (.iload_n 2, 1) := dk_28 (dk_at dksX0_wheel_0 20 rfl rfl)
theorem dX0_wheel_21 : decode cX0_wheel 21 = .ok (.tableswitch 79 0 5 #[39, 44, 49, 54, 59, 69], 39) := by decide +kernel
theorem dX0_wheel_60 : decode cX0_wheel 60 = .ok (.aload_n 3, 1) := dk_45 (dk_at dksX0_wheel_2 0 rfl rfl)
theorem dX0_wheel_61 : decode cX0_wheel 61 = .ok (.getfield 26, 3) := dk_180 0 26 (dk_at dksX0_wheel_2 1 rfl rfl)
theorem dX0_wheel_64 : decode cX0_wheel 64 = .ok (.ireturn, 1) := dk_172 (dk_at dksX0_wheel_2 4 rfl rfl)
theorem dX0_wheel_65 : decode cX0_wheel 65 = .ok (.aload_n 3, 1) := dk_45 (dk_at dksX0_wheel_2 5 rfl rfl)
theorem dX0_wheel_66 : decode cX0_wheel 66 = .ok (.getfield 216, 3) := dk_180 0 216 (dk_at dksX0_wheel_2 6 rfl rfl)
theorem dX0_wheel_69 : decode cX0_wheel 69 = .ok (.ireturn, 1) := dk_172 (dk_at dksX0_wheel_2 9 rfl rfl)
theorem dX0_wheel_70 : decode cX0_wheel 70 = .ok (.aload_n 3, 1) := dk_45 (dk_at dksX0_wheel_2 10 rfl rfl)
theorem dX0_wheel_71 : decode cX0_wheel 71 = .ok (.getfield 77, 3) := dk_180 0 77 (dk_at dksX0_wheel_2 11 rfl rfl)
theorem dX0_wheel_74 : decode cX0_wheel 74 = .ok (.ireturn, 1) := dk_172 (dk_at dksX0_wheel_2 14 rfl rfl)
theorem dX0_wheel_75 : decode cX0_wheel 75 = .ok (.aload_n 3, 1) := dk_45 (dk_at dksX0_wheel_2 15 rfl rfl)
theorem dX0_wheel_76 : decode cX0_wheel 76 = .ok (.getfield 31, 3) := dk_180 0 31 (dk_at dksX0_wheel_2 16 rfl rfl)
theorem dX0_wheel_79 : decode cX0_wheel 79 = .ok (.ireturn, 1) := dk_172 (dk_at dksX0_wheel_2 19 rfl rfl)
theorem dX0_wheel_80 : decode cX0_wheel 80 = .ok (.aload_n 3, 1) := dk_45 (dk_at dksX0_wheel_2 20 rfl rfl)
theorem dX0_wheel_81 : decode cX0_wheel 81 = .ok (.getfield 31, 3) := dk_180 0 31 (dk_at dksX0_wheel_2 21 rfl rfl)
theorem dX0_wheel_84 : decode cX0_wheel 84 = .ok (.aload_n 3, 1) := dk_45 (dk_at dksX0_wheel_3 0 rfl rfl)
theorem dX0_wheel_85 : decode cX0_wheel 85 = .ok (.getfield 216, 3) := dk_180 0 216 (dk_at dksX0_wheel_3 1 rfl rfl)
theorem dX0_wheel_88 : decode cX0_wheel 88 = .ok (.idiv, 1) := dk_108 (dk_at dksX0_wheel_3 4 rfl rfl)
theorem dX0_wheel_89 : decode cX0_wheel 89 = .ok (.ireturn, 1) := dk_172 (dk_at dksX0_wheel_3 5 rfl rfl)
theorem dX0_wheel_90 : decode cX0_wheel 90 = .ok (.aload_n 0, 1) := dk_42 (dk_at dksX0_wheel_3 6 rfl rfl)
theorem dX0_wheel_91 : decode cX0_wheel 91 = .ok (.aload_n 0, 1) := dk_42 (dk_at dksX0_wheel_3 7 rfl rfl)
theorem dX0_wheel_92 : decode cX0_wheel 92 = .ok (.getfield 134, 3) := dk_180 0 134 (dk_at dksX0_wheel_3 8 rfl rfl)
theorem dX0_wheel_95 : decode cX0_wheel 95 = .ok (.iload_n 1, 1) := dk_27 (dk_at dksX0_wheel_3 11 rfl rfl)
theorem dX0_wheel_96 : decode cX0_wheel 96 = .ok (.invokevirtual 51, 3) := dk_182 0 51 (dk_at dksX0_wheel_3 12 rfl rfl)
theorem dX0_wheel_99 : decode cX0_wheel 99 = .ok (.ireturn, 1) := dk_172 (dk_at dksX0_wheel_3 15 rfl rfl)
theorem dX0_wheel_100 : decode cX0_wheel 100 = .ok (.iconst (-1), 1) := dk_2 (dk_at dksX0_wheel_3 16 rfl rfl)
theorem dX0_wheel_101 : decode cX0_wheel 101 = .ok (.ireturn, 1) := dk_172 (dk_at dksX0_wheel_3 17 rfl rfl)
abbrev cX0_isWheel : ByteArray := prog_1_method_17_code
def yX0_isWheel : MethodName := ⟨RX0, "isWheel", "(I)Z"⟩
def dkwX0_isWheel_0 : List UInt8 := [27, 133, 9, 42, 180, 0, 134, 180, 0, 44, 4, 100, 133, 184, 0, 164, 172]
abbrev dktX0_isWheel_0 : List UInt8 := dkwX0_isWheel_0 ++ []
theorem dksX0_isWheel_0 : cX0_isWheel.data.toList.drop 0 = dktX0_isWheel_0 := by decide +kernel
theorem dX0_isWheel_0 : decode cX0_isWheel 0 = .ok (.iload_n 1, 1) := dk_27 (dk_at dksX0_isWheel_0 0 rfl rfl)
theorem dX0_isWheel_1 : decode cX0_isWheel 1 = .ok (.i2l, 1) := dk_133 (dk_at dksX0_isWheel_0 1 rfl rfl)
theorem dX0_isWheel_2 : decode cX0_isWheel 2 = .ok (.lconst 0, 1) := dk_9 (dk_at dksX0_isWheel_0 2 rfl rfl)
theorem dX0_isWheel_3 : decode cX0_isWheel 3 = .ok (.aload_n 0, 1) := dk_42 (dk_at dksX0_isWheel_0 3 rfl rfl)
theorem dX0_isWheel_4 : decode cX0_isWheel 4 = .ok (.getfield 134, 3) := dk_180 0 134 (dk_at dksX0_isWheel_0 4 rfl rfl)
theorem dX0_isWheel_7 : decode cX0_isWheel 7 = .ok (.getfield 44, 3) := dk_180 0 44 (dk_at dksX0_isWheel_0 7 rfl rfl)
theorem dX0_isWheel_10 : decode cX0_isWheel 10 = .ok (.iconst 1, 1) := dk_4 (dk_at dksX0_isWheel_0 10 rfl rfl)
theorem dX0_isWheel_11 : decode cX0_isWheel 11 = .ok (.isub, 1) := dk_100 (dk_at dksX0_isWheel_0 11 rfl rfl)
theorem dX0_isWheel_12 : decode cX0_isWheel 12 = .ok (.i2l, 1) := dk_133 (dk_at dksX0_isWheel_0 12 rfl rfl)
theorem dX0_isWheel_13 : decode cX0_isWheel 13 = .ok (.invokestatic 164, 3) := dk_184 0 164 (dk_at dksX0_isWheel_0 13 rfl rfl)
theorem dX0_isWheel_16 : decode cX0_isWheel 16 = .ok (.ireturn, 1) := dk_172 (dk_at dksX0_isWheel_0 16 rfl rfl)
abbrev cX0_joinedBy : ByteArray := prog_1_method_4_code
def yX0_joinedBy : MethodName := ⟨RX0, "joinedBy", "(LFlyWheels$Shaft;I)I"⟩
def dkwX0_joinedBy_1 : List UInt8 := [28, 182, 0, 34, 182, 0, 38, 172]
abbrev dktX0_joinedBy_1 : List UInt8 := dkwX0_joinedBy_1 ++ []
def dkwX0_joinedBy_0 : List UInt8 := [42, 180, 0, 16, 43, 180, 0, 20, 28, 50, 180, 0, 26, 50, 43, 180, 0, 20, 28, 50, 180, 0, 31, 43]
abbrev dktX0_joinedBy_0 : List UInt8 := dkwX0_joinedBy_0 ++ dktX0_joinedBy_1
theorem dksX0_joinedBy_0 : cX0_joinedBy.data.toList.drop 0 = dktX0_joinedBy_0 := by decide +kernel
theorem dksX0_joinedBy_1 : cX0_joinedBy.data.toList.drop 24 = dktX0_joinedBy_1 := dk_seg dksX0_joinedBy_0 24 rfl rfl
theorem dX0_joinedBy_0 : decode cX0_joinedBy 0 = .ok (.aload_n 0, 1) := dk_42 (dk_at dksX0_joinedBy_0 0 rfl rfl)
theorem dX0_joinedBy_1 : decode cX0_joinedBy 1 = .ok (.getfield 16, 3) := dk_180 0 16 (dk_at dksX0_joinedBy_0 1 rfl rfl)
theorem dX0_joinedBy_4 : decode cX0_joinedBy 4 = .ok (.aload_n 1, 1) := dk_43 (dk_at dksX0_joinedBy_0 4 rfl rfl)
theorem dX0_joinedBy_5 : decode cX0_joinedBy 5 = .ok (.getfield 20, 3) := dk_180 0 20 (dk_at dksX0_joinedBy_0 5 rfl rfl)
theorem dX0_joinedBy_8 : decode cX0_joinedBy 8 = .ok (.iload_n 2, 1) := dk_28 (dk_at dksX0_joinedBy_0 8 rfl rfl)
theorem dX0_joinedBy_9 : decode cX0_joinedBy 9 = .ok (.aaload, 1) := dk_50 (dk_at dksX0_joinedBy_0 9 rfl rfl)
theorem dX0_joinedBy_10 : decode cX0_joinedBy 10 = .ok (.getfield 26, 3) := dk_180 0 26 (dk_at dksX0_joinedBy_0 10 rfl rfl)
theorem dX0_joinedBy_13 : decode cX0_joinedBy 13 = .ok (.aaload, 1) := dk_50 (dk_at dksX0_joinedBy_0 13 rfl rfl)
theorem dX0_joinedBy_14 : decode cX0_joinedBy 14 = .ok (.aload_n 1, 1) := dk_43 (dk_at dksX0_joinedBy_0 14 rfl rfl)
theorem dX0_joinedBy_15 : decode cX0_joinedBy 15 = .ok (.getfield 20, 3) := dk_180 0 20 (dk_at dksX0_joinedBy_0 15 rfl rfl)
theorem dX0_joinedBy_18 : decode cX0_joinedBy 18 = .ok (.iload_n 2, 1) := dk_28 (dk_at dksX0_joinedBy_0 18 rfl rfl)
theorem dX0_joinedBy_19 : decode cX0_joinedBy 19 = .ok (.aaload, 1) := dk_50 (dk_at dksX0_joinedBy_0 19 rfl rfl)
theorem dX0_joinedBy_20 : decode cX0_joinedBy 20 = .ok (.getfield 31, 3) := dk_180 0 31 (dk_at dksX0_joinedBy_0 20 rfl rfl)
theorem dX0_joinedBy_23 : decode cX0_joinedBy 23 = .ok (.aload_n 1, 1) := dk_43 (dk_at dksX0_joinedBy_0 23 rfl rfl)
theorem dX0_joinedBy_24 : decode cX0_joinedBy 24 = .ok (.iload_n 2, 1) := dk_28 (dk_at dksX0_joinedBy_1 0 rfl rfl)
theorem dX0_joinedBy_25 : decode cX0_joinedBy 25 = .ok (.invokevirtual 34, 3) := dk_182 0 34 (dk_at dksX0_joinedBy_1 1 rfl rfl)
theorem dX0_joinedBy_28 : decode cX0_joinedBy 28 = .ok (.invokevirtual 38, 3) := dk_182 0 38 (dk_at dksX0_joinedBy_1 4 rfl rfl)
theorem dX0_joinedBy_31 : decode cX0_joinedBy 31 = .ok (.ireturn, 1) := dk_172 (dk_at dksX0_joinedBy_1 7 rfl rfl)
abbrev cX0_act : ByteArray := prog_1_method_24_code
def yX0_act : MethodName := ⟨RX0, "act", "(I)I"⟩
def dkwX0_act_0 : List UInt8 := [42, 27, 182, 0, 217, 153, 0, 15, 42, 180, 0, 134, 180, 0, 96, 27, 53, 167, 0, 4, 2, 172]
abbrev dktX0_act_0 : List UInt8 := dkwX0_act_0 ++ []
theorem dksX0_act_0 : cX0_act.data.toList.drop 0 = dktX0_act_0 := by decide +kernel
theorem dX0_act_0 : decode cX0_act 0 = .ok (.aload_n 0, 1) := dk_42 (dk_at dksX0_act_0 0 rfl rfl)
theorem dX0_act_1 : decode cX0_act 1 = .ok (.iload_n 1, 1) := dk_27 (dk_at dksX0_act_0 1 rfl rfl)
theorem dX0_act_2 : decode cX0_act 2 = .ok (.invokevirtual 217, 3) := dk_182 0 217 (dk_at dksX0_act_0 2 rfl rfl)
theorem dX0_act_5 : decode cX0_act 5 = .ok (.ifCond .eq 15, 3) := dk_153 0 15 (dk_at dksX0_act_0 5 rfl rfl)
theorem dX0_act_8 : decode cX0_act 8 = .ok (.aload_n 0, 1) := dk_42 (dk_at dksX0_act_0 8 rfl rfl)
theorem dX0_act_9 : decode cX0_act 9 = .ok (.getfield 134, 3) := dk_180 0 134 (dk_at dksX0_act_0 9 rfl rfl)
theorem dX0_act_12 : decode cX0_act 12 = .ok (.getfield 96, 3) := dk_180 0 96 (dk_at dksX0_act_0 12 rfl rfl)
theorem dX0_act_15 : decode cX0_act 15 = .ok (.iload_n 1, 1) := dk_27 (dk_at dksX0_act_0 15 rfl rfl)
theorem dX0_act_16 : decode cX0_act 16 = .ok (.saload, 1) := dk_53 (dk_at dksX0_act_0 16 rfl rfl)
theorem dX0_act_17 : decode cX0_act 17 = .ok (.goto 4, 3) := dk_167 0 4 (dk_at dksX0_act_0 17 rfl rfl)
theorem dX0_act_20 : decode cX0_act 20 = .ok (.iconst (-1), 1) := dk_2 (dk_at dksX0_act_0 20 rfl rfl)
theorem dX0_act_21 : decode cX0_act 21 = .ok (.ireturn, 1) := dk_172 (dk_at dksX0_act_0 21 rfl rfl)
abbrev cX0_isAct : ByteArray := prog_1_method_18_code
def yX0_isAct : MethodName := ⟨RX0, "isAct", "(I)Z"⟩
def dkwX0_isAct_0 : List UInt8 := [27, 133, 9, 42, 180, 0, 134, 180, 0, 203, 4, 100, 133, 184, 0, 164, 172]
abbrev dktX0_isAct_0 : List UInt8 := dkwX0_isAct_0 ++ []
theorem dksX0_isAct_0 : cX0_isAct.data.toList.drop 0 = dktX0_isAct_0 := by decide +kernel
theorem dX0_isAct_0 : decode cX0_isAct 0 = .ok (.iload_n 1, 1) := dk_27 (dk_at dksX0_isAct_0 0 rfl rfl)
theorem dX0_isAct_1 : decode cX0_isAct 1 = .ok (.i2l, 1) := dk_133 (dk_at dksX0_isAct_0 1 rfl rfl)
theorem dX0_isAct_2 : decode cX0_isAct 2 = .ok (.lconst 0, 1) := dk_9 (dk_at dksX0_isAct_0 2 rfl rfl)
theorem dX0_isAct_3 : decode cX0_isAct 3 = .ok (.aload_n 0, 1) := dk_42 (dk_at dksX0_isAct_0 3 rfl rfl)
theorem dX0_isAct_4 : decode cX0_isAct 4 = .ok (.getfield 134, 3) := dk_180 0 134 (dk_at dksX0_isAct_0 4 rfl rfl)
theorem dX0_isAct_7 : decode cX0_isAct 7 = .ok (.getfield 203, 3) := dk_180 0 203 (dk_at dksX0_isAct_0 7 rfl rfl)
theorem dX0_isAct_10 : decode cX0_isAct 10 = .ok (.iconst 1, 1) := dk_4 (dk_at dksX0_isAct_0 10 rfl rfl)
theorem dX0_isAct_11 : decode cX0_isAct 11 = .ok (.isub, 1) := dk_100 (dk_at dksX0_isAct_0 11 rfl rfl)
theorem dX0_isAct_12 : decode cX0_isAct 12 = .ok (.i2l, 1) := dk_133 (dk_at dksX0_isAct_0 12 rfl rfl)
theorem dX0_isAct_13 : decode cX0_isAct 13 = .ok (.invokestatic 164, 3) := dk_184 0 164 (dk_at dksX0_isAct_0 13 rfl rfl)
theorem dX0_isAct_16 : decode cX0_isAct 16 = .ok (.ireturn, 1) := dk_172 (dk_at dksX0_isAct_0 16 rfl rfl)
abbrev cX0_alter : ByteArray := prog_1_method_26_code
def yX0_alter : MethodName := ⟨RX0, "alter", "(III)I"⟩
def dkwX0_alter_4 : List UInt8 := [167, 0, 9, 25, 5, 29, 181, 0, 31, 21, 4, 172]
abbrev dktX0_alter_4 : List UInt8 := dkwX0_alter_4 ++ []
def dkwX0_alter_3 : List UInt8 := [25, 5, 29, 181, 0, 26, 167, 0, 27, 25, 5, 29, 181, 0, 216, 167, 0, 18, 25, 5, 29, 181, 0, 77]
abbrev dktX0_alter_3 : List UInt8 := dkwX0_alter_3 ++ dktX0_alter_4
def dkwX0_alter_2 : List UInt8 := [170, 0, 0, 0, 0, 53, 0, 0, 0, 0, 0, 0, 0, 2, 0, 0, 0, 26, 0, 0, 0, 35, 0, 0, 0, 44]
abbrev dktX0_alter_2 : List UInt8 := dkwX0_alter_2 ++ dktX0_alter_3
def dkwX0_alter_1 : List UInt8 := [54, 4, 42, 180, 0, 134, 180, 0, 20, 27, 50, 58, 5, 28]
abbrev dktX0_alter_1 : List UInt8 := dkwX0_alter_1 ++ dktX0_alter_2
def dkwX0_alter_0 : List UInt8 := [42, 27, 182, 0, 212, 153, 0, 11, 28, 29, 184, 0, 228, 154, 0, 5, 2, 172, 42, 27, 28, 182, 0, 232]
abbrev dktX0_alter_0 : List UInt8 := dkwX0_alter_0 ++ dktX0_alter_1
theorem dksX0_alter_0 : cX0_alter.data.toList.drop 0 = dktX0_alter_0 := by decide +kernel
theorem dksX0_alter_1 : cX0_alter.data.toList.drop 24 = dktX0_alter_1 := dk_seg dksX0_alter_0 24 rfl rfl
theorem dksX0_alter_2 : cX0_alter.data.toList.drop 38 = dktX0_alter_2 := dk_seg dksX0_alter_1 14 rfl rfl
theorem dksX0_alter_3 : cX0_alter.data.toList.drop 64 = dktX0_alter_3 := dk_seg dksX0_alter_2 26 rfl rfl
theorem dksX0_alter_4 : cX0_alter.data.toList.drop 88 = dktX0_alter_4 := dk_seg dksX0_alter_3 24 rfl rfl
theorem dX0_alter_0 : decode cX0_alter 0 = .ok (.aload_n 0, 1) := dk_42 (dk_at dksX0_alter_0 0 rfl rfl)
theorem dX0_alter_1 : decode cX0_alter 1 = .ok (.iload_n 1, 1) := dk_27 (dk_at dksX0_alter_0 1 rfl rfl)
theorem dX0_alter_2 : decode cX0_alter 2 = .ok (.invokevirtual 212, 3) := dk_182 0 212 (dk_at dksX0_alter_0 2 rfl rfl)
theorem dX0_alter_5 : decode cX0_alter 5 = .ok (.ifCond .eq 11, 3) := dk_153 0 11 (dk_at dksX0_alter_0 5 rfl rfl)
theorem dX0_alter_8 : decode cX0_alter 8 = .ok (.iload_n 2, 1) := dk_28 (dk_at dksX0_alter_0 8 rfl rfl)
theorem dX0_alter_9 : decode cX0_alter 9 = .ok (.iload_n 3, 1) := dk_29 (dk_at dksX0_alter_0 9 rfl rfl)
theorem dX0_alter_10 : decode cX0_alter 10 = .ok (.invokestatic 228, 3) := dk_184 0 228 (dk_at dksX0_alter_0 10 rfl rfl)
theorem dX0_alter_13 : decode cX0_alter 13 = .ok (.ifCond .ne 5, 3) := dk_154 0 5 (dk_at dksX0_alter_0 13 rfl rfl)
theorem dX0_alter_16 : decode cX0_alter 16 = .ok (.iconst (-1), 1) := dk_2 (dk_at dksX0_alter_0 16 rfl rfl)
theorem dX0_alter_17 : decode cX0_alter 17 = .ok (.ireturn, 1) := dk_172 (dk_at dksX0_alter_0 17 rfl rfl)
theorem dX0_alter_18 : decode cX0_alter 18 = .ok (.aload_n 0, 1) := dk_42 (dk_at dksX0_alter_0 18 rfl rfl)
theorem dX0_alter_19 : decode cX0_alter 19 = .ok (.iload_n 1, 1) := dk_27 (dk_at dksX0_alter_0 19 rfl rfl)
theorem dX0_alter_20 : decode cX0_alter 20 = .ok (.iload_n 2, 1) := dk_28 (dk_at dksX0_alter_0 20 rfl rfl)
theorem dX0_alter_21 : decode cX0_alter 21 = .ok (.invokevirtual 232, 3) := dk_182 0 232 (dk_at dksX0_alter_0 21 rfl rfl)
theorem dX0_alter_24 : decode cX0_alter 24 = .ok (.istore 4, 2) := dk_54 4 (dk_at dksX0_alter_1 0 rfl rfl)
theorem dX0_alter_26 : decode cX0_alter 26 = .ok (.aload_n 0, 1) := dk_42 (dk_at dksX0_alter_1 2 rfl rfl)
theorem dX0_alter_27 : decode cX0_alter 27 = .ok (.getfield 134, 3) := dk_180 0 134 (dk_at dksX0_alter_1 3 rfl rfl)
theorem dX0_alter_30 : decode cX0_alter 30 = .ok (.getfield 20, 3) := dk_180 0 20 (dk_at dksX0_alter_1 6 rfl rfl)
theorem dX0_alter_33 : decode cX0_alter 33 = .ok (.iload_n 1, 1) := dk_27 (dk_at dksX0_alter_1 9 rfl rfl)
theorem dX0_alter_34 : decode cX0_alter 34 = .ok (.aaload, 1) := dk_50 (dk_at dksX0_alter_1 10 rfl rfl)
theorem dX0_alter_35 : decode cX0_alter 35 = .ok (.astore 5, 2) := dk_58 5 (dk_at dksX0_alter_1 11 rfl rfl)
theorem dX0_alter_37 : decode cX0_alter 37 = .ok (.iload_n 2, 1) := dk_28 (dk_at dksX0_alter_1 13 rfl rfl)
theorem dX0_alter_38 : decode cX0_alter 38 = .ok (.tableswitch 53 0 2 #[26, 35, 44], 26) := by decide +kernel
theorem dX0_alter_64 : decode cX0_alter 64 = .ok (.aload 5, 2) := dk_25 5 (dk_at dksX0_alter_3 0 rfl rfl)
theorem dX0_alter_66 : decode cX0_alter 66 = .ok (.iload_n 3, 1) := dk_29 (dk_at dksX0_alter_3 2 rfl rfl)
theorem dX0_alter_67 : decode cX0_alter 67 = .ok (.putfield 26, 3) := dk_181 0 26 (dk_at dksX0_alter_3 3 rfl rfl)
theorem dX0_alter_70 : decode cX0_alter 70 = .ok (.goto 27, 3) := dk_167 0 27 (dk_at dksX0_alter_3 6 rfl rfl)
theorem dX0_alter_73 : decode cX0_alter 73 = .ok (.aload 5, 2) := dk_25 5 (dk_at dksX0_alter_3 9 rfl rfl)
theorem dX0_alter_75 : decode cX0_alter 75 = .ok (.iload_n 3, 1) := dk_29 (dk_at dksX0_alter_3 11 rfl rfl)
theorem dX0_alter_76 : decode cX0_alter 76 = .ok (.putfield 216, 3) := dk_181 0 216 (dk_at dksX0_alter_3 12 rfl rfl)
theorem dX0_alter_79 : decode cX0_alter 79 = .ok (.goto 18, 3) := dk_167 0 18 (dk_at dksX0_alter_3 15 rfl rfl)
theorem dX0_alter_82 : decode cX0_alter 82 = .ok (.aload 5, 2) := dk_25 5 (dk_at dksX0_alter_3 18 rfl rfl)
theorem dX0_alter_84 : decode cX0_alter 84 = .ok (.iload_n 3, 1) := dk_29 (dk_at dksX0_alter_3 20 rfl rfl)
theorem dX0_alter_85 : decode cX0_alter 85 = .ok (.putfield 77, 3) := dk_181 0 77 (dk_at dksX0_alter_3 21 rfl rfl)
theorem dX0_alter_88 : decode cX0_alter 88 = .ok (.goto 9, 3) := dk_167 0 9 (dk_at dksX0_alter_4 0 rfl rfl)
theorem dX0_alter_91 : decode cX0_alter 91 = .ok (.aload 5, 2) := dk_25 5 (dk_at dksX0_alter_4 3 rfl rfl)
theorem dX0_alter_93 : decode cX0_alter 93 = .ok (.iload_n 3, 1) := dk_29 (dk_at dksX0_alter_4 5 rfl rfl)
theorem dX0_alter_94 : decode cX0_alter 94 = .ok (.putfield 31, 3) := dk_181 0 31 (dk_at dksX0_alter_4 6 rfl rfl)
theorem dX0_alter_97 : decode cX0_alter 97 = .ok (.iload 4, 2) := dk_21 4 (dk_at dksX0_alter_4 9 rfl rfl)
theorem dX0_alter_99 : decode cX0_alter 99 = .ok (.ireturn, 1) := dk_172 (dk_at dksX0_alter_4 11 rfl rfl)
abbrev cX0_canBe : ByteArray := prog_1_method_25_code
def yX0_canBe : MethodName := ⟨RX0, "canBe", "(II)Z"⟩
def dkwX0_canBe_3 : List UInt8 := [20, 0, 224, 184, 0, 164, 172, 27, 133, 9, 20, 0, 226, 184, 0, 164, 172, 3, 172]
abbrev dktX0_canBe_3 : List UInt8 := dkwX0_canBe_3 ++ []
def dkwX0_canBe_2 : List UInt8 := [27, 133, 9, 20, 0, 220, 184, 0, 164, 172, 27, 133, 10, 20, 0, 222, 184, 0, 164, 172, 27, 133, 9]
abbrev dktX0_canBe_2 : List UInt8 := dkwX0_canBe_2 ++ dktX0_canBe_3
def dkwX0_canBe_1 : List UInt8 := [170, 0, 0, 0, 0, 0, 71, 0, 0, 0, 0, 0, 0, 0, 3, 0, 0, 0, 31, 0, 0, 0, 41, 0, 0, 0, 51, 0, 0, 0, 61]
abbrev dktX0_canBe_1 : List UInt8 := dkwX0_canBe_1 ++ dktX0_canBe_2
def dkwX0_canBe_0 : List UInt8 := [26]
abbrev dktX0_canBe_0 : List UInt8 := dkwX0_canBe_0 ++ dktX0_canBe_1
theorem dksX0_canBe_0 : cX0_canBe.data.toList.drop 0 = dktX0_canBe_0 := by decide +kernel
theorem dksX0_canBe_1 : cX0_canBe.data.toList.drop 1 = dktX0_canBe_1 := dk_seg dksX0_canBe_0 1 rfl rfl
theorem dksX0_canBe_2 : cX0_canBe.data.toList.drop 32 = dktX0_canBe_2 := dk_seg dksX0_canBe_1 31 rfl rfl
theorem dksX0_canBe_3 : cX0_canBe.data.toList.drop 55 = dktX0_canBe_3 := dk_seg dksX0_canBe_2 23 rfl rfl
theorem dX0_canBe_0 : decode cX0_canBe 0 = .ok (.iload_n 0, 1) := dk_26 (dk_at dksX0_canBe_0 0 rfl rfl)
theorem dX0_canBe_1 : decode cX0_canBe 1 = .ok (.tableswitch 71 0 3 #[31, 41, 51, 61], 31) := by decide +kernel
theorem dX0_canBe_32 : decode cX0_canBe 32 = .ok (.iload_n 1, 1) := dk_27 (dk_at dksX0_canBe_2 0 rfl rfl)
theorem dX0_canBe_33 : decode cX0_canBe 33 = .ok (.i2l, 1) := dk_133 (dk_at dksX0_canBe_2 1 rfl rfl)
theorem dX0_canBe_34 : decode cX0_canBe 34 = .ok (.lconst 0, 1) := dk_9 (dk_at dksX0_canBe_2 2 rfl rfl)
theorem dX0_canBe_35 : decode cX0_canBe 35 = .ok (.ldc2_w 220, 3) := dk_20 0 220 (dk_at dksX0_canBe_2 3 rfl rfl)
theorem dX0_canBe_38 : decode cX0_canBe 38 = .ok (.invokestatic 164, 3) := dk_184 0 164 (dk_at dksX0_canBe_2 6 rfl rfl)
theorem dX0_canBe_41 : decode cX0_canBe 41 = .ok (.ireturn, 1) := dk_172 (dk_at dksX0_canBe_2 9 rfl rfl)
theorem dX0_canBe_42 : decode cX0_canBe 42 = .ok (.iload_n 1, 1) := dk_27 (dk_at dksX0_canBe_2 10 rfl rfl)
theorem dX0_canBe_43 : decode cX0_canBe 43 = .ok (.i2l, 1) := dk_133 (dk_at dksX0_canBe_2 11 rfl rfl)
theorem dX0_canBe_44 : decode cX0_canBe 44 = .ok (.lconst 1, 1) := dk_10 (dk_at dksX0_canBe_2 12 rfl rfl)
theorem dX0_canBe_45 : decode cX0_canBe 45 = .ok (.ldc2_w 222, 3) := dk_20 0 222 (dk_at dksX0_canBe_2 13 rfl rfl)
theorem dX0_canBe_48 : decode cX0_canBe 48 = .ok (.invokestatic 164, 3) := dk_184 0 164 (dk_at dksX0_canBe_2 16 rfl rfl)
theorem dX0_canBe_51 : decode cX0_canBe 51 = .ok (.ireturn, 1) := dk_172 (dk_at dksX0_canBe_2 19 rfl rfl)
theorem dX0_canBe_52 : decode cX0_canBe 52 = .ok (.iload_n 1, 1) := dk_27 (dk_at dksX0_canBe_2 20 rfl rfl)
theorem dX0_canBe_53 : decode cX0_canBe 53 = .ok (.i2l, 1) := dk_133 (dk_at dksX0_canBe_2 21 rfl rfl)
theorem dX0_canBe_54 : decode cX0_canBe 54 = .ok (.lconst 0, 1) := dk_9 (dk_at dksX0_canBe_2 22 rfl rfl)
theorem dX0_canBe_55 : decode cX0_canBe 55 = .ok (.ldc2_w 224, 3) := dk_20 0 224 (dk_at dksX0_canBe_3 0 rfl rfl)
theorem dX0_canBe_58 : decode cX0_canBe 58 = .ok (.invokestatic 164, 3) := dk_184 0 164 (dk_at dksX0_canBe_3 3 rfl rfl)
theorem dX0_canBe_61 : decode cX0_canBe 61 = .ok (.ireturn, 1) := dk_172 (dk_at dksX0_canBe_3 6 rfl rfl)
theorem dX0_canBe_62 : decode cX0_canBe 62 = .ok (.iload_n 1, 1) := dk_27 (dk_at dksX0_canBe_3 7 rfl rfl)
theorem dX0_canBe_63 : decode cX0_canBe 63 = .ok (.i2l, 1) := dk_133 (dk_at dksX0_canBe_3 8 rfl rfl)
theorem dX0_canBe_64 : decode cX0_canBe 64 = .ok (.lconst 0, 1) := dk_9 (dk_at dksX0_canBe_3 9 rfl rfl)
theorem dX0_canBe_65 : decode cX0_canBe 65 = .ok (.ldc2_w 226, 3) := dk_20 0 226 (dk_at dksX0_canBe_3 10 rfl rfl)
theorem dX0_canBe_68 : decode cX0_canBe 68 = .ok (.invokestatic 164, 3) := dk_184 0 164 (dk_at dksX0_canBe_3 13 rfl rfl)
theorem dX0_canBe_71 : decode cX0_canBe 71 = .ok (.ireturn, 1) := dk_172 (dk_at dksX0_canBe_3 16 rfl rfl)
theorem dX0_canBe_72 : decode cX0_canBe 72 = .ok (.iconst 0, 1) := dk_3 (dk_at dksX0_canBe_3 17 rfl rfl)
theorem dX0_canBe_73 : decode cX0_canBe 73 = .ok (.ireturn, 1) := dk_172 (dk_at dksX0_canBe_3 18 rfl rfl)
abbrev cX0_shaft : ByteArray := prog_1_method_27_code
def yX0_shaft : MethodName := ⟨RX0, "shaft", "(I)I"⟩
def dkwX0_shaft_1 : List UInt8 := [181, 0, 209, 28, 172]
abbrev dktX0_shaft_1 : List UInt8 := dkwX0_shaft_1 ++ []
def dkwX0_shaft_0 : List UInt8 := [4, 27, 184, 0, 228, 154, 0, 5, 2, 172, 42, 180, 0, 134, 180, 0, 209, 61, 42, 180, 0, 134, 27]
abbrev dktX0_shaft_0 : List UInt8 := dkwX0_shaft_0 ++ dktX0_shaft_1
theorem dksX0_shaft_0 : cX0_shaft.data.toList.drop 0 = dktX0_shaft_0 := by decide +kernel
theorem dksX0_shaft_1 : cX0_shaft.data.toList.drop 23 = dktX0_shaft_1 := dk_seg dksX0_shaft_0 23 rfl rfl
theorem dX0_shaft_0 : decode cX0_shaft 0 = .ok (.iconst 1, 1) := dk_4 (dk_at dksX0_shaft_0 0 rfl rfl)
theorem dX0_shaft_1 : decode cX0_shaft 1 = .ok (.iload_n 1, 1) := dk_27 (dk_at dksX0_shaft_0 1 rfl rfl)
theorem dX0_shaft_2 : decode cX0_shaft 2 = .ok (.invokestatic 228, 3) := dk_184 0 228 (dk_at dksX0_shaft_0 2 rfl rfl)
theorem dX0_shaft_5 : decode cX0_shaft 5 = .ok (.ifCond .ne 5, 3) := dk_154 0 5 (dk_at dksX0_shaft_0 5 rfl rfl)
theorem dX0_shaft_8 : decode cX0_shaft 8 = .ok (.iconst (-1), 1) := dk_2 (dk_at dksX0_shaft_0 8 rfl rfl)
theorem dX0_shaft_9 : decode cX0_shaft 9 = .ok (.ireturn, 1) := dk_172 (dk_at dksX0_shaft_0 9 rfl rfl)
theorem dX0_shaft_10 : decode cX0_shaft 10 = .ok (.aload_n 0, 1) := dk_42 (dk_at dksX0_shaft_0 10 rfl rfl)
theorem dX0_shaft_11 : decode cX0_shaft 11 = .ok (.getfield 134, 3) := dk_180 0 134 (dk_at dksX0_shaft_0 11 rfl rfl)
theorem dX0_shaft_14 : decode cX0_shaft 14 = .ok (.getfield 209, 3) := dk_180 0 209 (dk_at dksX0_shaft_0 14 rfl rfl)
theorem dX0_shaft_17 : decode cX0_shaft 17 = .ok (.istore_n 2, 1) := dk_61 (dk_at dksX0_shaft_0 17 rfl rfl)
theorem dX0_shaft_18 : decode cX0_shaft 18 = .ok (.aload_n 0, 1) := dk_42 (dk_at dksX0_shaft_0 18 rfl rfl)
theorem dX0_shaft_19 : decode cX0_shaft 19 = .ok (.getfield 134, 3) := dk_180 0 134 (dk_at dksX0_shaft_0 19 rfl rfl)
theorem dX0_shaft_22 : decode cX0_shaft 22 = .ok (.iload_n 1, 1) := dk_27 (dk_at dksX0_shaft_0 22 rfl rfl)
theorem dX0_shaft_23 : decode cX0_shaft 23 = .ok (.putfield 209, 3) := dk_181 0 209 (dk_at dksX0_shaft_1 0 rfl rfl)
theorem dX0_shaft_26 : decode cX0_shaft 26 = .ok (.iload_n 2, 1) := dk_28 (dk_at dksX0_shaft_1 3 rfl rfl)
theorem dX0_shaft_27 : decode cX0_shaft 27 = .ok (.ireturn, 1) := dk_172 (dk_at dksX0_shaft_1 4 rfl rfl)
abbrev cX0_put : ByteArray := prog_1_method_28_code
def yX0_put : MethodName := ⟨RX0, "put", "(III)I"⟩
def dkwX0_put_2 : List UInt8 := [182, 0, 234, 42, 180, 0, 134, 180, 0, 44, 172]
abbrev dktX0_put_2 : List UInt8 := dkwX0_put_2 ++ []
def dkwX0_put_1 : List UInt8 := [2, 172, 42, 180, 0, 134, 180, 0, 44, 7, 160, 0, 6, 16, 253, 172, 42, 180, 0, 134, 27, 28, 29]
abbrev dktX0_put_1 : List UInt8 := dkwX0_put_1 ++ dktX0_put_2
def dkwX0_put_0 : List UInt8 := [3, 27, 184, 0, 228, 153, 0, 19, 4, 28, 184, 0, 228, 153, 0, 11, 5, 29, 184, 0, 228, 154, 0, 5]
abbrev dktX0_put_0 : List UInt8 := dkwX0_put_0 ++ dktX0_put_1
theorem dksX0_put_0 : cX0_put.data.toList.drop 0 = dktX0_put_0 := by decide +kernel
theorem dksX0_put_1 : cX0_put.data.toList.drop 24 = dktX0_put_1 := dk_seg dksX0_put_0 24 rfl rfl
theorem dksX0_put_2 : cX0_put.data.toList.drop 47 = dktX0_put_2 := dk_seg dksX0_put_1 23 rfl rfl
theorem dX0_put_0 : decode cX0_put 0 = .ok (.iconst 0, 1) := dk_3 (dk_at dksX0_put_0 0 rfl rfl)
theorem dX0_put_1 : decode cX0_put 1 = .ok (.iload_n 1, 1) := dk_27 (dk_at dksX0_put_0 1 rfl rfl)
theorem dX0_put_2 : decode cX0_put 2 = .ok (.invokestatic 228, 3) := dk_184 0 228 (dk_at dksX0_put_0 2 rfl rfl)
theorem dX0_put_5 : decode cX0_put 5 = .ok (.ifCond .eq 19, 3) := dk_153 0 19 (dk_at dksX0_put_0 5 rfl rfl)
theorem dX0_put_8 : decode cX0_put 8 = .ok (.iconst 1, 1) := dk_4 (dk_at dksX0_put_0 8 rfl rfl)
theorem dX0_put_9 : decode cX0_put 9 = .ok (.iload_n 2, 1) := dk_28 (dk_at dksX0_put_0 9 rfl rfl)
theorem dX0_put_10 : decode cX0_put 10 = .ok (.invokestatic 228, 3) := dk_184 0 228 (dk_at dksX0_put_0 10 rfl rfl)
theorem dX0_put_13 : decode cX0_put 13 = .ok (.ifCond .eq 11, 3) := dk_153 0 11 (dk_at dksX0_put_0 13 rfl rfl)
theorem dX0_put_16 : decode cX0_put 16 = .ok (.iconst 2, 1) := dk_5 (dk_at dksX0_put_0 16 rfl rfl)
theorem dX0_put_17 : decode cX0_put 17 = .ok (.iload_n 3, 1) := dk_29 (dk_at dksX0_put_0 17 rfl rfl)
theorem dX0_put_18 : decode cX0_put 18 = .ok (.invokestatic 228, 3) := dk_184 0 228 (dk_at dksX0_put_0 18 rfl rfl)
theorem dX0_put_21 : decode cX0_put 21 = .ok (.ifCond .ne 5, 3) := dk_154 0 5 (dk_at dksX0_put_0 21 rfl rfl)
theorem dX0_put_24 : decode cX0_put 24 = .ok (.iconst (-1), 1) := dk_2 (dk_at dksX0_put_1 0 rfl rfl)
theorem dX0_put_25 : decode cX0_put 25 = .ok (.ireturn, 1) := dk_172 (dk_at dksX0_put_1 1 rfl rfl)
theorem dX0_put_26 : decode cX0_put 26 = .ok (.aload_n 0, 1) := dk_42 (dk_at dksX0_put_1 2 rfl rfl)
theorem dX0_put_27 : decode cX0_put 27 = .ok (.getfield 134, 3) := dk_180 0 134 (dk_at dksX0_put_1 3 rfl rfl)
theorem dX0_put_30 : decode cX0_put 30 = .ok (.getfield 44, 3) := dk_180 0 44 (dk_at dksX0_put_1 6 rfl rfl)
theorem dX0_put_33 : decode cX0_put 33 = .ok (.iconst 4, 1) := dk_7 (dk_at dksX0_put_1 9 rfl rfl)
theorem dX0_put_34 : decode cX0_put 34 = .ok (.if_icmp .ne 6, 3) := dk_160 0 6 (dk_at dksX0_put_1 10 rfl rfl)
theorem dX0_put_37 : decode cX0_put 37 = .ok (.bipush (-3), 2) := dk_16 253 (dk_at dksX0_put_1 13 rfl rfl)
theorem dX0_put_39 : decode cX0_put 39 = .ok (.ireturn, 1) := dk_172 (dk_at dksX0_put_1 15 rfl rfl)
theorem dX0_put_40 : decode cX0_put 40 = .ok (.aload_n 0, 1) := dk_42 (dk_at dksX0_put_1 16 rfl rfl)
theorem dX0_put_41 : decode cX0_put 41 = .ok (.getfield 134, 3) := dk_180 0 134 (dk_at dksX0_put_1 17 rfl rfl)
theorem dX0_put_44 : decode cX0_put 44 = .ok (.iload_n 1, 1) := dk_27 (dk_at dksX0_put_1 20 rfl rfl)
theorem dX0_put_45 : decode cX0_put 45 = .ok (.iload_n 2, 1) := dk_28 (dk_at dksX0_put_1 21 rfl rfl)
theorem dX0_put_46 : decode cX0_put 46 = .ok (.iload_n 3, 1) := dk_29 (dk_at dksX0_put_1 22 rfl rfl)
theorem dX0_put_47 : decode cX0_put 47 = .ok (.invokevirtual 234, 3) := dk_182 0 234 (dk_at dksX0_put_2 0 rfl rfl)
theorem dX0_put_50 : decode cX0_put 50 = .ok (.aload_n 0, 1) := dk_42 (dk_at dksX0_put_2 3 rfl rfl)
theorem dX0_put_51 : decode cX0_put 51 = .ok (.getfield 134, 3) := dk_180 0 134 (dk_at dksX0_put_2 4 rfl rfl)
theorem dX0_put_54 : decode cX0_put 54 = .ok (.getfield 44, 3) := dk_180 0 44 (dk_at dksX0_put_2 7 rfl rfl)
theorem dX0_put_57 : decode cX0_put 57 = .ok (.ireturn, 1) := dk_172 (dk_at dksX0_put_2 10 rfl rfl)
abbrev cX0_cut : ByteArray := prog_1_method_29_code
def yX0_cut : MethodName := ⟨RX0, "cut", "(I)I"⟩
def dkwX0_cut_1 : List UInt8 := [180, 0, 44, 61, 42, 180, 0, 134, 27, 181, 0, 44, 28, 172]
abbrev dktX0_cut_1 : List UInt8 := dkwX0_cut_1 ++ []
def dkwX0_cut_0 : List UInt8 := [27, 133, 9, 42, 180, 0, 134, 180, 0, 44, 133, 184, 0, 164, 154, 0, 5, 2, 172, 42, 180, 0, 134]
abbrev dktX0_cut_0 : List UInt8 := dkwX0_cut_0 ++ dktX0_cut_1
theorem dksX0_cut_0 : cX0_cut.data.toList.drop 0 = dktX0_cut_0 := by decide +kernel
theorem dksX0_cut_1 : cX0_cut.data.toList.drop 23 = dktX0_cut_1 := dk_seg dksX0_cut_0 23 rfl rfl
theorem dX0_cut_0 : decode cX0_cut 0 = .ok (.iload_n 1, 1) := dk_27 (dk_at dksX0_cut_0 0 rfl rfl)
theorem dX0_cut_1 : decode cX0_cut 1 = .ok (.i2l, 1) := dk_133 (dk_at dksX0_cut_0 1 rfl rfl)
theorem dX0_cut_2 : decode cX0_cut 2 = .ok (.lconst 0, 1) := dk_9 (dk_at dksX0_cut_0 2 rfl rfl)
theorem dX0_cut_3 : decode cX0_cut 3 = .ok (.aload_n 0, 1) := dk_42 (dk_at dksX0_cut_0 3 rfl rfl)
theorem dX0_cut_4 : decode cX0_cut 4 = .ok (.getfield 134, 3) := dk_180 0 134 (dk_at dksX0_cut_0 4 rfl rfl)
theorem dX0_cut_7 : decode cX0_cut 7 = .ok (.getfield 44, 3) := dk_180 0 44 (dk_at dksX0_cut_0 7 rfl rfl)
theorem dX0_cut_10 : decode cX0_cut 10 = .ok (.i2l, 1) := dk_133 (dk_at dksX0_cut_0 10 rfl rfl)
theorem dX0_cut_11 : decode cX0_cut 11 = .ok (.invokestatic 164, 3) := dk_184 0 164 (dk_at dksX0_cut_0 11 rfl rfl)
theorem dX0_cut_14 : decode cX0_cut 14 = .ok (.ifCond .ne 5, 3) := dk_154 0 5 (dk_at dksX0_cut_0 14 rfl rfl)
theorem dX0_cut_17 : decode cX0_cut 17 = .ok (.iconst (-1), 1) := dk_2 (dk_at dksX0_cut_0 17 rfl rfl)
theorem dX0_cut_18 : decode cX0_cut 18 = .ok (.ireturn, 1) := dk_172 (dk_at dksX0_cut_0 18 rfl rfl)
theorem dX0_cut_19 : decode cX0_cut 19 = .ok (.aload_n 0, 1) := dk_42 (dk_at dksX0_cut_0 19 rfl rfl)
theorem dX0_cut_20 : decode cX0_cut 20 = .ok (.getfield 134, 3) := dk_180 0 134 (dk_at dksX0_cut_0 20 rfl rfl)
theorem dX0_cut_23 : decode cX0_cut 23 = .ok (.getfield 44, 3) := dk_180 0 44 (dk_at dksX0_cut_1 0 rfl rfl)
theorem dX0_cut_26 : decode cX0_cut 26 = .ok (.istore_n 2, 1) := dk_61 (dk_at dksX0_cut_1 3 rfl rfl)
theorem dX0_cut_27 : decode cX0_cut 27 = .ok (.aload_n 0, 1) := dk_42 (dk_at dksX0_cut_1 4 rfl rfl)
theorem dX0_cut_28 : decode cX0_cut 28 = .ok (.getfield 134, 3) := dk_180 0 134 (dk_at dksX0_cut_1 5 rfl rfl)
theorem dX0_cut_31 : decode cX0_cut 31 = .ok (.iload_n 1, 1) := dk_27 (dk_at dksX0_cut_1 8 rfl rfl)
theorem dX0_cut_32 : decode cX0_cut 32 = .ok (.putfield 44, 3) := dk_181 0 44 (dk_at dksX0_cut_1 9 rfl rfl)
theorem dX0_cut_35 : decode cX0_cut 35 = .ok (.iload_n 2, 1) := dk_28 (dk_at dksX0_cut_1 12 rfl rfl)
theorem dX0_cut_36 : decode cX0_cut 36 = .ok (.ireturn, 1) := dk_172 (dk_at dksX0_cut_1 13 rfl rfl)
abbrev cX0_set : ByteArray := prog_1_method_30_code
def yX0_set : MethodName := ⟨RX0, "set", "(II)I"⟩
def dkwX0_set_1 : List UInt8 := [27, 53, 62, 42, 180, 0, 134, 180, 0, 96, 27, 28, 147, 86, 29, 172]
abbrev dktX0_set_1 : List UInt8 := dkwX0_set_1 ++ []
def dkwX0_set_0 : List UInt8 := [42, 27, 182, 0, 217, 153, 0, 10, 28, 184, 0, 238, 154, 0, 5, 2, 172, 42, 180, 0, 134, 180, 0, 96]
abbrev dktX0_set_0 : List UInt8 := dkwX0_set_0 ++ dktX0_set_1
theorem dksX0_set_0 : cX0_set.data.toList.drop 0 = dktX0_set_0 := by decide +kernel
theorem dksX0_set_1 : cX0_set.data.toList.drop 24 = dktX0_set_1 := dk_seg dksX0_set_0 24 rfl rfl
theorem dX0_set_0 : decode cX0_set 0 = .ok (.aload_n 0, 1) := dk_42 (dk_at dksX0_set_0 0 rfl rfl)
theorem dX0_set_1 : decode cX0_set 1 = .ok (.iload_n 1, 1) := dk_27 (dk_at dksX0_set_0 1 rfl rfl)
theorem dX0_set_2 : decode cX0_set 2 = .ok (.invokevirtual 217, 3) := dk_182 0 217 (dk_at dksX0_set_0 2 rfl rfl)
theorem dX0_set_5 : decode cX0_set 5 = .ok (.ifCond .eq 10, 3) := dk_153 0 10 (dk_at dksX0_set_0 5 rfl rfl)
theorem dX0_set_8 : decode cX0_set 8 = .ok (.iload_n 2, 1) := dk_28 (dk_at dksX0_set_0 8 rfl rfl)
theorem dX0_set_9 : decode cX0_set 9 = .ok (.invokestatic 238, 3) := dk_184 0 238 (dk_at dksX0_set_0 9 rfl rfl)
theorem dX0_set_12 : decode cX0_set 12 = .ok (.ifCond .ne 5, 3) := dk_154 0 5 (dk_at dksX0_set_0 12 rfl rfl)
theorem dX0_set_15 : decode cX0_set 15 = .ok (.iconst (-1), 1) := dk_2 (dk_at dksX0_set_0 15 rfl rfl)
theorem dX0_set_16 : decode cX0_set 16 = .ok (.ireturn, 1) := dk_172 (dk_at dksX0_set_0 16 rfl rfl)
theorem dX0_set_17 : decode cX0_set 17 = .ok (.aload_n 0, 1) := dk_42 (dk_at dksX0_set_0 17 rfl rfl)
theorem dX0_set_18 : decode cX0_set 18 = .ok (.getfield 134, 3) := dk_180 0 134 (dk_at dksX0_set_0 18 rfl rfl)
theorem dX0_set_21 : decode cX0_set 21 = .ok (.getfield 96, 3) := dk_180 0 96 (dk_at dksX0_set_0 21 rfl rfl)
theorem dX0_set_24 : decode cX0_set 24 = .ok (.iload_n 1, 1) := dk_27 (dk_at dksX0_set_1 0 rfl rfl)
theorem dX0_set_25 : decode cX0_set 25 = .ok (.saload, 1) := dk_53 (dk_at dksX0_set_1 1 rfl rfl)
theorem dX0_set_26 : decode cX0_set 26 = .ok (.istore_n 3, 1) := dk_62 (dk_at dksX0_set_1 2 rfl rfl)
theorem dX0_set_27 : decode cX0_set 27 = .ok (.aload_n 0, 1) := dk_42 (dk_at dksX0_set_1 3 rfl rfl)
theorem dX0_set_28 : decode cX0_set 28 = .ok (.getfield 134, 3) := dk_180 0 134 (dk_at dksX0_set_1 4 rfl rfl)
theorem dX0_set_31 : decode cX0_set 31 = .ok (.getfield 96, 3) := dk_180 0 96 (dk_at dksX0_set_1 7 rfl rfl)
theorem dX0_set_34 : decode cX0_set 34 = .ok (.iload_n 1, 1) := dk_27 (dk_at dksX0_set_1 10 rfl rfl)
theorem dX0_set_35 : decode cX0_set 35 = .ok (.iload_n 2, 1) := dk_28 (dk_at dksX0_set_1 11 rfl rfl)
theorem dX0_set_36 : decode cX0_set 36 = .ok (.i2s, 1) := dk_147 (dk_at dksX0_set_1 12 rfl rfl)
theorem dX0_set_37 : decode cX0_set 37 = .ok (.sastore, 1) := dk_86 (dk_at dksX0_set_1 13 rfl rfl)
theorem dX0_set_38 : decode cX0_set 38 = .ok (.iload_n 3, 1) := dk_29 (dk_at dksX0_set_1 14 rfl rfl)
theorem dX0_set_39 : decode cX0_set 39 = .ok (.ireturn, 1) := dk_172 (dk_at dksX0_set_1 15 rfl rfl)
abbrev cX0_isTold : ByteArray := prog_1_method_19_code
def yX0_isTold : MethodName := ⟨RX0, "isTold", "(I)Z"⟩
def dkwX0_isTold_0 : List UInt8 := [26, 133, 9, 20, 0, 205, 184, 0, 164, 172]
abbrev dktX0_isTold_0 : List UInt8 := dkwX0_isTold_0 ++ []
theorem dksX0_isTold_0 : cX0_isTold.data.toList.drop 0 = dktX0_isTold_0 := by decide +kernel
theorem dX0_isTold_0 : decode cX0_isTold 0 = .ok (.iload_n 0, 1) := dk_26 (dk_at dksX0_isTold_0 0 rfl rfl)
theorem dX0_isTold_1 : decode cX0_isTold 1 = .ok (.i2l, 1) := dk_133 (dk_at dksX0_isTold_0 1 rfl rfl)
theorem dX0_isTold_2 : decode cX0_isTold 2 = .ok (.lconst 0, 1) := dk_9 (dk_at dksX0_isTold_0 2 rfl rfl)
theorem dX0_isTold_3 : decode cX0_isTold 3 = .ok (.ldc2_w 205, 3) := dk_20 0 205 (dk_at dksX0_isTold_0 3 rfl rfl)
theorem dX0_isTold_6 : decode cX0_isTold 6 = .ok (.invokestatic 164, 3) := dk_184 0 164 (dk_at dksX0_isTold_0 6 rfl rfl)
theorem dX0_isTold_9 : decode cX0_isTold 9 = .ok (.ireturn, 1) := dk_172 (dk_at dksX0_isTold_0 9 rfl rfl)
abbrev cX0_add : ByteArray := prog_1_method_31_code
def yX0_add : MethodName := ⟨RX0, "add", "(I)I"⟩
def dkwX0_add_2 : List UInt8 := [180, 0, 203, 4, 96, 181, 0, 203, 42, 180, 0, 134, 180, 0, 203, 172]
abbrev dktX0_add_2 : List UInt8 := dkwX0_add_2 ++ []
def dkwX0_add_1 : List UInt8 := [42, 180, 0, 134, 180, 0, 96, 42, 180, 0, 134, 180, 0, 203, 27, 147, 86, 42, 180, 0, 134, 89]
abbrev dktX0_add_1 : List UInt8 := dkwX0_add_1 ++ dktX0_add_2
def dkwX0_add_0 : List UInt8 := [27, 184, 0, 238, 154, 0, 5, 2, 172, 42, 180, 0, 134, 180, 0, 203, 16, 16, 160, 0, 6, 16, 253, 172]
abbrev dktX0_add_0 : List UInt8 := dkwX0_add_0 ++ dktX0_add_1
theorem dksX0_add_0 : cX0_add.data.toList.drop 0 = dktX0_add_0 := by decide +kernel
theorem dksX0_add_1 : cX0_add.data.toList.drop 24 = dktX0_add_1 := dk_seg dksX0_add_0 24 rfl rfl
theorem dksX0_add_2 : cX0_add.data.toList.drop 46 = dktX0_add_2 := dk_seg dksX0_add_1 22 rfl rfl
theorem dX0_add_0 : decode cX0_add 0 = .ok (.iload_n 1, 1) := dk_27 (dk_at dksX0_add_0 0 rfl rfl)
theorem dX0_add_1 : decode cX0_add 1 = .ok (.invokestatic 238, 3) := dk_184 0 238 (dk_at dksX0_add_0 1 rfl rfl)
theorem dX0_add_4 : decode cX0_add 4 = .ok (.ifCond .ne 5, 3) := dk_154 0 5 (dk_at dksX0_add_0 4 rfl rfl)
theorem dX0_add_7 : decode cX0_add 7 = .ok (.iconst (-1), 1) := dk_2 (dk_at dksX0_add_0 7 rfl rfl)
theorem dX0_add_8 : decode cX0_add 8 = .ok (.ireturn, 1) := dk_172 (dk_at dksX0_add_0 8 rfl rfl)
theorem dX0_add_9 : decode cX0_add 9 = .ok (.aload_n 0, 1) := dk_42 (dk_at dksX0_add_0 9 rfl rfl)
theorem dX0_add_10 : decode cX0_add 10 = .ok (.getfield 134, 3) := dk_180 0 134 (dk_at dksX0_add_0 10 rfl rfl)
theorem dX0_add_13 : decode cX0_add 13 = .ok (.getfield 203, 3) := dk_180 0 203 (dk_at dksX0_add_0 13 rfl rfl)
theorem dX0_add_16 : decode cX0_add 16 = .ok (.bipush 16, 2) := dk_16 16 (dk_at dksX0_add_0 16 rfl rfl)
theorem dX0_add_18 : decode cX0_add 18 = .ok (.if_icmp .ne 6, 3) := dk_160 0 6 (dk_at dksX0_add_0 18 rfl rfl)
theorem dX0_add_21 : decode cX0_add 21 = .ok (.bipush (-3), 2) := dk_16 253 (dk_at dksX0_add_0 21 rfl rfl)
theorem dX0_add_23 : decode cX0_add 23 = .ok (.ireturn, 1) := dk_172 (dk_at dksX0_add_0 23 rfl rfl)
theorem dX0_add_24 : decode cX0_add 24 = .ok (.aload_n 0, 1) := dk_42 (dk_at dksX0_add_1 0 rfl rfl)
theorem dX0_add_25 : decode cX0_add 25 = .ok (.getfield 134, 3) := dk_180 0 134 (dk_at dksX0_add_1 1 rfl rfl)
theorem dX0_add_28 : decode cX0_add 28 = .ok (.getfield 96, 3) := dk_180 0 96 (dk_at dksX0_add_1 4 rfl rfl)
theorem dX0_add_31 : decode cX0_add 31 = .ok (.aload_n 0, 1) := dk_42 (dk_at dksX0_add_1 7 rfl rfl)
theorem dX0_add_32 : decode cX0_add 32 = .ok (.getfield 134, 3) := dk_180 0 134 (dk_at dksX0_add_1 8 rfl rfl)
theorem dX0_add_35 : decode cX0_add 35 = .ok (.getfield 203, 3) := dk_180 0 203 (dk_at dksX0_add_1 11 rfl rfl)
theorem dX0_add_38 : decode cX0_add 38 = .ok (.iload_n 1, 1) := dk_27 (dk_at dksX0_add_1 14 rfl rfl)
theorem dX0_add_39 : decode cX0_add 39 = .ok (.i2s, 1) := dk_147 (dk_at dksX0_add_1 15 rfl rfl)
theorem dX0_add_40 : decode cX0_add 40 = .ok (.sastore, 1) := dk_86 (dk_at dksX0_add_1 16 rfl rfl)
theorem dX0_add_41 : decode cX0_add 41 = .ok (.aload_n 0, 1) := dk_42 (dk_at dksX0_add_1 17 rfl rfl)
theorem dX0_add_42 : decode cX0_add 42 = .ok (.getfield 134, 3) := dk_180 0 134 (dk_at dksX0_add_1 18 rfl rfl)
theorem dX0_add_45 : decode cX0_add 45 = .ok (.dup, 1) := dk_89 (dk_at dksX0_add_1 21 rfl rfl)
theorem dX0_add_46 : decode cX0_add 46 = .ok (.getfield 203, 3) := dk_180 0 203 (dk_at dksX0_add_2 0 rfl rfl)
theorem dX0_add_49 : decode cX0_add 49 = .ok (.iconst 1, 1) := dk_4 (dk_at dksX0_add_2 3 rfl rfl)
theorem dX0_add_50 : decode cX0_add 50 = .ok (.iadd, 1) := dk_96 (dk_at dksX0_add_2 4 rfl rfl)
theorem dX0_add_51 : decode cX0_add 51 = .ok (.putfield 203, 3) := dk_181 0 203 (dk_at dksX0_add_2 5 rfl rfl)
theorem dX0_add_54 : decode cX0_add 54 = .ok (.aload_n 0, 1) := dk_42 (dk_at dksX0_add_2 8 rfl rfl)
theorem dX0_add_55 : decode cX0_add 55 = .ok (.getfield 134, 3) := dk_180 0 134 (dk_at dksX0_add_2 9 rfl rfl)
theorem dX0_add_58 : decode cX0_add 58 = .ok (.getfield 203, 3) := dk_180 0 203 (dk_at dksX0_add_2 12 rfl rfl)
theorem dX0_add_61 : decode cX0_add 61 = .ok (.ireturn, 1) := dk_172 (dk_at dksX0_add_2 15 rfl rfl)
abbrev cX0_drop : ByteArray := prog_1_method_32_code
def yX0_drop : MethodName := ⟨RX0, "drop", "(I)I"⟩
def dkwX0_drop_1 : List UInt8 := [180, 0, 203, 61, 42, 180, 0, 134, 27, 181, 0, 203, 28, 172]
abbrev dktX0_drop_1 : List UInt8 := dkwX0_drop_1 ++ []
def dkwX0_drop_0 : List UInt8 := [27, 133, 9, 42, 180, 0, 134, 180, 0, 203, 133, 184, 0, 164, 154, 0, 5, 2, 172, 42, 180, 0, 134]
abbrev dktX0_drop_0 : List UInt8 := dkwX0_drop_0 ++ dktX0_drop_1
theorem dksX0_drop_0 : cX0_drop.data.toList.drop 0 = dktX0_drop_0 := by decide +kernel
theorem dksX0_drop_1 : cX0_drop.data.toList.drop 23 = dktX0_drop_1 := dk_seg dksX0_drop_0 23 rfl rfl
theorem dX0_drop_0 : decode cX0_drop 0 = .ok (.iload_n 1, 1) := dk_27 (dk_at dksX0_drop_0 0 rfl rfl)
theorem dX0_drop_1 : decode cX0_drop 1 = .ok (.i2l, 1) := dk_133 (dk_at dksX0_drop_0 1 rfl rfl)
theorem dX0_drop_2 : decode cX0_drop 2 = .ok (.lconst 0, 1) := dk_9 (dk_at dksX0_drop_0 2 rfl rfl)
theorem dX0_drop_3 : decode cX0_drop 3 = .ok (.aload_n 0, 1) := dk_42 (dk_at dksX0_drop_0 3 rfl rfl)
theorem dX0_drop_4 : decode cX0_drop 4 = .ok (.getfield 134, 3) := dk_180 0 134 (dk_at dksX0_drop_0 4 rfl rfl)
theorem dX0_drop_7 : decode cX0_drop 7 = .ok (.getfield 203, 3) := dk_180 0 203 (dk_at dksX0_drop_0 7 rfl rfl)
theorem dX0_drop_10 : decode cX0_drop 10 = .ok (.i2l, 1) := dk_133 (dk_at dksX0_drop_0 10 rfl rfl)
theorem dX0_drop_11 : decode cX0_drop 11 = .ok (.invokestatic 164, 3) := dk_184 0 164 (dk_at dksX0_drop_0 11 rfl rfl)
theorem dX0_drop_14 : decode cX0_drop 14 = .ok (.ifCond .ne 5, 3) := dk_154 0 5 (dk_at dksX0_drop_0 14 rfl rfl)
theorem dX0_drop_17 : decode cX0_drop 17 = .ok (.iconst (-1), 1) := dk_2 (dk_at dksX0_drop_0 17 rfl rfl)
theorem dX0_drop_18 : decode cX0_drop 18 = .ok (.ireturn, 1) := dk_172 (dk_at dksX0_drop_0 18 rfl rfl)
theorem dX0_drop_19 : decode cX0_drop 19 = .ok (.aload_n 0, 1) := dk_42 (dk_at dksX0_drop_0 19 rfl rfl)
theorem dX0_drop_20 : decode cX0_drop 20 = .ok (.getfield 134, 3) := dk_180 0 134 (dk_at dksX0_drop_0 20 rfl rfl)
theorem dX0_drop_23 : decode cX0_drop 23 = .ok (.getfield 203, 3) := dk_180 0 203 (dk_at dksX0_drop_1 0 rfl rfl)
theorem dX0_drop_26 : decode cX0_drop 26 = .ok (.istore_n 2, 1) := dk_61 (dk_at dksX0_drop_1 3 rfl rfl)
theorem dX0_drop_27 : decode cX0_drop 27 = .ok (.aload_n 0, 1) := dk_42 (dk_at dksX0_drop_1 4 rfl rfl)
theorem dX0_drop_28 : decode cX0_drop 28 = .ok (.getfield 134, 3) := dk_180 0 134 (dk_at dksX0_drop_1 5 rfl rfl)
theorem dX0_drop_31 : decode cX0_drop 31 = .ok (.iload_n 1, 1) := dk_27 (dk_at dksX0_drop_1 8 rfl rfl)
theorem dX0_drop_32 : decode cX0_drop 32 = .ok (.putfield 203, 3) := dk_181 0 203 (dk_at dksX0_drop_1 9 rfl rfl)
theorem dX0_drop_35 : decode cX0_drop 35 = .ok (.iload_n 2, 1) := dk_28 (dk_at dksX0_drop_1 12 rfl rfl)
theorem dX0_drop_36 : decode cX0_drop 36 = .ok (.ireturn, 1) := dk_172 (dk_at dksX0_drop_1 13 rfl rfl)
abbrev cX0_turn : ByteArray := prog_1_method_33_code
def yX0_turn : MethodName := ⟨RX0, "turn", "(I)I"⟩
def dkwX0_turn_2 : List UInt8 := [180, 0, 50, 172]
abbrev dktX0_turn_2 : List UInt8 := dkwX0_turn_2 ++ []
def dkwX0_turn_1 : List UInt8 := [182, 0, 212, 154, 0, 6, 16, 254, 172, 42, 42, 180, 0, 134, 27, 3, 182, 0, 73, 42, 180, 0, 134]
abbrev dktX0_turn_1 : List UInt8 := dkwX0_turn_1 ++ dktX0_turn_2
def dkwX0_turn_0 : List UInt8 := [27, 184, 0, 238, 154, 0, 5, 2, 172, 27, 17, 0, 200, 161, 0, 18, 42, 27, 17, 0, 200, 100]
abbrev dktX0_turn_0 : List UInt8 := dkwX0_turn_0 ++ dktX0_turn_1
theorem dksX0_turn_0 : cX0_turn.data.toList.drop 0 = dktX0_turn_0 := by decide +kernel
theorem dksX0_turn_1 : cX0_turn.data.toList.drop 22 = dktX0_turn_1 := dk_seg dksX0_turn_0 22 rfl rfl
theorem dksX0_turn_2 : cX0_turn.data.toList.drop 45 = dktX0_turn_2 := dk_seg dksX0_turn_1 23 rfl rfl
theorem dX0_turn_0 : decode cX0_turn 0 = .ok (.iload_n 1, 1) := dk_27 (dk_at dksX0_turn_0 0 rfl rfl)
theorem dX0_turn_1 : decode cX0_turn 1 = .ok (.invokestatic 238, 3) := dk_184 0 238 (dk_at dksX0_turn_0 1 rfl rfl)
theorem dX0_turn_4 : decode cX0_turn 4 = .ok (.ifCond .ne 5, 3) := dk_154 0 5 (dk_at dksX0_turn_0 4 rfl rfl)
theorem dX0_turn_7 : decode cX0_turn 7 = .ok (.iconst (-1), 1) := dk_2 (dk_at dksX0_turn_0 7 rfl rfl)
theorem dX0_turn_8 : decode cX0_turn 8 = .ok (.ireturn, 1) := dk_172 (dk_at dksX0_turn_0 8 rfl rfl)
theorem dX0_turn_9 : decode cX0_turn 9 = .ok (.iload_n 1, 1) := dk_27 (dk_at dksX0_turn_0 9 rfl rfl)
theorem dX0_turn_10 : decode cX0_turn 10 = .ok (.sipush 200, 3) := dk_17 0 200 (dk_at dksX0_turn_0 10 rfl rfl)
theorem dX0_turn_13 : decode cX0_turn 13 = .ok (.if_icmp .lt 18, 3) := dk_161 0 18 (dk_at dksX0_turn_0 13 rfl rfl)
theorem dX0_turn_16 : decode cX0_turn 16 = .ok (.aload_n 0, 1) := dk_42 (dk_at dksX0_turn_0 16 rfl rfl)
theorem dX0_turn_17 : decode cX0_turn 17 = .ok (.iload_n 1, 1) := dk_27 (dk_at dksX0_turn_0 17 rfl rfl)
theorem dX0_turn_18 : decode cX0_turn 18 = .ok (.sipush 200, 3) := dk_17 0 200 (dk_at dksX0_turn_0 18 rfl rfl)
theorem dX0_turn_21 : decode cX0_turn 21 = .ok (.isub, 1) := dk_100 (dk_at dksX0_turn_0 21 rfl rfl)
theorem dX0_turn_22 : decode cX0_turn 22 = .ok (.invokevirtual 212, 3) := dk_182 0 212 (dk_at dksX0_turn_1 0 rfl rfl)
theorem dX0_turn_25 : decode cX0_turn 25 = .ok (.ifCond .ne 6, 3) := dk_154 0 6 (dk_at dksX0_turn_1 3 rfl rfl)
theorem dX0_turn_28 : decode cX0_turn 28 = .ok (.bipush (-2), 2) := dk_16 254 (dk_at dksX0_turn_1 6 rfl rfl)
theorem dX0_turn_30 : decode cX0_turn 30 = .ok (.ireturn, 1) := dk_172 (dk_at dksX0_turn_1 8 rfl rfl)
theorem dX0_turn_31 : decode cX0_turn 31 = .ok (.aload_n 0, 1) := dk_42 (dk_at dksX0_turn_1 9 rfl rfl)
theorem dX0_turn_32 : decode cX0_turn 32 = .ok (.aload_n 0, 1) := dk_42 (dk_at dksX0_turn_1 10 rfl rfl)
theorem dX0_turn_33 : decode cX0_turn 33 = .ok (.getfield 134, 3) := dk_180 0 134 (dk_at dksX0_turn_1 11 rfl rfl)
theorem dX0_turn_36 : decode cX0_turn 36 = .ok (.iload_n 1, 1) := dk_27 (dk_at dksX0_turn_1 14 rfl rfl)
theorem dX0_turn_37 : decode cX0_turn 37 = .ok (.iconst 0, 1) := dk_3 (dk_at dksX0_turn_1 15 rfl rfl)
theorem dX0_turn_38 : decode cX0_turn 38 = .ok (.invokevirtual 73, 3) := dk_182 0 73 (dk_at dksX0_turn_1 16 rfl rfl)
theorem dX0_turn_41 : decode cX0_turn 41 = .ok (.aload_n 0, 1) := dk_42 (dk_at dksX0_turn_1 19 rfl rfl)
theorem dX0_turn_42 : decode cX0_turn 42 = .ok (.getfield 134, 3) := dk_180 0 134 (dk_at dksX0_turn_1 20 rfl rfl)
theorem dX0_turn_45 : decode cX0_turn 45 = .ok (.getfield 50, 3) := dk_180 0 50 (dk_at dksX0_turn_2 0 rfl rfl)
theorem dX0_turn_48 : decode cX0_turn 48 = .ok (.ireturn, 1) := dk_172 (dk_at dksX0_turn_2 3 rfl rfl)
abbrev cX0_acts : ByteArray := prog_1_method_7_code
def yX0_acts : MethodName := ⟨RX0, "acts", "(LFlyWheels$Shaft;IZ)V"⟩
def dkwX0_acts_2 : List UInt8 := [28, 96, 181, 0, 50, 177]
abbrev dktX0_acts_2 : List UInt8 := dkwX0_acts_2 ++ []
def dkwX0_acts_1 : List UInt8 := [161, 0, 15, 42, 43, 28, 16, 100, 100, 182, 0, 70, 167, 0, 17, 29, 154, 0, 13, 43, 89, 180, 0, 50]
abbrev dktX0_acts_1 : List UInt8 := dkwX0_acts_1 ++ dktX0_acts_2
def dkwX0_acts_0 : List UInt8 := [28, 17, 0, 200, 161, 0, 16, 42, 43, 28, 17, 0, 200, 100, 182, 0, 66, 167, 0, 35, 28, 16, 100]
abbrev dktX0_acts_0 : List UInt8 := dkwX0_acts_0 ++ dktX0_acts_1
theorem dksX0_acts_0 : cX0_acts.data.toList.drop 0 = dktX0_acts_0 := by decide +kernel
theorem dksX0_acts_1 : cX0_acts.data.toList.drop 23 = dktX0_acts_1 := dk_seg dksX0_acts_0 23 rfl rfl
theorem dksX0_acts_2 : cX0_acts.data.toList.drop 47 = dktX0_acts_2 := dk_seg dksX0_acts_1 24 rfl rfl
theorem dX0_acts_0 : decode cX0_acts 0 = .ok (.iload_n 2, 1) := dk_28 (dk_at dksX0_acts_0 0 rfl rfl)
theorem dX0_acts_1 : decode cX0_acts 1 = .ok (.sipush 200, 3) := dk_17 0 200 (dk_at dksX0_acts_0 1 rfl rfl)
theorem dX0_acts_4 : decode cX0_acts 4 = .ok (.if_icmp .lt 16, 3) := dk_161 0 16 (dk_at dksX0_acts_0 4 rfl rfl)
theorem dX0_acts_7 : decode cX0_acts 7 = .ok (.aload_n 0, 1) := dk_42 (dk_at dksX0_acts_0 7 rfl rfl)
theorem dX0_acts_8 : decode cX0_acts 8 = .ok (.aload_n 1, 1) := dk_43 (dk_at dksX0_acts_0 8 rfl rfl)
theorem dX0_acts_9 : decode cX0_acts 9 = .ok (.iload_n 2, 1) := dk_28 (dk_at dksX0_acts_0 9 rfl rfl)
theorem dX0_acts_10 : decode cX0_acts 10 = .ok (.sipush 200, 3) := dk_17 0 200 (dk_at dksX0_acts_0 10 rfl rfl)
theorem dX0_acts_13 : decode cX0_acts 13 = .ok (.isub, 1) := dk_100 (dk_at dksX0_acts_0 13 rfl rfl)
theorem dX0_acts_14 : decode cX0_acts 14 = .ok (.invokevirtual 66, 3) := dk_182 0 66 (dk_at dksX0_acts_0 14 rfl rfl)
theorem dX0_acts_17 : decode cX0_acts 17 = .ok (.goto 35, 3) := dk_167 0 35 (dk_at dksX0_acts_0 17 rfl rfl)
theorem dX0_acts_20 : decode cX0_acts 20 = .ok (.iload_n 2, 1) := dk_28 (dk_at dksX0_acts_0 20 rfl rfl)
theorem dX0_acts_21 : decode cX0_acts 21 = .ok (.bipush 100, 2) := dk_16 100 (dk_at dksX0_acts_0 21 rfl rfl)
theorem dX0_acts_23 : decode cX0_acts 23 = .ok (.if_icmp .lt 15, 3) := dk_161 0 15 (dk_at dksX0_acts_1 0 rfl rfl)
theorem dX0_acts_26 : decode cX0_acts 26 = .ok (.aload_n 0, 1) := dk_42 (dk_at dksX0_acts_1 3 rfl rfl)
theorem dX0_acts_27 : decode cX0_acts 27 = .ok (.aload_n 1, 1) := dk_43 (dk_at dksX0_acts_1 4 rfl rfl)
theorem dX0_acts_28 : decode cX0_acts 28 = .ok (.iload_n 2, 1) := dk_28 (dk_at dksX0_acts_1 5 rfl rfl)
theorem dX0_acts_29 : decode cX0_acts 29 = .ok (.bipush 100, 2) := dk_16 100 (dk_at dksX0_acts_1 6 rfl rfl)
theorem dX0_acts_31 : decode cX0_acts 31 = .ok (.isub, 1) := dk_100 (dk_at dksX0_acts_1 8 rfl rfl)
theorem dX0_acts_32 : decode cX0_acts 32 = .ok (.invokevirtual 70, 3) := dk_182 0 70 (dk_at dksX0_acts_1 9 rfl rfl)
theorem dX0_acts_35 : decode cX0_acts 35 = .ok (.goto 17, 3) := dk_167 0 17 (dk_at dksX0_acts_1 12 rfl rfl)
theorem dX0_acts_38 : decode cX0_acts 38 = .ok (.iload_n 3, 1) := dk_29 (dk_at dksX0_acts_1 15 rfl rfl)
theorem dX0_acts_39 : decode cX0_acts 39 = .ok (.ifCond .ne 13, 3) := dk_154 0 13 (dk_at dksX0_acts_1 16 rfl rfl)
theorem dX0_acts_42 : decode cX0_acts 42 = .ok (.aload_n 1, 1) := dk_43 (dk_at dksX0_acts_1 19 rfl rfl)
theorem dX0_acts_43 : decode cX0_acts 43 = .ok (.dup, 1) := dk_89 (dk_at dksX0_acts_1 20 rfl rfl)
theorem dX0_acts_44 : decode cX0_acts 44 = .ok (.getfield 50, 3) := dk_180 0 50 (dk_at dksX0_acts_1 21 rfl rfl)
theorem dX0_acts_47 : decode cX0_acts 47 = .ok (.iload_n 2, 1) := dk_28 (dk_at dksX0_acts_2 0 rfl rfl)
theorem dX0_acts_48 : decode cX0_acts 48 = .ok (.iadd, 1) := dk_96 (dk_at dksX0_acts_2 1 rfl rfl)
theorem dX0_acts_49 : decode cX0_acts 49 = .ok (.putfield 50, 3) := dk_181 0 50 (dk_at dksX0_acts_2 2 rfl rfl)
theorem dX0_acts_52 : decode cX0_acts 52 = .ok (.return_, 1) := dk_177 (dk_at dksX0_acts_2 5 rfl rfl)
abbrev cX0_joins : ByteArray := prog_1_method_5_code
def yX0_joins : MethodName := ⟨RX0, "joins", "(LFlyWheels$Shaft;I)V"⟩
def dkwX0_joins_2 : List UInt8 := [43, 180, 0, 20, 28, 50, 180, 0, 31, 100, 181, 0, 50, 177]
abbrev dktX0_joins_2 : List UInt8 := dkwX0_joins_2 ++ []
def dkwX0_joins_1 : List UInt8 := [28, 50, 180, 0, 31, 96, 62, 43, 180, 0, 20, 28, 50, 42, 43, 28, 182, 0, 51, 181, 0, 31, 43, 29]
abbrev dktX0_joins_1 : List UInt8 := dkwX0_joins_1 ++ dktX0_joins_2
def dkwX0_joins_0 : List UInt8 := [28, 43, 180, 0, 44, 162, 0, 56, 28, 43, 180, 0, 47, 159, 0, 48, 43, 180, 0, 50, 43, 180, 0, 20]
abbrev dktX0_joins_0 : List UInt8 := dkwX0_joins_0 ++ dktX0_joins_1
theorem dksX0_joins_0 : cX0_joins.data.toList.drop 0 = dktX0_joins_0 := by decide +kernel
theorem dksX0_joins_1 : cX0_joins.data.toList.drop 24 = dktX0_joins_1 := dk_seg dksX0_joins_0 24 rfl rfl
theorem dksX0_joins_2 : cX0_joins.data.toList.drop 48 = dktX0_joins_2 := dk_seg dksX0_joins_1 24 rfl rfl
theorem dX0_joins_0 : decode cX0_joins 0 = .ok (.iload_n 2, 1) := dk_28 (dk_at dksX0_joins_0 0 rfl rfl)
theorem dX0_joins_1 : decode cX0_joins 1 = .ok (.aload_n 1, 1) := dk_43 (dk_at dksX0_joins_0 1 rfl rfl)
theorem dX0_joins_2 : decode cX0_joins 2 = .ok (.getfield 44, 3) := dk_180 0 44 (dk_at dksX0_joins_0 2 rfl rfl)
theorem dX0_joins_5 : decode cX0_joins 5 = .ok (.if_icmp .ge 56, 3) := dk_162 0 56 (dk_at dksX0_joins_0 5 rfl rfl)
theorem dX0_joins_8 : decode cX0_joins 8 = .ok (.iload_n 2, 1) := dk_28 (dk_at dksX0_joins_0 8 rfl rfl)
theorem dX0_joins_9 : decode cX0_joins 9 = .ok (.aload_n 1, 1) := dk_43 (dk_at dksX0_joins_0 9 rfl rfl)
theorem dX0_joins_10 : decode cX0_joins 10 = .ok (.getfield 47, 3) := dk_180 0 47 (dk_at dksX0_joins_0 10 rfl rfl)
theorem dX0_joins_13 : decode cX0_joins 13 = .ok (.if_icmp .eq 48, 3) := dk_159 0 48 (dk_at dksX0_joins_0 13 rfl rfl)
theorem dX0_joins_16 : decode cX0_joins 16 = .ok (.aload_n 1, 1) := dk_43 (dk_at dksX0_joins_0 16 rfl rfl)
theorem dX0_joins_17 : decode cX0_joins 17 = .ok (.getfield 50, 3) := dk_180 0 50 (dk_at dksX0_joins_0 17 rfl rfl)
theorem dX0_joins_20 : decode cX0_joins 20 = .ok (.aload_n 1, 1) := dk_43 (dk_at dksX0_joins_0 20 rfl rfl)
theorem dX0_joins_21 : decode cX0_joins 21 = .ok (.getfield 20, 3) := dk_180 0 20 (dk_at dksX0_joins_0 21 rfl rfl)
theorem dX0_joins_24 : decode cX0_joins 24 = .ok (.iload_n 2, 1) := dk_28 (dk_at dksX0_joins_1 0 rfl rfl)
theorem dX0_joins_25 : decode cX0_joins 25 = .ok (.aaload, 1) := dk_50 (dk_at dksX0_joins_1 1 rfl rfl)
theorem dX0_joins_26 : decode cX0_joins 26 = .ok (.getfield 31, 3) := dk_180 0 31 (dk_at dksX0_joins_1 2 rfl rfl)
theorem dX0_joins_29 : decode cX0_joins 29 = .ok (.iadd, 1) := dk_96 (dk_at dksX0_joins_1 5 rfl rfl)
theorem dX0_joins_30 : decode cX0_joins 30 = .ok (.istore_n 3, 1) := dk_62 (dk_at dksX0_joins_1 6 rfl rfl)
theorem dX0_joins_31 : decode cX0_joins 31 = .ok (.aload_n 1, 1) := dk_43 (dk_at dksX0_joins_1 7 rfl rfl)
theorem dX0_joins_32 : decode cX0_joins 32 = .ok (.getfield 20, 3) := dk_180 0 20 (dk_at dksX0_joins_1 8 rfl rfl)
theorem dX0_joins_35 : decode cX0_joins 35 = .ok (.iload_n 2, 1) := dk_28 (dk_at dksX0_joins_1 11 rfl rfl)
theorem dX0_joins_36 : decode cX0_joins 36 = .ok (.aaload, 1) := dk_50 (dk_at dksX0_joins_1 12 rfl rfl)
theorem dX0_joins_37 : decode cX0_joins 37 = .ok (.aload_n 0, 1) := dk_42 (dk_at dksX0_joins_1 13 rfl rfl)
theorem dX0_joins_38 : decode cX0_joins 38 = .ok (.aload_n 1, 1) := dk_43 (dk_at dksX0_joins_1 14 rfl rfl)
theorem dX0_joins_39 : decode cX0_joins 39 = .ok (.iload_n 2, 1) := dk_28 (dk_at dksX0_joins_1 15 rfl rfl)
theorem dX0_joins_40 : decode cX0_joins 40 = .ok (.invokevirtual 51, 3) := dk_182 0 51 (dk_at dksX0_joins_1 16 rfl rfl)
theorem dX0_joins_43 : decode cX0_joins 43 = .ok (.putfield 31, 3) := dk_181 0 31 (dk_at dksX0_joins_1 19 rfl rfl)
theorem dX0_joins_46 : decode cX0_joins 46 = .ok (.aload_n 1, 1) := dk_43 (dk_at dksX0_joins_1 22 rfl rfl)
theorem dX0_joins_47 : decode cX0_joins 47 = .ok (.iload_n 3, 1) := dk_29 (dk_at dksX0_joins_1 23 rfl rfl)
theorem dX0_joins_48 : decode cX0_joins 48 = .ok (.aload_n 1, 1) := dk_43 (dk_at dksX0_joins_2 0 rfl rfl)
theorem dX0_joins_49 : decode cX0_joins 49 = .ok (.getfield 20, 3) := dk_180 0 20 (dk_at dksX0_joins_2 1 rfl rfl)
theorem dX0_joins_52 : decode cX0_joins 52 = .ok (.iload_n 2, 1) := dk_28 (dk_at dksX0_joins_2 4 rfl rfl)
theorem dX0_joins_53 : decode cX0_joins 53 = .ok (.aaload, 1) := dk_50 (dk_at dksX0_joins_2 5 rfl rfl)
theorem dX0_joins_54 : decode cX0_joins 54 = .ok (.getfield 31, 3) := dk_180 0 31 (dk_at dksX0_joins_2 6 rfl rfl)
theorem dX0_joins_57 : decode cX0_joins 57 = .ok (.isub, 1) := dk_100 (dk_at dksX0_joins_2 9 rfl rfl)
theorem dX0_joins_58 : decode cX0_joins 58 = .ok (.putfield 50, 3) := dk_181 0 50 (dk_at dksX0_joins_2 10 rfl rfl)
theorem dX0_joins_61 : decode cX0_joins 61 = .ok (.return_, 1) := dk_177 (dk_at dksX0_joins_2 13 rfl rfl)
abbrev cX0_loads : ByteArray := prog_1_method_6_code
def yX0_loads : MethodName := ⟨RX0, "loads", "(LFlyWheels$Shaft;I)V"⟩
def dkwX0_loads_2 : List UInt8 := [181, 0, 1, 42, 89, 180, 0, 7, 28, 29, 100, 96, 181, 0, 7, 177]
abbrev dktX0_loads_2 : List UInt8 := dkwX0_loads_2 ++ []
def dkwX0_loads_1 : List UInt8 := [29, 96, 181, 0, 60, 43, 89, 180, 0, 63, 28, 29, 100, 96, 181, 0, 63, 42, 89, 180, 0, 1, 29, 96]
abbrev dktX0_loads_1 : List UInt8 := dkwX0_loads_1 ++ dktX0_loads_2
def dkwX0_loads_0 : List UInt8 := [28, 43, 180, 0, 50, 184, 0, 55, 62, 43, 89, 180, 0, 50, 29, 100, 181, 0, 50, 43, 89, 180, 0, 60]
abbrev dktX0_loads_0 : List UInt8 := dkwX0_loads_0 ++ dktX0_loads_1
theorem dksX0_loads_0 : cX0_loads.data.toList.drop 0 = dktX0_loads_0 := by decide +kernel
theorem dksX0_loads_1 : cX0_loads.data.toList.drop 24 = dktX0_loads_1 := dk_seg dksX0_loads_0 24 rfl rfl
theorem dksX0_loads_2 : cX0_loads.data.toList.drop 48 = dktX0_loads_2 := dk_seg dksX0_loads_1 24 rfl rfl
theorem dX0_loads_0 : decode cX0_loads 0 = .ok (.iload_n 2, 1) := dk_28 (dk_at dksX0_loads_0 0 rfl rfl)
theorem dX0_loads_1 : decode cX0_loads 1 = .ok (.aload_n 1, 1) := dk_43 (dk_at dksX0_loads_0 1 rfl rfl)
theorem dX0_loads_2 : decode cX0_loads 2 = .ok (.getfield 50, 3) := dk_180 0 50 (dk_at dksX0_loads_0 2 rfl rfl)
theorem dX0_loads_5 : decode cX0_loads 5 = .ok (.invokestatic 55, 3) := dk_184 0 55 (dk_at dksX0_loads_0 5 rfl rfl)
theorem dX0_loads_8 : decode cX0_loads 8 = .ok (.istore_n 3, 1) := dk_62 (dk_at dksX0_loads_0 8 rfl rfl)
theorem dX0_loads_9 : decode cX0_loads 9 = .ok (.aload_n 1, 1) := dk_43 (dk_at dksX0_loads_0 9 rfl rfl)
theorem dX0_loads_10 : decode cX0_loads 10 = .ok (.dup, 1) := dk_89 (dk_at dksX0_loads_0 10 rfl rfl)
theorem dX0_loads_11 : decode cX0_loads 11 = .ok (.getfield 50, 3) := dk_180 0 50 (dk_at dksX0_loads_0 11 rfl rfl)
theorem dX0_loads_14 : decode cX0_loads 14 = .ok (.iload_n 3, 1) := dk_29 (dk_at dksX0_loads_0 14 rfl rfl)
theorem dX0_loads_15 : decode cX0_loads 15 = .ok (.isub, 1) := dk_100 (dk_at dksX0_loads_0 15 rfl rfl)
theorem dX0_loads_16 : decode cX0_loads 16 = .ok (.putfield 50, 3) := dk_181 0 50 (dk_at dksX0_loads_0 16 rfl rfl)
theorem dX0_loads_19 : decode cX0_loads 19 = .ok (.aload_n 1, 1) := dk_43 (dk_at dksX0_loads_0 19 rfl rfl)
theorem dX0_loads_20 : decode cX0_loads 20 = .ok (.dup, 1) := dk_89 (dk_at dksX0_loads_0 20 rfl rfl)
theorem dX0_loads_21 : decode cX0_loads 21 = .ok (.getfield 60, 3) := dk_180 0 60 (dk_at dksX0_loads_0 21 rfl rfl)
theorem dX0_loads_24 : decode cX0_loads 24 = .ok (.iload_n 3, 1) := dk_29 (dk_at dksX0_loads_1 0 rfl rfl)
theorem dX0_loads_25 : decode cX0_loads 25 = .ok (.iadd, 1) := dk_96 (dk_at dksX0_loads_1 1 rfl rfl)
theorem dX0_loads_26 : decode cX0_loads 26 = .ok (.putfield 60, 3) := dk_181 0 60 (dk_at dksX0_loads_1 2 rfl rfl)
theorem dX0_loads_29 : decode cX0_loads 29 = .ok (.aload_n 1, 1) := dk_43 (dk_at dksX0_loads_1 5 rfl rfl)
theorem dX0_loads_30 : decode cX0_loads 30 = .ok (.dup, 1) := dk_89 (dk_at dksX0_loads_1 6 rfl rfl)
theorem dX0_loads_31 : decode cX0_loads 31 = .ok (.getfield 63, 3) := dk_180 0 63 (dk_at dksX0_loads_1 7 rfl rfl)
theorem dX0_loads_34 : decode cX0_loads 34 = .ok (.iload_n 2, 1) := dk_28 (dk_at dksX0_loads_1 10 rfl rfl)
theorem dX0_loads_35 : decode cX0_loads 35 = .ok (.iload_n 3, 1) := dk_29 (dk_at dksX0_loads_1 11 rfl rfl)
theorem dX0_loads_36 : decode cX0_loads 36 = .ok (.isub, 1) := dk_100 (dk_at dksX0_loads_1 12 rfl rfl)
theorem dX0_loads_37 : decode cX0_loads 37 = .ok (.iadd, 1) := dk_96 (dk_at dksX0_loads_1 13 rfl rfl)
theorem dX0_loads_38 : decode cX0_loads 38 = .ok (.putfield 63, 3) := dk_181 0 63 (dk_at dksX0_loads_1 14 rfl rfl)
theorem dX0_loads_41 : decode cX0_loads 41 = .ok (.aload_n 0, 1) := dk_42 (dk_at dksX0_loads_1 17 rfl rfl)
theorem dX0_loads_42 : decode cX0_loads 42 = .ok (.dup, 1) := dk_89 (dk_at dksX0_loads_1 18 rfl rfl)
theorem dX0_loads_43 : decode cX0_loads 43 = .ok (.getfield 1, 3) := dk_180 0 1 (dk_at dksX0_loads_1 19 rfl rfl)
theorem dX0_loads_46 : decode cX0_loads 46 = .ok (.iload_n 3, 1) := dk_29 (dk_at dksX0_loads_1 22 rfl rfl)
theorem dX0_loads_47 : decode cX0_loads 47 = .ok (.iadd, 1) := dk_96 (dk_at dksX0_loads_1 23 rfl rfl)
theorem dX0_loads_48 : decode cX0_loads 48 = .ok (.putfield 1, 3) := dk_181 0 1 (dk_at dksX0_loads_2 0 rfl rfl)
theorem dX0_loads_51 : decode cX0_loads 51 = .ok (.aload_n 0, 1) := dk_42 (dk_at dksX0_loads_2 3 rfl rfl)
theorem dX0_loads_52 : decode cX0_loads 52 = .ok (.dup, 1) := dk_89 (dk_at dksX0_loads_2 4 rfl rfl)
theorem dX0_loads_53 : decode cX0_loads 53 = .ok (.getfield 7, 3) := dk_180 0 7 (dk_at dksX0_loads_2 5 rfl rfl)
theorem dX0_loads_56 : decode cX0_loads 56 = .ok (.iload_n 2, 1) := dk_28 (dk_at dksX0_loads_2 8 rfl rfl)
theorem dX0_loads_57 : decode cX0_loads 57 = .ok (.iload_n 3, 1) := dk_29 (dk_at dksX0_loads_2 9 rfl rfl)
theorem dX0_loads_58 : decode cX0_loads 58 = .ok (.isub, 1) := dk_100 (dk_at dksX0_loads_2 10 rfl rfl)
theorem dX0_loads_59 : decode cX0_loads 59 = .ok (.iadd, 1) := dk_96 (dk_at dksX0_loads_2 11 rfl rfl)
theorem dX0_loads_60 : decode cX0_loads 60 = .ok (.putfield 7, 3) := dk_181 0 7 (dk_at dksX0_loads_2 12 rfl rfl)
theorem dX0_loads_63 : decode cX0_loads 63 = .ok (.return_, 1) := dk_177 (dk_at dksX0_loads_2 15 rfl rfl)
abbrev cX0_ticks : ByteArray := prog_1_method_34_code
def yX0_ticks : MethodName := ⟨RX0, "ticks", "(I)I"⟩
def dkwX0_ticks_1 : List UInt8 := [17, 39, 15, 164, 0, 6, 16, 253, 172, 42, 42, 180, 0, 134, 27, 182, 0, 115, 42, 180, 0, 1, 172]
abbrev dktX0_ticks_1 : List UInt8 := dkwX0_ticks_1 ++ []
def dkwX0_ticks_0 : List UInt8 := [27, 133, 9, 20, 0, 241, 184, 0, 164, 154, 0, 5, 2, 172, 42, 180, 0, 134, 180, 0, 80, 27, 96]
abbrev dktX0_ticks_0 : List UInt8 := dkwX0_ticks_0 ++ dktX0_ticks_1
theorem dksX0_ticks_0 : cX0_ticks.data.toList.drop 0 = dktX0_ticks_0 := by decide +kernel
theorem dksX0_ticks_1 : cX0_ticks.data.toList.drop 23 = dktX0_ticks_1 := dk_seg dksX0_ticks_0 23 rfl rfl
theorem dX0_ticks_0 : decode cX0_ticks 0 = .ok (.iload_n 1, 1) := dk_27 (dk_at dksX0_ticks_0 0 rfl rfl)
theorem dX0_ticks_1 : decode cX0_ticks 1 = .ok (.i2l, 1) := dk_133 (dk_at dksX0_ticks_0 1 rfl rfl)
theorem dX0_ticks_2 : decode cX0_ticks 2 = .ok (.lconst 0, 1) := dk_9 (dk_at dksX0_ticks_0 2 rfl rfl)
theorem dX0_ticks_3 : decode cX0_ticks 3 = .ok (.ldc2_w 241, 3) := dk_20 0 241 (dk_at dksX0_ticks_0 3 rfl rfl)
theorem dX0_ticks_6 : decode cX0_ticks 6 = .ok (.invokestatic 164, 3) := dk_184 0 164 (dk_at dksX0_ticks_0 6 rfl rfl)
theorem dX0_ticks_9 : decode cX0_ticks 9 = .ok (.ifCond .ne 5, 3) := dk_154 0 5 (dk_at dksX0_ticks_0 9 rfl rfl)
theorem dX0_ticks_12 : decode cX0_ticks 12 = .ok (.iconst (-1), 1) := dk_2 (dk_at dksX0_ticks_0 12 rfl rfl)
theorem dX0_ticks_13 : decode cX0_ticks 13 = .ok (.ireturn, 1) := dk_172 (dk_at dksX0_ticks_0 13 rfl rfl)
theorem dX0_ticks_14 : decode cX0_ticks 14 = .ok (.aload_n 0, 1) := dk_42 (dk_at dksX0_ticks_0 14 rfl rfl)
theorem dX0_ticks_15 : decode cX0_ticks 15 = .ok (.getfield 134, 3) := dk_180 0 134 (dk_at dksX0_ticks_0 15 rfl rfl)
theorem dX0_ticks_18 : decode cX0_ticks 18 = .ok (.getfield 80, 3) := dk_180 0 80 (dk_at dksX0_ticks_0 18 rfl rfl)
theorem dX0_ticks_21 : decode cX0_ticks 21 = .ok (.iload_n 1, 1) := dk_27 (dk_at dksX0_ticks_0 21 rfl rfl)
theorem dX0_ticks_22 : decode cX0_ticks 22 = .ok (.iadd, 1) := dk_96 (dk_at dksX0_ticks_0 22 rfl rfl)
theorem dX0_ticks_23 : decode cX0_ticks 23 = .ok (.sipush 9999, 3) := dk_17 39 15 (dk_at dksX0_ticks_1 0 rfl rfl)
theorem dX0_ticks_26 : decode cX0_ticks 26 = .ok (.if_icmp .le 6, 3) := dk_164 0 6 (dk_at dksX0_ticks_1 3 rfl rfl)
theorem dX0_ticks_29 : decode cX0_ticks 29 = .ok (.bipush (-3), 2) := dk_16 253 (dk_at dksX0_ticks_1 6 rfl rfl)
theorem dX0_ticks_31 : decode cX0_ticks 31 = .ok (.ireturn, 1) := dk_172 (dk_at dksX0_ticks_1 8 rfl rfl)
theorem dX0_ticks_32 : decode cX0_ticks 32 = .ok (.aload_n 0, 1) := dk_42 (dk_at dksX0_ticks_1 9 rfl rfl)
theorem dX0_ticks_33 : decode cX0_ticks 33 = .ok (.aload_n 0, 1) := dk_42 (dk_at dksX0_ticks_1 10 rfl rfl)
theorem dX0_ticks_34 : decode cX0_ticks 34 = .ok (.getfield 134, 3) := dk_180 0 134 (dk_at dksX0_ticks_1 11 rfl rfl)
theorem dX0_ticks_37 : decode cX0_ticks 37 = .ok (.iload_n 1, 1) := dk_27 (dk_at dksX0_ticks_1 14 rfl rfl)
theorem dX0_ticks_38 : decode cX0_ticks 38 = .ok (.invokevirtual 115, 3) := dk_182 0 115 (dk_at dksX0_ticks_1 15 rfl rfl)
theorem dX0_ticks_41 : decode cX0_ticks 41 = .ok (.aload_n 0, 1) := dk_42 (dk_at dksX0_ticks_1 18 rfl rfl)
theorem dX0_ticks_42 : decode cX0_ticks 42 = .ok (.getfield 1, 3) := dk_180 0 1 (dk_at dksX0_ticks_1 19 rfl rfl)
theorem dX0_ticks_45 : decode cX0_ticks 45 = .ok (.ireturn, 1) := dk_172 (dk_at dksX0_ticks_1 22 rfl rfl)
abbrev cX0_ticksGo : ByteArray := prog_1_method_10_code
def yX0_ticksGo : MethodName := ⟨RX0, "ticksGo", "(LFlyWheels$Shaft;I)V"⟩
def dkwX0_ticksGo_0 : List UInt8 := [42, 182, 0, 103, 3, 62, 29, 28, 162, 0, 15, 42, 43, 3, 182, 0, 107, 132, 3, 1, 167, 255, 242, 177]
abbrev dktX0_ticksGo_0 : List UInt8 := dkwX0_ticksGo_0 ++ []
theorem dksX0_ticksGo_0 : cX0_ticksGo.data.toList.drop 0 = dktX0_ticksGo_0 := by decide +kernel
theorem dX0_ticksGo_0 : decode cX0_ticksGo 0 = .ok (.aload_n 0, 1) := dk_42 (dk_at dksX0_ticksGo_0 0 rfl rfl)
theorem dX0_ticksGo_1 : decode cX0_ticksGo 1 = .ok (.invokevirtual 103, 3) := dk_182 0 103 (dk_at dksX0_ticksGo_0 1 rfl rfl)
theorem dX0_ticksGo_4 : decode cX0_ticksGo 4 = .ok (.iconst 0, 1) := dk_3 (dk_at dksX0_ticksGo_0 4 rfl rfl)
theorem dX0_ticksGo_5 : decode cX0_ticksGo 5 = .ok (.istore_n 3, 1) := dk_62 (dk_at dksX0_ticksGo_0 5 rfl rfl)
theorem dX0_ticksGo_6 : decode cX0_ticksGo 6 = .ok (.iload_n 3, 1) := dk_29 (dk_at dksX0_ticksGo_0 6 rfl rfl)
theorem dX0_ticksGo_7 : decode cX0_ticksGo 7 = .ok (.iload_n 2, 1) := dk_28 (dk_at dksX0_ticksGo_0 7 rfl rfl)
theorem dX0_ticksGo_8 : decode cX0_ticksGo 8 = .ok (.if_icmp .ge 15, 3) := dk_162 0 15 (dk_at dksX0_ticksGo_0 8 rfl rfl)
theorem dX0_ticksGo_11 : decode cX0_ticksGo 11 = .ok (.aload_n 0, 1) := dk_42 (dk_at dksX0_ticksGo_0 11 rfl rfl)
theorem dX0_ticksGo_12 : decode cX0_ticksGo 12 = .ok (.aload_n 1, 1) := dk_43 (dk_at dksX0_ticksGo_0 12 rfl rfl)
theorem dX0_ticksGo_13 : decode cX0_ticksGo 13 = .ok (.iconst 0, 1) := dk_3 (dk_at dksX0_ticksGo_0 13 rfl rfl)
theorem dX0_ticksGo_14 : decode cX0_ticksGo 14 = .ok (.invokevirtual 107, 3) := dk_182 0 107 (dk_at dksX0_ticksGo_0 14 rfl rfl)
theorem dX0_ticksGo_17 : decode cX0_ticksGo 17 = .ok (.iinc 3 1, 3) := dk_132 3 1 (dk_at dksX0_ticksGo_0 17 rfl rfl)
theorem dX0_ticksGo_20 : decode cX0_ticksGo 20 = .ok (.goto (-14), 3) := dk_167 255 242 (dk_at dksX0_ticksGo_0 20 rfl rfl)
theorem dX0_ticksGo_23 : decode cX0_ticksGo 23 = .ok (.return_, 1) := dk_177 (dk_at dksX0_ticksGo_0 23 rfl rfl)
abbrev cX0_startsCounting : ByteArray := prog_1_method_3_code
def yX0_startsCounting : MethodName := ⟨RX0, "startsCounting", "()V"⟩
def dkwX0_startsCounting_0 : List UInt8 := [42, 3, 181, 0, 1, 42, 3, 181, 0, 7, 42, 3, 181, 0, 10, 42, 3, 181, 0, 13, 177]
abbrev dktX0_startsCounting_0 : List UInt8 := dkwX0_startsCounting_0 ++ []
theorem dksX0_startsCounting_0 : cX0_startsCounting.data.toList.drop 0 = dktX0_startsCounting_0 := by decide +kernel
theorem dX0_startsCounting_0 : decode cX0_startsCounting 0 = .ok (.aload_n 0, 1) := dk_42 (dk_at dksX0_startsCounting_0 0 rfl rfl)
theorem dX0_startsCounting_1 : decode cX0_startsCounting 1 = .ok (.iconst 0, 1) := dk_3 (dk_at dksX0_startsCounting_0 1 rfl rfl)
theorem dX0_startsCounting_2 : decode cX0_startsCounting 2 = .ok (.putfield 1, 3) := dk_181 0 1 (dk_at dksX0_startsCounting_0 2 rfl rfl)
theorem dX0_startsCounting_5 : decode cX0_startsCounting 5 = .ok (.aload_n 0, 1) := dk_42 (dk_at dksX0_startsCounting_0 5 rfl rfl)
theorem dX0_startsCounting_6 : decode cX0_startsCounting 6 = .ok (.iconst 0, 1) := dk_3 (dk_at dksX0_startsCounting_0 6 rfl rfl)
theorem dX0_startsCounting_7 : decode cX0_startsCounting 7 = .ok (.putfield 7, 3) := dk_181 0 7 (dk_at dksX0_startsCounting_0 7 rfl rfl)
theorem dX0_startsCounting_10 : decode cX0_startsCounting 10 = .ok (.aload_n 0, 1) := dk_42 (dk_at dksX0_startsCounting_0 10 rfl rfl)
theorem dX0_startsCounting_11 : decode cX0_startsCounting 11 = .ok (.iconst 0, 1) := dk_3 (dk_at dksX0_startsCounting_0 11 rfl rfl)
theorem dX0_startsCounting_12 : decode cX0_startsCounting 12 = .ok (.putfield 10, 3) := dk_181 0 10 (dk_at dksX0_startsCounting_0 12 rfl rfl)
theorem dX0_startsCounting_15 : decode cX0_startsCounting 15 = .ok (.aload_n 0, 1) := dk_42 (dk_at dksX0_startsCounting_0 15 rfl rfl)
theorem dX0_startsCounting_16 : decode cX0_startsCounting 16 = .ok (.iconst 0, 1) := dk_3 (dk_at dksX0_startsCounting_0 16 rfl rfl)
theorem dX0_startsCounting_17 : decode cX0_startsCounting 17 = .ok (.putfield 13, 3) := dk_181 0 13 (dk_at dksX0_startsCounting_0 17 rfl rfl)
theorem dX0_startsCounting_20 : decode cX0_startsCounting 20 = .ok (.return_, 1) := dk_177 (dk_at dksX0_startsCounting_0 20 rfl rfl)
abbrev cX0_tickGoes : ByteArray := prog_1_method_9_code
def yX0_tickGoes : MethodName := ⟨RX0, "tickGoes", "(LFlyWheels$Shaft;Z)V"⟩
def dkwX0_tickGoes_1 : List UInt8 := [167, 0, 9, 43, 180, 0, 96, 29, 53, 28, 182, 0, 100, 177]
abbrev dktX0_tickGoes_1 : List UInt8 := dkwX0_tickGoes_1 ++ []
def dkwX0_tickGoes_0 : List UInt8 := [43, 182, 0, 90, 62, 42, 43, 29, 16, 252, 159, 0, 11, 29, 43, 180, 0, 93, 160, 0, 8, 16, 252]
abbrev dktX0_tickGoes_0 : List UInt8 := dkwX0_tickGoes_0 ++ dktX0_tickGoes_1
theorem dksX0_tickGoes_0 : cX0_tickGoes.data.toList.drop 0 = dktX0_tickGoes_0 := by decide +kernel
theorem dksX0_tickGoes_1 : cX0_tickGoes.data.toList.drop 23 = dktX0_tickGoes_1 := dk_seg dksX0_tickGoes_0 23 rfl rfl
theorem dX0_tickGoes_0 : decode cX0_tickGoes 0 = .ok (.aload_n 1, 1) := dk_43 (dk_at dksX0_tickGoes_0 0 rfl rfl)
theorem dX0_tickGoes_1 : decode cX0_tickGoes 1 = .ok (.invokevirtual 90, 3) := dk_182 0 90 (dk_at dksX0_tickGoes_0 1 rfl rfl)
theorem dX0_tickGoes_4 : decode cX0_tickGoes 4 = .ok (.istore_n 3, 1) := dk_62 (dk_at dksX0_tickGoes_0 4 rfl rfl)
theorem dX0_tickGoes_5 : decode cX0_tickGoes 5 = .ok (.aload_n 0, 1) := dk_42 (dk_at dksX0_tickGoes_0 5 rfl rfl)
theorem dX0_tickGoes_6 : decode cX0_tickGoes 6 = .ok (.aload_n 1, 1) := dk_43 (dk_at dksX0_tickGoes_0 6 rfl rfl)
theorem dX0_tickGoes_7 : decode cX0_tickGoes 7 = .ok (.iload_n 3, 1) := dk_29 (dk_at dksX0_tickGoes_0 7 rfl rfl)
theorem dX0_tickGoes_8 : decode cX0_tickGoes 8 = .ok (.bipush (-4), 2) := dk_16 252 (dk_at dksX0_tickGoes_0 8 rfl rfl)
theorem dX0_tickGoes_10 : decode cX0_tickGoes 10 = .ok (.if_icmp .eq 11, 3) := dk_159 0 11 (dk_at dksX0_tickGoes_0 10 rfl rfl)
theorem dX0_tickGoes_13 : decode cX0_tickGoes 13 = .ok (.iload_n 3, 1) := dk_29 (dk_at dksX0_tickGoes_0 13 rfl rfl)
theorem dX0_tickGoes_14 : decode cX0_tickGoes 14 = .ok (.aload_n 1, 1) := dk_43 (dk_at dksX0_tickGoes_0 14 rfl rfl)
theorem dX0_tickGoes_15 : decode cX0_tickGoes 15 = .ok (.getfield 93, 3) := dk_180 0 93 (dk_at dksX0_tickGoes_0 15 rfl rfl)
theorem dX0_tickGoes_18 : decode cX0_tickGoes 18 = .ok (.if_icmp .ne 8, 3) := dk_160 0 8 (dk_at dksX0_tickGoes_0 18 rfl rfl)
theorem dX0_tickGoes_21 : decode cX0_tickGoes 21 = .ok (.bipush (-4), 2) := dk_16 252 (dk_at dksX0_tickGoes_0 21 rfl rfl)
theorem dX0_tickGoes_23 : decode cX0_tickGoes 23 = .ok (.goto 9, 3) := dk_167 0 9 (dk_at dksX0_tickGoes_1 0 rfl rfl)
theorem dX0_tickGoes_26 : decode cX0_tickGoes 26 = .ok (.aload_n 1, 1) := dk_43 (dk_at dksX0_tickGoes_1 3 rfl rfl)
theorem dX0_tickGoes_27 : decode cX0_tickGoes 27 = .ok (.getfield 96, 3) := dk_180 0 96 (dk_at dksX0_tickGoes_1 4 rfl rfl)
theorem dX0_tickGoes_30 : decode cX0_tickGoes 30 = .ok (.iload_n 3, 1) := dk_29 (dk_at dksX0_tickGoes_1 7 rfl rfl)
theorem dX0_tickGoes_31 : decode cX0_tickGoes 31 = .ok (.saload, 1) := dk_53 (dk_at dksX0_tickGoes_1 8 rfl rfl)
theorem dX0_tickGoes_32 : decode cX0_tickGoes 32 = .ok (.iload_n 2, 1) := dk_28 (dk_at dksX0_tickGoes_1 9 rfl rfl)
theorem dX0_tickGoes_33 : decode cX0_tickGoes 33 = .ok (.invokevirtual 100, 3) := dk_182 0 100 (dk_at dksX0_tickGoes_1 10 rfl rfl)
theorem dX0_tickGoes_36 : decode cX0_tickGoes 36 = .ok (.return_, 1) := dk_177 (dk_at dksX0_tickGoes_1 13 rfl rfl)
abbrev cX0_tickGoesBy : ByteArray := prog_1_method_8_code
def yX0_tickGoesBy : MethodName := ⟨RX0, "tickGoesBy", "(LFlyWheels$Shaft;IZ)V"⟩
def dkwX0_tickGoesBy_4 : List UInt8 := [181, 0, 80, 42, 42, 180, 0, 13, 43, 182, 0, 83, 184, 0, 87, 181, 0, 13, 177]
abbrev dktX0_tickGoesBy_4 : List UInt8 := dkwX0_tickGoesBy_4 ++ []
def dkwX0_tickGoesBy_3 : List UInt8 := [180, 0, 10, 21, 5, 96, 181, 0, 10, 132, 4, 1, 167, 255, 191, 43, 89, 180, 0, 80, 4, 96]
abbrev dktX0_tickGoesBy_3 : List UInt8 := dkwX0_tickGoesBy_3 ++ dktX0_tickGoesBy_4
def dkwX0_tickGoesBy_2 : List UInt8 := [184, 0, 55, 54, 5, 43, 180, 0, 20, 21, 4, 50, 89, 180, 0, 31, 21, 5, 100, 181, 0, 31, 42, 89]
abbrev dktX0_tickGoesBy_2 : List UInt8 := dkwX0_tickGoesBy_2 ++ dktX0_tickGoesBy_3
def dkwX0_tickGoesBy_1 : List UInt8 := [162, 0, 62, 43, 180, 0, 20, 21, 4, 50, 180, 0, 77, 43, 180, 0, 20, 21, 4, 50, 180, 0, 31]
abbrev dktX0_tickGoesBy_1 : List UInt8 := dkwX0_tickGoesBy_1 ++ dktX0_tickGoesBy_2
def dkwX0_tickGoesBy_0 : List UInt8 := [28, 16, 252, 159, 0, 10, 42, 43, 28, 29, 182, 0, 73, 3, 54, 4, 21, 4, 43, 180, 0, 44]
abbrev dktX0_tickGoesBy_0 : List UInt8 := dkwX0_tickGoesBy_0 ++ dktX0_tickGoesBy_1
theorem dksX0_tickGoesBy_0 : cX0_tickGoesBy.data.toList.drop 0 = dktX0_tickGoesBy_0 := by decide +kernel
theorem dksX0_tickGoesBy_1 : cX0_tickGoesBy.data.toList.drop 22 = dktX0_tickGoesBy_1 := dk_seg dksX0_tickGoesBy_0 22 rfl rfl
theorem dksX0_tickGoesBy_2 : cX0_tickGoesBy.data.toList.drop 45 = dktX0_tickGoesBy_2 := dk_seg dksX0_tickGoesBy_1 23 rfl rfl
theorem dksX0_tickGoesBy_3 : cX0_tickGoesBy.data.toList.drop 69 = dktX0_tickGoesBy_3 := dk_seg dksX0_tickGoesBy_2 24 rfl rfl
theorem dksX0_tickGoesBy_4 : cX0_tickGoesBy.data.toList.drop 91 = dktX0_tickGoesBy_4 := dk_seg dksX0_tickGoesBy_3 22 rfl rfl
theorem dX0_tickGoesBy_0 : decode cX0_tickGoesBy 0 = .ok (.iload_n 2, 1) := dk_28 (dk_at dksX0_tickGoesBy_0 0 rfl rfl)
theorem dX0_tickGoesBy_1 : decode cX0_tickGoesBy 1 = .ok (.bipush (-4), 2) := dk_16 252 (dk_at dksX0_tickGoesBy_0 1 rfl rfl)
theorem dX0_tickGoesBy_3 : decode cX0_tickGoesBy 3 = .ok (.if_icmp .eq 10, 3) := dk_159 0 10 (dk_at dksX0_tickGoesBy_0 3 rfl rfl)
theorem dX0_tickGoesBy_6 : decode cX0_tickGoesBy 6 = .ok (.aload_n 0, 1) := dk_42 (dk_at dksX0_tickGoesBy_0 6 rfl rfl)
theorem dX0_tickGoesBy_7 : decode cX0_tickGoesBy 7 = .ok (.aload_n 1, 1) := dk_43 (dk_at dksX0_tickGoesBy_0 7 rfl rfl)
theorem dX0_tickGoesBy_8 : decode cX0_tickGoesBy 8 = .ok (.iload_n 2, 1) := dk_28 (dk_at dksX0_tickGoesBy_0 8 rfl rfl)
theorem dX0_tickGoesBy_9 : decode cX0_tickGoesBy 9 = .ok (.iload_n 3, 1) := dk_29 (dk_at dksX0_tickGoesBy_0 9 rfl rfl)
theorem dX0_tickGoesBy_10 : decode cX0_tickGoesBy 10 = .ok (.invokevirtual 73, 3) := dk_182 0 73 (dk_at dksX0_tickGoesBy_0 10 rfl rfl)
theorem dX0_tickGoesBy_13 : decode cX0_tickGoesBy 13 = .ok (.iconst 0, 1) := dk_3 (dk_at dksX0_tickGoesBy_0 13 rfl rfl)
theorem dX0_tickGoesBy_14 : decode cX0_tickGoesBy 14 = .ok (.istore 4, 2) := dk_54 4 (dk_at dksX0_tickGoesBy_0 14 rfl rfl)
theorem dX0_tickGoesBy_16 : decode cX0_tickGoesBy 16 = .ok (.iload 4, 2) := dk_21 4 (dk_at dksX0_tickGoesBy_0 16 rfl rfl)
theorem dX0_tickGoesBy_18 : decode cX0_tickGoesBy 18 = .ok (.aload_n 1, 1) := dk_43 (dk_at dksX0_tickGoesBy_0 18 rfl rfl)
theorem dX0_tickGoesBy_19 : decode cX0_tickGoesBy 19 = .ok (.getfield 44, 3) := dk_180 0 44 (dk_at dksX0_tickGoesBy_0 19 rfl rfl)
theorem dX0_tickGoesBy_22 : decode cX0_tickGoesBy 22 = .ok (.if_icmp .ge 62, 3) := dk_162 0 62 (dk_at dksX0_tickGoesBy_1 0 rfl rfl)
theorem dX0_tickGoesBy_25 : decode cX0_tickGoesBy 25 = .ok (.aload_n 1, 1) := dk_43 (dk_at dksX0_tickGoesBy_1 3 rfl rfl)
theorem dX0_tickGoesBy_26 : decode cX0_tickGoesBy 26 = .ok (.getfield 20, 3) := dk_180 0 20 (dk_at dksX0_tickGoesBy_1 4 rfl rfl)
theorem dX0_tickGoesBy_29 : decode cX0_tickGoesBy 29 = .ok (.iload 4, 2) := dk_21 4 (dk_at dksX0_tickGoesBy_1 7 rfl rfl)
theorem dX0_tickGoesBy_31 : decode cX0_tickGoesBy 31 = .ok (.aaload, 1) := dk_50 (dk_at dksX0_tickGoesBy_1 9 rfl rfl)
theorem dX0_tickGoesBy_32 : decode cX0_tickGoesBy 32 = .ok (.getfield 77, 3) := dk_180 0 77 (dk_at dksX0_tickGoesBy_1 10 rfl rfl)
theorem dX0_tickGoesBy_35 : decode cX0_tickGoesBy 35 = .ok (.aload_n 1, 1) := dk_43 (dk_at dksX0_tickGoesBy_1 13 rfl rfl)
theorem dX0_tickGoesBy_36 : decode cX0_tickGoesBy 36 = .ok (.getfield 20, 3) := dk_180 0 20 (dk_at dksX0_tickGoesBy_1 14 rfl rfl)
theorem dX0_tickGoesBy_39 : decode cX0_tickGoesBy 39 = .ok (.iload 4, 2) := dk_21 4 (dk_at dksX0_tickGoesBy_1 17 rfl rfl)
theorem dX0_tickGoesBy_41 : decode cX0_tickGoesBy 41 = .ok (.aaload, 1) := dk_50 (dk_at dksX0_tickGoesBy_1 19 rfl rfl)
theorem dX0_tickGoesBy_42 : decode cX0_tickGoesBy 42 = .ok (.getfield 31, 3) := dk_180 0 31 (dk_at dksX0_tickGoesBy_1 20 rfl rfl)
theorem dX0_tickGoesBy_45 : decode cX0_tickGoesBy 45 = .ok (.invokestatic 55, 3) := dk_184 0 55 (dk_at dksX0_tickGoesBy_2 0 rfl rfl)
theorem dX0_tickGoesBy_48 : decode cX0_tickGoesBy 48 = .ok (.istore 5, 2) := dk_54 5 (dk_at dksX0_tickGoesBy_2 3 rfl rfl)
theorem dX0_tickGoesBy_50 : decode cX0_tickGoesBy 50 = .ok (.aload_n 1, 1) := dk_43 (dk_at dksX0_tickGoesBy_2 5 rfl rfl)
theorem dX0_tickGoesBy_51 : decode cX0_tickGoesBy 51 = .ok (.getfield 20, 3) := dk_180 0 20 (dk_at dksX0_tickGoesBy_2 6 rfl rfl)
theorem dX0_tickGoesBy_54 : decode cX0_tickGoesBy 54 = .ok (.iload 4, 2) := dk_21 4 (dk_at dksX0_tickGoesBy_2 9 rfl rfl)
theorem dX0_tickGoesBy_56 : decode cX0_tickGoesBy 56 = .ok (.aaload, 1) := dk_50 (dk_at dksX0_tickGoesBy_2 11 rfl rfl)
theorem dX0_tickGoesBy_57 : decode cX0_tickGoesBy 57 = .ok (.dup, 1) := dk_89 (dk_at dksX0_tickGoesBy_2 12 rfl rfl)
theorem dX0_tickGoesBy_58 : decode cX0_tickGoesBy 58 = .ok (.getfield 31, 3) := dk_180 0 31 (dk_at dksX0_tickGoesBy_2 13 rfl rfl)
theorem dX0_tickGoesBy_61 : decode cX0_tickGoesBy 61 = .ok (.iload 5, 2) := dk_21 5 (dk_at dksX0_tickGoesBy_2 16 rfl rfl)
theorem dX0_tickGoesBy_63 : decode cX0_tickGoesBy 63 = .ok (.isub, 1) := dk_100 (dk_at dksX0_tickGoesBy_2 18 rfl rfl)
theorem dX0_tickGoesBy_64 : decode cX0_tickGoesBy 64 = .ok (.putfield 31, 3) := dk_181 0 31 (dk_at dksX0_tickGoesBy_2 19 rfl rfl)
theorem dX0_tickGoesBy_67 : decode cX0_tickGoesBy 67 = .ok (.aload_n 0, 1) := dk_42 (dk_at dksX0_tickGoesBy_2 22 rfl rfl)
theorem dX0_tickGoesBy_68 : decode cX0_tickGoesBy 68 = .ok (.dup, 1) := dk_89 (dk_at dksX0_tickGoesBy_2 23 rfl rfl)
theorem dX0_tickGoesBy_69 : decode cX0_tickGoesBy 69 = .ok (.getfield 10, 3) := dk_180 0 10 (dk_at dksX0_tickGoesBy_3 0 rfl rfl)
theorem dX0_tickGoesBy_72 : decode cX0_tickGoesBy 72 = .ok (.iload 5, 2) := dk_21 5 (dk_at dksX0_tickGoesBy_3 3 rfl rfl)
theorem dX0_tickGoesBy_74 : decode cX0_tickGoesBy 74 = .ok (.iadd, 1) := dk_96 (dk_at dksX0_tickGoesBy_3 5 rfl rfl)
theorem dX0_tickGoesBy_75 : decode cX0_tickGoesBy 75 = .ok (.putfield 10, 3) := dk_181 0 10 (dk_at dksX0_tickGoesBy_3 6 rfl rfl)
theorem dX0_tickGoesBy_78 : decode cX0_tickGoesBy 78 = .ok (.iinc 4 1, 3) := dk_132 4 1 (dk_at dksX0_tickGoesBy_3 9 rfl rfl)
theorem dX0_tickGoesBy_81 : decode cX0_tickGoesBy 81 = .ok (.goto (-65), 3) := dk_167 255 191 (dk_at dksX0_tickGoesBy_3 12 rfl rfl)
theorem dX0_tickGoesBy_84 : decode cX0_tickGoesBy 84 = .ok (.aload_n 1, 1) := dk_43 (dk_at dksX0_tickGoesBy_3 15 rfl rfl)
theorem dX0_tickGoesBy_85 : decode cX0_tickGoesBy 85 = .ok (.dup, 1) := dk_89 (dk_at dksX0_tickGoesBy_3 16 rfl rfl)
theorem dX0_tickGoesBy_86 : decode cX0_tickGoesBy 86 = .ok (.getfield 80, 3) := dk_180 0 80 (dk_at dksX0_tickGoesBy_3 17 rfl rfl)
theorem dX0_tickGoesBy_89 : decode cX0_tickGoesBy 89 = .ok (.iconst 1, 1) := dk_4 (dk_at dksX0_tickGoesBy_3 20 rfl rfl)
theorem dX0_tickGoesBy_90 : decode cX0_tickGoesBy 90 = .ok (.iadd, 1) := dk_96 (dk_at dksX0_tickGoesBy_3 21 rfl rfl)
theorem dX0_tickGoesBy_91 : decode cX0_tickGoesBy 91 = .ok (.putfield 80, 3) := dk_181 0 80 (dk_at dksX0_tickGoesBy_4 0 rfl rfl)
theorem dX0_tickGoesBy_94 : decode cX0_tickGoesBy 94 = .ok (.aload_n 0, 1) := dk_42 (dk_at dksX0_tickGoesBy_4 3 rfl rfl)
theorem dX0_tickGoesBy_95 : decode cX0_tickGoesBy 95 = .ok (.aload_n 0, 1) := dk_42 (dk_at dksX0_tickGoesBy_4 4 rfl rfl)
theorem dX0_tickGoesBy_96 : decode cX0_tickGoesBy 96 = .ok (.getfield 13, 3) := dk_180 0 13 (dk_at dksX0_tickGoesBy_4 5 rfl rfl)
theorem dX0_tickGoesBy_99 : decode cX0_tickGoesBy 99 = .ok (.aload_n 1, 1) := dk_43 (dk_at dksX0_tickGoesBy_4 8 rfl rfl)
theorem dX0_tickGoesBy_100 : decode cX0_tickGoesBy 100 = .ok (.invokevirtual 83, 3) := dk_182 0 83 (dk_at dksX0_tickGoesBy_4 9 rfl rfl)
theorem dX0_tickGoesBy_103 : decode cX0_tickGoesBy 103 = .ok (.invokestatic 87, 3) := dk_184 0 87 (dk_at dksX0_tickGoesBy_4 12 rfl rfl)
theorem dX0_tickGoesBy_106 : decode cX0_tickGoesBy 106 = .ok (.putfield 13, 3) := dk_181 0 13 (dk_at dksX0_tickGoesBy_4 15 rfl rfl)
theorem dX0_tickGoesBy_109 : decode cX0_tickGoesBy 109 = .ok (.return_, 1) := dk_177 (dk_at dksX0_tickGoesBy_4 18 rfl rfl)
abbrev cX0_runs : ByteArray := prog_1_method_35_code
def yX0_runs : MethodName := ⟨RX0, "runs", "(II)I"⟩
def dkwX0_runs_4 : List UInt8 := [180, 0, 134, 182, 0, 83, 42, 180, 0, 13, 184, 0, 87, 172]
abbrev dktX0_runs_4 : List UInt8 := dkwX0_runs_4 ++ []
def dkwX0_runs_3 : List UInt8 := [42, 180, 0, 1, 172, 42, 180, 0, 7, 172, 42, 180, 0, 10, 172, 42, 180, 0, 111, 182, 0, 248, 172, 42]
abbrev dktX0_runs_3 : List UInt8 := dkwX0_runs_3 ++ dktX0_runs_4
def dkwX0_runs_2 : List UInt8 := [170, 0, 0, 0, 0, 53, 0, 0, 0, 0, 0, 0, 0, 3, 0, 0, 0, 30, 0, 0, 0, 35, 0, 0, 0, 40, 0, 0, 0, 45]
abbrev dktX0_runs_2 : List UInt8 := dkwX0_runs_2 ++ dktX0_runs_3
def dkwX0_runs_1 : List UInt8 := [180, 0, 111, 42, 180, 0, 134, 182, 0, 185, 42, 42, 180, 0, 111, 27, 182, 0, 115, 28]
abbrev dktX0_runs_1 : List UInt8 := dkwX0_runs_1 ++ dktX0_runs_2
def dkwX0_runs_0 : List UInt8 := [27, 184, 0, 243, 153, 0, 15, 28, 133, 9, 20, 0, 246, 184, 0, 164, 154, 0, 5, 2, 172, 42]
abbrev dktX0_runs_0 : List UInt8 := dkwX0_runs_0 ++ dktX0_runs_1
theorem dksX0_runs_0 : cX0_runs.data.toList.drop 0 = dktX0_runs_0 := by decide +kernel
theorem dksX0_runs_1 : cX0_runs.data.toList.drop 22 = dktX0_runs_1 := dk_seg dksX0_runs_0 22 rfl rfl
theorem dksX0_runs_2 : cX0_runs.data.toList.drop 42 = dktX0_runs_2 := dk_seg dksX0_runs_1 20 rfl rfl
theorem dksX0_runs_3 : cX0_runs.data.toList.drop 72 = dktX0_runs_3 := dk_seg dksX0_runs_2 30 rfl rfl
theorem dksX0_runs_4 : cX0_runs.data.toList.drop 96 = dktX0_runs_4 := dk_seg dksX0_runs_3 24 rfl rfl
theorem dX0_runs_0 : decode cX0_runs 0 = .ok (.iload_n 1, 1) := dk_27 (dk_at dksX0_runs_0 0 rfl rfl)
theorem dX0_runs_1 : decode cX0_runs 1 = .ok (.invokestatic 243, 3) := dk_184 0 243 (dk_at dksX0_runs_0 1 rfl rfl)
theorem dX0_runs_4 : decode cX0_runs 4 = .ok (.ifCond .eq 15, 3) := dk_153 0 15 (dk_at dksX0_runs_0 4 rfl rfl)
theorem dX0_runs_7 : decode cX0_runs 7 = .ok (.iload_n 2, 1) := dk_28 (dk_at dksX0_runs_0 7 rfl rfl)
theorem dX0_runs_8 : decode cX0_runs 8 = .ok (.i2l, 1) := dk_133 (dk_at dksX0_runs_0 8 rfl rfl)
theorem dX0_runs_9 : decode cX0_runs 9 = .ok (.lconst 0, 1) := dk_9 (dk_at dksX0_runs_0 9 rfl rfl)
theorem dX0_runs_10 : decode cX0_runs 10 = .ok (.ldc2_w 246, 3) := dk_20 0 246 (dk_at dksX0_runs_0 10 rfl rfl)
theorem dX0_runs_13 : decode cX0_runs 13 = .ok (.invokestatic 164, 3) := dk_184 0 164 (dk_at dksX0_runs_0 13 rfl rfl)
theorem dX0_runs_16 : decode cX0_runs 16 = .ok (.ifCond .ne 5, 3) := dk_154 0 5 (dk_at dksX0_runs_0 16 rfl rfl)
theorem dX0_runs_19 : decode cX0_runs 19 = .ok (.iconst (-1), 1) := dk_2 (dk_at dksX0_runs_0 19 rfl rfl)
theorem dX0_runs_20 : decode cX0_runs 20 = .ok (.ireturn, 1) := dk_172 (dk_at dksX0_runs_0 20 rfl rfl)
theorem dX0_runs_21 : decode cX0_runs 21 = .ok (.aload_n 0, 1) := dk_42 (dk_at dksX0_runs_0 21 rfl rfl)
theorem dX0_runs_22 : decode cX0_runs 22 = .ok (.getfield 111, 3) := dk_180 0 111 (dk_at dksX0_runs_1 0 rfl rfl)
theorem dX0_runs_25 : decode cX0_runs 25 = .ok (.aload_n 0, 1) := dk_42 (dk_at dksX0_runs_1 3 rfl rfl)
theorem dX0_runs_26 : decode cX0_runs 26 = .ok (.getfield 134, 3) := dk_180 0 134 (dk_at dksX0_runs_1 4 rfl rfl)
theorem dX0_runs_29 : decode cX0_runs 29 = .ok (.invokevirtual 185, 3) := dk_182 0 185 (dk_at dksX0_runs_1 7 rfl rfl)
theorem dX0_runs_32 : decode cX0_runs 32 = .ok (.aload_n 0, 1) := dk_42 (dk_at dksX0_runs_1 10 rfl rfl)
theorem dX0_runs_33 : decode cX0_runs 33 = .ok (.aload_n 0, 1) := dk_42 (dk_at dksX0_runs_1 11 rfl rfl)
theorem dX0_runs_34 : decode cX0_runs 34 = .ok (.getfield 111, 3) := dk_180 0 111 (dk_at dksX0_runs_1 12 rfl rfl)
theorem dX0_runs_37 : decode cX0_runs 37 = .ok (.iload_n 1, 1) := dk_27 (dk_at dksX0_runs_1 15 rfl rfl)
theorem dX0_runs_38 : decode cX0_runs 38 = .ok (.invokevirtual 115, 3) := dk_182 0 115 (dk_at dksX0_runs_1 16 rfl rfl)
theorem dX0_runs_41 : decode cX0_runs 41 = .ok (.iload_n 2, 1) := dk_28 (dk_at dksX0_runs_1 19 rfl rfl)
theorem dX0_runs_42 : decode cX0_runs 42 = .ok (.tableswitch 53 0 3 #[30, 35, 40, 45], 30) := by decide +kernel
theorem dX0_runs_72 : decode cX0_runs 72 = .ok (.aload_n 0, 1) := dk_42 (dk_at dksX0_runs_3 0 rfl rfl)
theorem dX0_runs_73 : decode cX0_runs 73 = .ok (.getfield 1, 3) := dk_180 0 1 (dk_at dksX0_runs_3 1 rfl rfl)
theorem dX0_runs_76 : decode cX0_runs 76 = .ok (.ireturn, 1) := dk_172 (dk_at dksX0_runs_3 4 rfl rfl)
theorem dX0_runs_77 : decode cX0_runs 77 = .ok (.aload_n 0, 1) := dk_42 (dk_at dksX0_runs_3 5 rfl rfl)
theorem dX0_runs_78 : decode cX0_runs 78 = .ok (.getfield 7, 3) := dk_180 0 7 (dk_at dksX0_runs_3 6 rfl rfl)
theorem dX0_runs_81 : decode cX0_runs 81 = .ok (.ireturn, 1) := dk_172 (dk_at dksX0_runs_3 9 rfl rfl)
theorem dX0_runs_82 : decode cX0_runs 82 = .ok (.aload_n 0, 1) := dk_42 (dk_at dksX0_runs_3 10 rfl rfl)
theorem dX0_runs_83 : decode cX0_runs 83 = .ok (.getfield 10, 3) := dk_180 0 10 (dk_at dksX0_runs_3 11 rfl rfl)
theorem dX0_runs_86 : decode cX0_runs 86 = .ok (.ireturn, 1) := dk_172 (dk_at dksX0_runs_3 14 rfl rfl)
theorem dX0_runs_87 : decode cX0_runs 87 = .ok (.aload_n 0, 1) := dk_42 (dk_at dksX0_runs_3 15 rfl rfl)
theorem dX0_runs_88 : decode cX0_runs 88 = .ok (.getfield 111, 3) := dk_180 0 111 (dk_at dksX0_runs_3 16 rfl rfl)
theorem dX0_runs_91 : decode cX0_runs 91 = .ok (.invokevirtual 248, 3) := dk_182 0 248 (dk_at dksX0_runs_3 19 rfl rfl)
theorem dX0_runs_94 : decode cX0_runs 94 = .ok (.ireturn, 1) := dk_172 (dk_at dksX0_runs_3 22 rfl rfl)
theorem dX0_runs_95 : decode cX0_runs 95 = .ok (.aload_n 0, 1) := dk_42 (dk_at dksX0_runs_3 23 rfl rfl)
theorem dX0_runs_96 : decode cX0_runs 96 = .ok (.getfield 134, 3) := dk_180 0 134 (dk_at dksX0_runs_4 0 rfl rfl)
theorem dX0_runs_99 : decode cX0_runs 99 = .ok (.invokevirtual 83, 3) := dk_182 0 83 (dk_at dksX0_runs_4 3 rfl rfl)
theorem dX0_runs_102 : decode cX0_runs 102 = .ok (.aload_n 0, 1) := dk_42 (dk_at dksX0_runs_4 6 rfl rfl)
theorem dX0_runs_103 : decode cX0_runs 103 = .ok (.getfield 13, 3) := dk_180 0 13 (dk_at dksX0_runs_4 7 rfl rfl)
theorem dX0_runs_106 : decode cX0_runs 106 = .ok (.invokestatic 87, 3) := dk_184 0 87 (dk_at dksX0_runs_4 10 rfl rfl)
theorem dX0_runs_109 : decode cX0_runs 109 = .ok (.ireturn, 1) := dk_172 (dk_at dksX0_runs_4 13 rfl rfl)
abbrev cX0_isFar : ByteArray := prog_1_method_21_code
def yX0_isFar : MethodName := ⟨RX0, "isFar", "(I)Z"⟩
def dkwX0_isFar_0 : List UInt8 := [26, 133, 9, 20, 0, 207, 184, 0, 164, 172]
abbrev dktX0_isFar_0 : List UInt8 := dkwX0_isFar_0 ++ []
theorem dksX0_isFar_0 : cX0_isFar.data.toList.drop 0 = dktX0_isFar_0 := by decide +kernel
theorem dX0_isFar_0 : decode cX0_isFar 0 = .ok (.iload_n 0, 1) := dk_26 (dk_at dksX0_isFar_0 0 rfl rfl)
theorem dX0_isFar_1 : decode cX0_isFar 1 = .ok (.i2l, 1) := dk_133 (dk_at dksX0_isFar_0 1 rfl rfl)
theorem dX0_isFar_2 : decode cX0_isFar 2 = .ok (.lconst 0, 1) := dk_9 (dk_at dksX0_isFar_0 2 rfl rfl)
theorem dX0_isFar_3 : decode cX0_isFar 3 = .ok (.ldc2_w 207, 3) := dk_20 0 207 (dk_at dksX0_isFar_0 3 rfl rfl)
theorem dX0_isFar_6 : decode cX0_isFar 6 = .ok (.invokestatic 164, 3) := dk_184 0 164 (dk_at dksX0_isFar_0 6 rfl rfl)
theorem dX0_isFar_9 : decode cX0_isFar 9 = .ok (.ireturn, 1) := dk_172 (dk_at dksX0_isFar_0 9 rfl rfl)
abbrev cX0_ahead : ByteArray := prog_1_method_36_code
def yX0_ahead : MethodName := ⟨RX0, "ahead", "(II)I"⟩
def dkwX0_ahead_2 : List UInt8 := [180, 0, 31, 172]
abbrev dktX0_ahead_2 : List UInt8 := dkwX0_ahead_2 ++ []
def dkwX0_ahead_1 : List UInt8 := [180, 0, 134, 182, 0, 185, 42, 42, 180, 0, 111, 28, 182, 0, 115, 42, 180, 0, 111, 180, 0, 20, 27, 50]
abbrev dktX0_ahead_1 : List UInt8 := dkwX0_ahead_1 ++ dktX0_ahead_2
def dkwX0_ahead_0 : List UInt8 := [42, 27, 182, 0, 212, 153, 0, 10, 28, 184, 0, 243, 154, 0, 5, 2, 172, 42, 180, 0, 111, 42]
abbrev dktX0_ahead_0 : List UInt8 := dkwX0_ahead_0 ++ dktX0_ahead_1
theorem dksX0_ahead_0 : cX0_ahead.data.toList.drop 0 = dktX0_ahead_0 := by decide +kernel
theorem dksX0_ahead_1 : cX0_ahead.data.toList.drop 22 = dktX0_ahead_1 := dk_seg dksX0_ahead_0 22 rfl rfl
theorem dksX0_ahead_2 : cX0_ahead.data.toList.drop 46 = dktX0_ahead_2 := dk_seg dksX0_ahead_1 24 rfl rfl
theorem dX0_ahead_0 : decode cX0_ahead 0 = .ok (.aload_n 0, 1) := dk_42 (dk_at dksX0_ahead_0 0 rfl rfl)
theorem dX0_ahead_1 : decode cX0_ahead 1 = .ok (.iload_n 1, 1) := dk_27 (dk_at dksX0_ahead_0 1 rfl rfl)
theorem dX0_ahead_2 : decode cX0_ahead 2 = .ok (.invokevirtual 212, 3) := dk_182 0 212 (dk_at dksX0_ahead_0 2 rfl rfl)
theorem dX0_ahead_5 : decode cX0_ahead 5 = .ok (.ifCond .eq 10, 3) := dk_153 0 10 (dk_at dksX0_ahead_0 5 rfl rfl)
theorem dX0_ahead_8 : decode cX0_ahead 8 = .ok (.iload_n 2, 1) := dk_28 (dk_at dksX0_ahead_0 8 rfl rfl)
theorem dX0_ahead_9 : decode cX0_ahead 9 = .ok (.invokestatic 243, 3) := dk_184 0 243 (dk_at dksX0_ahead_0 9 rfl rfl)
theorem dX0_ahead_12 : decode cX0_ahead 12 = .ok (.ifCond .ne 5, 3) := dk_154 0 5 (dk_at dksX0_ahead_0 12 rfl rfl)
theorem dX0_ahead_15 : decode cX0_ahead 15 = .ok (.iconst (-1), 1) := dk_2 (dk_at dksX0_ahead_0 15 rfl rfl)
theorem dX0_ahead_16 : decode cX0_ahead 16 = .ok (.ireturn, 1) := dk_172 (dk_at dksX0_ahead_0 16 rfl rfl)
theorem dX0_ahead_17 : decode cX0_ahead 17 = .ok (.aload_n 0, 1) := dk_42 (dk_at dksX0_ahead_0 17 rfl rfl)
theorem dX0_ahead_18 : decode cX0_ahead 18 = .ok (.getfield 111, 3) := dk_180 0 111 (dk_at dksX0_ahead_0 18 rfl rfl)
theorem dX0_ahead_21 : decode cX0_ahead 21 = .ok (.aload_n 0, 1) := dk_42 (dk_at dksX0_ahead_0 21 rfl rfl)
theorem dX0_ahead_22 : decode cX0_ahead 22 = .ok (.getfield 134, 3) := dk_180 0 134 (dk_at dksX0_ahead_1 0 rfl rfl)
theorem dX0_ahead_25 : decode cX0_ahead 25 = .ok (.invokevirtual 185, 3) := dk_182 0 185 (dk_at dksX0_ahead_1 3 rfl rfl)
theorem dX0_ahead_28 : decode cX0_ahead 28 = .ok (.aload_n 0, 1) := dk_42 (dk_at dksX0_ahead_1 6 rfl rfl)
theorem dX0_ahead_29 : decode cX0_ahead 29 = .ok (.aload_n 0, 1) := dk_42 (dk_at dksX0_ahead_1 7 rfl rfl)
theorem dX0_ahead_30 : decode cX0_ahead 30 = .ok (.getfield 111, 3) := dk_180 0 111 (dk_at dksX0_ahead_1 8 rfl rfl)
theorem dX0_ahead_33 : decode cX0_ahead 33 = .ok (.iload_n 2, 1) := dk_28 (dk_at dksX0_ahead_1 11 rfl rfl)
theorem dX0_ahead_34 : decode cX0_ahead 34 = .ok (.invokevirtual 115, 3) := dk_182 0 115 (dk_at dksX0_ahead_1 12 rfl rfl)
theorem dX0_ahead_37 : decode cX0_ahead 37 = .ok (.aload_n 0, 1) := dk_42 (dk_at dksX0_ahead_1 15 rfl rfl)
theorem dX0_ahead_38 : decode cX0_ahead 38 = .ok (.getfield 111, 3) := dk_180 0 111 (dk_at dksX0_ahead_1 16 rfl rfl)
theorem dX0_ahead_41 : decode cX0_ahead 41 = .ok (.getfield 20, 3) := dk_180 0 20 (dk_at dksX0_ahead_1 19 rfl rfl)
theorem dX0_ahead_44 : decode cX0_ahead 44 = .ok (.iload_n 1, 1) := dk_27 (dk_at dksX0_ahead_1 22 rfl rfl)
theorem dX0_ahead_45 : decode cX0_ahead 45 = .ok (.aaload, 1) := dk_50 (dk_at dksX0_ahead_1 23 rfl rfl)
theorem dX0_ahead_46 : decode cX0_ahead 46 = .ok (.getfield 31, 3) := dk_180 0 31 (dk_at dksX0_ahead_2 0 rfl rfl)
theorem dX0_ahead_49 : decode cX0_ahead 49 = .ok (.ireturn, 1) := dk_172 (dk_at dksX0_ahead_2 3 rfl rfl)
abbrev cX0_when : ByteArray := prog_1_method_37_code
def yX0_when : MethodName := ⟨RX0, "when", "(I)I"⟩
def dkwX0_when_2 : List UInt8 := [42, 180, 0, 111, 3, 182, 0, 107, 132, 2, 1, 167, 255, 220, 16, 252, 172]
abbrev dktX0_when_2 : List UInt8 := dkwX0_when_2 ++ []
def dkwX0_when_1 : List UInt8 := [17, 0, 200, 163, 0, 35, 42, 180, 0, 111, 180, 0, 20, 27, 50, 180, 0, 31, 154, 0, 5, 28, 172, 42]
abbrev dktX0_when_1 : List UInt8 := dkwX0_when_1 ++ dktX0_when_2
def dkwX0_when_0 : List UInt8 := [42, 27, 182, 0, 212, 154, 0, 5, 2, 172, 42, 180, 0, 111, 42, 180, 0, 134, 182, 0, 185, 3, 61, 28]
abbrev dktX0_when_0 : List UInt8 := dkwX0_when_0 ++ dktX0_when_1
theorem dksX0_when_0 : cX0_when.data.toList.drop 0 = dktX0_when_0 := by decide +kernel
theorem dksX0_when_1 : cX0_when.data.toList.drop 24 = dktX0_when_1 := dk_seg dksX0_when_0 24 rfl rfl
theorem dksX0_when_2 : cX0_when.data.toList.drop 48 = dktX0_when_2 := dk_seg dksX0_when_1 24 rfl rfl
theorem dX0_when_0 : decode cX0_when 0 = .ok (.aload_n 0, 1) := dk_42 (dk_at dksX0_when_0 0 rfl rfl)
theorem dX0_when_1 : decode cX0_when 1 = .ok (.iload_n 1, 1) := dk_27 (dk_at dksX0_when_0 1 rfl rfl)
theorem dX0_when_2 : decode cX0_when 2 = .ok (.invokevirtual 212, 3) := dk_182 0 212 (dk_at dksX0_when_0 2 rfl rfl)
theorem dX0_when_5 : decode cX0_when 5 = .ok (.ifCond .ne 5, 3) := dk_154 0 5 (dk_at dksX0_when_0 5 rfl rfl)
theorem dX0_when_8 : decode cX0_when 8 = .ok (.iconst (-1), 1) := dk_2 (dk_at dksX0_when_0 8 rfl rfl)
theorem dX0_when_9 : decode cX0_when 9 = .ok (.ireturn, 1) := dk_172 (dk_at dksX0_when_0 9 rfl rfl)
theorem dX0_when_10 : decode cX0_when 10 = .ok (.aload_n 0, 1) := dk_42 (dk_at dksX0_when_0 10 rfl rfl)
theorem dX0_when_11 : decode cX0_when 11 = .ok (.getfield 111, 3) := dk_180 0 111 (dk_at dksX0_when_0 11 rfl rfl)
theorem dX0_when_14 : decode cX0_when 14 = .ok (.aload_n 0, 1) := dk_42 (dk_at dksX0_when_0 14 rfl rfl)
theorem dX0_when_15 : decode cX0_when 15 = .ok (.getfield 134, 3) := dk_180 0 134 (dk_at dksX0_when_0 15 rfl rfl)
theorem dX0_when_18 : decode cX0_when 18 = .ok (.invokevirtual 185, 3) := dk_182 0 185 (dk_at dksX0_when_0 18 rfl rfl)
theorem dX0_when_21 : decode cX0_when 21 = .ok (.iconst 0, 1) := dk_3 (dk_at dksX0_when_0 21 rfl rfl)
theorem dX0_when_22 : decode cX0_when 22 = .ok (.istore_n 2, 1) := dk_61 (dk_at dksX0_when_0 22 rfl rfl)
theorem dX0_when_23 : decode cX0_when 23 = .ok (.iload_n 2, 1) := dk_28 (dk_at dksX0_when_0 23 rfl rfl)
theorem dX0_when_24 : decode cX0_when 24 = .ok (.sipush 200, 3) := dk_17 0 200 (dk_at dksX0_when_1 0 rfl rfl)
theorem dX0_when_27 : decode cX0_when 27 = .ok (.if_icmp .gt 35, 3) := dk_163 0 35 (dk_at dksX0_when_1 3 rfl rfl)
theorem dX0_when_30 : decode cX0_when 30 = .ok (.aload_n 0, 1) := dk_42 (dk_at dksX0_when_1 6 rfl rfl)
theorem dX0_when_31 : decode cX0_when 31 = .ok (.getfield 111, 3) := dk_180 0 111 (dk_at dksX0_when_1 7 rfl rfl)
theorem dX0_when_34 : decode cX0_when 34 = .ok (.getfield 20, 3) := dk_180 0 20 (dk_at dksX0_when_1 10 rfl rfl)
theorem dX0_when_37 : decode cX0_when 37 = .ok (.iload_n 1, 1) := dk_27 (dk_at dksX0_when_1 13 rfl rfl)
theorem dX0_when_38 : decode cX0_when 38 = .ok (.aaload, 1) := dk_50 (dk_at dksX0_when_1 14 rfl rfl)
theorem dX0_when_39 : decode cX0_when 39 = .ok (.getfield 31, 3) := dk_180 0 31 (dk_at dksX0_when_1 15 rfl rfl)
theorem dX0_when_42 : decode cX0_when 42 = .ok (.ifCond .ne 5, 3) := dk_154 0 5 (dk_at dksX0_when_1 18 rfl rfl)
theorem dX0_when_45 : decode cX0_when 45 = .ok (.iload_n 2, 1) := dk_28 (dk_at dksX0_when_1 21 rfl rfl)
theorem dX0_when_46 : decode cX0_when 46 = .ok (.ireturn, 1) := dk_172 (dk_at dksX0_when_1 22 rfl rfl)
theorem dX0_when_47 : decode cX0_when 47 = .ok (.aload_n 0, 1) := dk_42 (dk_at dksX0_when_1 23 rfl rfl)
theorem dX0_when_48 : decode cX0_when 48 = .ok (.aload_n 0, 1) := dk_42 (dk_at dksX0_when_2 0 rfl rfl)
theorem dX0_when_49 : decode cX0_when 49 = .ok (.getfield 111, 3) := dk_180 0 111 (dk_at dksX0_when_2 1 rfl rfl)
theorem dX0_when_52 : decode cX0_when 52 = .ok (.iconst 0, 1) := dk_3 (dk_at dksX0_when_2 4 rfl rfl)
theorem dX0_when_53 : decode cX0_when 53 = .ok (.invokevirtual 107, 3) := dk_182 0 107 (dk_at dksX0_when_2 5 rfl rfl)
theorem dX0_when_56 : decode cX0_when 56 = .ok (.iinc 2 1, 3) := dk_132 2 1 (dk_at dksX0_when_2 8 rfl rfl)
theorem dX0_when_59 : decode cX0_when 59 = .ok (.goto (-36), 3) := dk_167 255 220 (dk_at dksX0_when_2 11 rfl rfl)
theorem dX0_when_62 : decode cX0_when 62 = .ok (.bipush (-4), 2) := dk_16 252 (dk_at dksX0_when_2 14 rfl rfl)
theorem dX0_when_64 : decode cX0_when 64 = .ok (.ireturn, 1) := dk_172 (dk_at dksX0_when_2 16 rfl rfl)
abbrev cX0_again : ByteArray := prog_1_method_38_code
def yX0_again : MethodName := ⟨RX0, "again", "()I"⟩
def dkwX0_again_2 : List UInt8 := [132, 1, 1, 167, 255, 221, 16, 252, 172]
abbrev dktX0_again_2 : List UInt8 := dkwX0_again_2 ++ []
def dkwX0_again_1 : List UInt8 := [180, 0, 111, 3, 182, 0, 107, 42, 180, 0, 111, 42, 180, 0, 134, 182, 0, 251, 153, 0, 5, 27, 172]
abbrev dktX0_again_1 : List UInt8 := dkwX0_again_1 ++ dktX0_again_2
def dkwX0_again_0 : List UInt8 := [42, 180, 0, 111, 42, 180, 0, 134, 182, 0, 185, 4, 60, 27, 17, 0, 200, 163, 0, 34, 42, 42]
abbrev dktX0_again_0 : List UInt8 := dkwX0_again_0 ++ dktX0_again_1
theorem dksX0_again_0 : cX0_again.data.toList.drop 0 = dktX0_again_0 := by decide +kernel
theorem dksX0_again_1 : cX0_again.data.toList.drop 22 = dktX0_again_1 := dk_seg dksX0_again_0 22 rfl rfl
theorem dksX0_again_2 : cX0_again.data.toList.drop 45 = dktX0_again_2 := dk_seg dksX0_again_1 23 rfl rfl
theorem dX0_again_0 : decode cX0_again 0 = .ok (.aload_n 0, 1) := dk_42 (dk_at dksX0_again_0 0 rfl rfl)
theorem dX0_again_1 : decode cX0_again 1 = .ok (.getfield 111, 3) := dk_180 0 111 (dk_at dksX0_again_0 1 rfl rfl)
theorem dX0_again_4 : decode cX0_again 4 = .ok (.aload_n 0, 1) := dk_42 (dk_at dksX0_again_0 4 rfl rfl)
theorem dX0_again_5 : decode cX0_again 5 = .ok (.getfield 134, 3) := dk_180 0 134 (dk_at dksX0_again_0 5 rfl rfl)
theorem dX0_again_8 : decode cX0_again 8 = .ok (.invokevirtual 185, 3) := dk_182 0 185 (dk_at dksX0_again_0 8 rfl rfl)
theorem dX0_again_11 : decode cX0_again 11 = .ok (.iconst 1, 1) := dk_4 (dk_at dksX0_again_0 11 rfl rfl)
theorem dX0_again_12 : decode cX0_again 12 = .ok (.istore_n 1, 1) := dk_60 (dk_at dksX0_again_0 12 rfl rfl)
theorem dX0_again_13 : decode cX0_again 13 = .ok (.iload_n 1, 1) := dk_27 (dk_at dksX0_again_0 13 rfl rfl)
theorem dX0_again_14 : decode cX0_again 14 = .ok (.sipush 200, 3) := dk_17 0 200 (dk_at dksX0_again_0 14 rfl rfl)
theorem dX0_again_17 : decode cX0_again 17 = .ok (.if_icmp .gt 34, 3) := dk_163 0 34 (dk_at dksX0_again_0 17 rfl rfl)
theorem dX0_again_20 : decode cX0_again 20 = .ok (.aload_n 0, 1) := dk_42 (dk_at dksX0_again_0 20 rfl rfl)
theorem dX0_again_21 : decode cX0_again 21 = .ok (.aload_n 0, 1) := dk_42 (dk_at dksX0_again_0 21 rfl rfl)
theorem dX0_again_22 : decode cX0_again 22 = .ok (.getfield 111, 3) := dk_180 0 111 (dk_at dksX0_again_1 0 rfl rfl)
theorem dX0_again_25 : decode cX0_again 25 = .ok (.iconst 0, 1) := dk_3 (dk_at dksX0_again_1 3 rfl rfl)
theorem dX0_again_26 : decode cX0_again 26 = .ok (.invokevirtual 107, 3) := dk_182 0 107 (dk_at dksX0_again_1 4 rfl rfl)
theorem dX0_again_29 : decode cX0_again 29 = .ok (.aload_n 0, 1) := dk_42 (dk_at dksX0_again_1 7 rfl rfl)
theorem dX0_again_30 : decode cX0_again 30 = .ok (.getfield 111, 3) := dk_180 0 111 (dk_at dksX0_again_1 8 rfl rfl)
theorem dX0_again_33 : decode cX0_again 33 = .ok (.aload_n 0, 1) := dk_42 (dk_at dksX0_again_1 11 rfl rfl)
theorem dX0_again_34 : decode cX0_again 34 = .ok (.getfield 134, 3) := dk_180 0 134 (dk_at dksX0_again_1 12 rfl rfl)
theorem dX0_again_37 : decode cX0_again 37 = .ok (.invokevirtual 251, 3) := dk_182 0 251 (dk_at dksX0_again_1 15 rfl rfl)
theorem dX0_again_40 : decode cX0_again 40 = .ok (.ifCond .eq 5, 3) := dk_153 0 5 (dk_at dksX0_again_1 18 rfl rfl)
theorem dX0_again_43 : decode cX0_again 43 = .ok (.iload_n 1, 1) := dk_27 (dk_at dksX0_again_1 21 rfl rfl)
theorem dX0_again_44 : decode cX0_again 44 = .ok (.ireturn, 1) := dk_172 (dk_at dksX0_again_1 22 rfl rfl)
theorem dX0_again_45 : decode cX0_again 45 = .ok (.iinc 1 1, 3) := dk_132 1 1 (dk_at dksX0_again_2 0 rfl rfl)
theorem dX0_again_48 : decode cX0_again 48 = .ok (.goto (-35), 3) := dk_167 255 221 (dk_at dksX0_again_2 3 rfl rfl)
theorem dX0_again_51 : decode cX0_again 51 = .ok (.bipush (-4), 2) := dk_16 252 (dk_at dksX0_again_2 6 rfl rfl)
theorem dX0_again_53 : decode cX0_again 53 = .ok (.ireturn, 1) := dk_172 (dk_at dksX0_again_2 8 rfl rfl)
abbrev cX0_mass : ByteArray := prog_1_method_43_code
def yX0_mass : MethodName := ⟨RX0, "mass", "(III)I"⟩
def dkwX0_mass_3 : List UInt8 := [182, 1, 5, 182, 1, 15, 132, 4, 1, 167, 255, 210, 42, 29, 182, 1, 19, 172]
abbrev dktX0_mass_3 : List UInt8 := dkwX0_mass_3 ++ []
def dkwX0_mass_2 : List UInt8 := [182, 0, 185, 42, 180, 0, 111, 180, 0, 20, 27, 50, 21, 4, 181, 0, 216, 42, 21, 4, 42, 28]
abbrev dktX0_mass_2 : List UInt8 := dkwX0_mass_2 ++ dktX0_mass_3
def dkwX0_mass_1 : List UInt8 := [42, 2, 182, 1, 8, 4, 54, 4, 21, 4, 16, 20, 163, 0, 45, 42, 180, 0, 111, 42, 180, 0, 134]
abbrev dktX0_mass_1 : List UInt8 := dkwX0_mass_1 ++ dktX0_mass_2
def dkwX0_mass_0 : List UInt8 := [42, 27, 182, 0, 212, 153, 0, 17, 28, 184, 0, 243, 153, 0, 10, 29, 184, 1, 12, 154, 0, 5, 2, 172]
abbrev dktX0_mass_0 : List UInt8 := dkwX0_mass_0 ++ dktX0_mass_1
theorem dksX0_mass_0 : cX0_mass.data.toList.drop 0 = dktX0_mass_0 := by decide +kernel
theorem dksX0_mass_1 : cX0_mass.data.toList.drop 24 = dktX0_mass_1 := dk_seg dksX0_mass_0 24 rfl rfl
theorem dksX0_mass_2 : cX0_mass.data.toList.drop 47 = dktX0_mass_2 := dk_seg dksX0_mass_1 23 rfl rfl
theorem dksX0_mass_3 : cX0_mass.data.toList.drop 69 = dktX0_mass_3 := dk_seg dksX0_mass_2 22 rfl rfl
theorem dX0_mass_0 : decode cX0_mass 0 = .ok (.aload_n 0, 1) := dk_42 (dk_at dksX0_mass_0 0 rfl rfl)
theorem dX0_mass_1 : decode cX0_mass 1 = .ok (.iload_n 1, 1) := dk_27 (dk_at dksX0_mass_0 1 rfl rfl)
theorem dX0_mass_2 : decode cX0_mass 2 = .ok (.invokevirtual 212, 3) := dk_182 0 212 (dk_at dksX0_mass_0 2 rfl rfl)
theorem dX0_mass_5 : decode cX0_mass 5 = .ok (.ifCond .eq 17, 3) := dk_153 0 17 (dk_at dksX0_mass_0 5 rfl rfl)
theorem dX0_mass_8 : decode cX0_mass 8 = .ok (.iload_n 2, 1) := dk_28 (dk_at dksX0_mass_0 8 rfl rfl)
theorem dX0_mass_9 : decode cX0_mass 9 = .ok (.invokestatic 243, 3) := dk_184 0 243 (dk_at dksX0_mass_0 9 rfl rfl)
theorem dX0_mass_12 : decode cX0_mass 12 = .ok (.ifCond .eq 10, 3) := dk_153 0 10 (dk_at dksX0_mass_0 12 rfl rfl)
theorem dX0_mass_15 : decode cX0_mass 15 = .ok (.iload_n 3, 1) := dk_29 (dk_at dksX0_mass_0 15 rfl rfl)
theorem dX0_mass_16 : decode cX0_mass 16 = .ok (.invokestatic 268, 3) := dk_184 1 12 (dk_at dksX0_mass_0 16 rfl rfl)
theorem dX0_mass_19 : decode cX0_mass 19 = .ok (.ifCond .ne 5, 3) := dk_154 0 5 (dk_at dksX0_mass_0 19 rfl rfl)
theorem dX0_mass_22 : decode cX0_mass 22 = .ok (.iconst (-1), 1) := dk_2 (dk_at dksX0_mass_0 22 rfl rfl)
theorem dX0_mass_23 : decode cX0_mass 23 = .ok (.ireturn, 1) := dk_172 (dk_at dksX0_mass_0 23 rfl rfl)
theorem dX0_mass_24 : decode cX0_mass 24 = .ok (.aload_n 0, 1) := dk_42 (dk_at dksX0_mass_1 0 rfl rfl)
theorem dX0_mass_25 : decode cX0_mass 25 = .ok (.iconst (-1), 1) := dk_2 (dk_at dksX0_mass_1 1 rfl rfl)
theorem dX0_mass_26 : decode cX0_mass 26 = .ok (.invokevirtual 264, 3) := dk_182 1 8 (dk_at dksX0_mass_1 2 rfl rfl)
theorem dX0_mass_29 : decode cX0_mass 29 = .ok (.iconst 1, 1) := dk_4 (dk_at dksX0_mass_1 5 rfl rfl)
theorem dX0_mass_30 : decode cX0_mass 30 = .ok (.istore 4, 2) := dk_54 4 (dk_at dksX0_mass_1 6 rfl rfl)
theorem dX0_mass_32 : decode cX0_mass 32 = .ok (.iload 4, 2) := dk_21 4 (dk_at dksX0_mass_1 8 rfl rfl)
theorem dX0_mass_34 : decode cX0_mass 34 = .ok (.bipush 20, 2) := dk_16 20 (dk_at dksX0_mass_1 10 rfl rfl)
theorem dX0_mass_36 : decode cX0_mass 36 = .ok (.if_icmp .gt 45, 3) := dk_163 0 45 (dk_at dksX0_mass_1 12 rfl rfl)
theorem dX0_mass_39 : decode cX0_mass 39 = .ok (.aload_n 0, 1) := dk_42 (dk_at dksX0_mass_1 15 rfl rfl)
theorem dX0_mass_40 : decode cX0_mass 40 = .ok (.getfield 111, 3) := dk_180 0 111 (dk_at dksX0_mass_1 16 rfl rfl)
theorem dX0_mass_43 : decode cX0_mass 43 = .ok (.aload_n 0, 1) := dk_42 (dk_at dksX0_mass_1 19 rfl rfl)
theorem dX0_mass_44 : decode cX0_mass 44 = .ok (.getfield 134, 3) := dk_180 0 134 (dk_at dksX0_mass_1 20 rfl rfl)
theorem dX0_mass_47 : decode cX0_mass 47 = .ok (.invokevirtual 185, 3) := dk_182 0 185 (dk_at dksX0_mass_2 0 rfl rfl)
theorem dX0_mass_50 : decode cX0_mass 50 = .ok (.aload_n 0, 1) := dk_42 (dk_at dksX0_mass_2 3 rfl rfl)
theorem dX0_mass_51 : decode cX0_mass 51 = .ok (.getfield 111, 3) := dk_180 0 111 (dk_at dksX0_mass_2 4 rfl rfl)
theorem dX0_mass_54 : decode cX0_mass 54 = .ok (.getfield 20, 3) := dk_180 0 20 (dk_at dksX0_mass_2 7 rfl rfl)
theorem dX0_mass_57 : decode cX0_mass 57 = .ok (.iload_n 1, 1) := dk_27 (dk_at dksX0_mass_2 10 rfl rfl)
theorem dX0_mass_58 : decode cX0_mass 58 = .ok (.aaload, 1) := dk_50 (dk_at dksX0_mass_2 11 rfl rfl)
theorem dX0_mass_59 : decode cX0_mass 59 = .ok (.iload 4, 2) := dk_21 4 (dk_at dksX0_mass_2 12 rfl rfl)
theorem dX0_mass_61 : decode cX0_mass 61 = .ok (.putfield 216, 3) := dk_181 0 216 (dk_at dksX0_mass_2 14 rfl rfl)
theorem dX0_mass_64 : decode cX0_mass 64 = .ok (.aload_n 0, 1) := dk_42 (dk_at dksX0_mass_2 17 rfl rfl)
theorem dX0_mass_65 : decode cX0_mass 65 = .ok (.iload 4, 2) := dk_21 4 (dk_at dksX0_mass_2 18 rfl rfl)
theorem dX0_mass_67 : decode cX0_mass 67 = .ok (.aload_n 0, 1) := dk_42 (dk_at dksX0_mass_2 20 rfl rfl)
theorem dX0_mass_68 : decode cX0_mass 68 = .ok (.iload_n 2, 1) := dk_28 (dk_at dksX0_mass_2 21 rfl rfl)
theorem dX0_mass_69 : decode cX0_mass 69 = .ok (.invokevirtual 261, 3) := dk_182 1 5 (dk_at dksX0_mass_3 0 rfl rfl)
theorem dX0_mass_72 : decode cX0_mass 72 = .ok (.invokevirtual 271, 3) := dk_182 1 15 (dk_at dksX0_mass_3 3 rfl rfl)
theorem dX0_mass_75 : decode cX0_mass 75 = .ok (.iinc 4 1, 3) := dk_132 4 1 (dk_at dksX0_mass_3 6 rfl rfl)
theorem dX0_mass_78 : decode cX0_mass 78 = .ok (.goto (-46), 3) := dk_167 255 210 (dk_at dksX0_mass_3 9 rfl rfl)
theorem dX0_mass_81 : decode cX0_mass 81 = .ok (.aload_n 0, 1) := dk_42 (dk_at dksX0_mass_3 12 rfl rfl)
theorem dX0_mass_82 : decode cX0_mass 82 = .ok (.iload_n 3, 1) := dk_29 (dk_at dksX0_mass_3 13 rfl rfl)
theorem dX0_mass_83 : decode cX0_mass 83 = .ok (.invokevirtual 275, 3) := dk_182 1 19 (dk_at dksX0_mass_3 14 rfl rfl)
theorem dX0_mass_86 : decode cX0_mass 86 = .ok (.ireturn, 1) := dk_172 (dk_at dksX0_mass_3 17 rfl rfl)
abbrev cX0_isPart : ByteArray := prog_1_method_20_code
def yX0_isPart : MethodName := ⟨RX0, "isPart", "(I)Z"⟩
def dkwX0_isPart_0 : List UInt8 := [26, 133, 9, 10, 184, 0, 164, 172]
abbrev dktX0_isPart_0 : List UInt8 := dkwX0_isPart_0 ++ []
theorem dksX0_isPart_0 : cX0_isPart.data.toList.drop 0 = dktX0_isPart_0 := by decide +kernel
theorem dX0_isPart_0 : decode cX0_isPart 0 = .ok (.iload_n 0, 1) := dk_26 (dk_at dksX0_isPart_0 0 rfl rfl)
theorem dX0_isPart_1 : decode cX0_isPart 1 = .ok (.i2l, 1) := dk_133 (dk_at dksX0_isPart_0 1 rfl rfl)
theorem dX0_isPart_2 : decode cX0_isPart 2 = .ok (.lconst 0, 1) := dk_9 (dk_at dksX0_isPart_0 2 rfl rfl)
theorem dX0_isPart_3 : decode cX0_isPart 3 = .ok (.lconst 1, 1) := dk_10 (dk_at dksX0_isPart_0 3 rfl rfl)
theorem dX0_isPart_4 : decode cX0_isPart 4 = .ok (.invokestatic 164, 3) := dk_184 0 164 (dk_at dksX0_isPart_0 4 rfl rfl)
theorem dX0_isPart_7 : decode cX0_isPart 7 = .ok (.ireturn, 1) := dk_172 (dk_at dksX0_isPart_0 7 rfl rfl)
abbrev cX0_startsJudging : ByteArray := prog_1_method_39_code
def yX0_startsJudging : MethodName := ⟨RX0, "startsJudging", "(I)V"⟩
def dkwX0_startsJudging_0 : List UInt8 := [42, 16, 252, 181, 0, 255, 42, 27, 181, 1, 2, 177]
abbrev dktX0_startsJudging_0 : List UInt8 := dkwX0_startsJudging_0 ++ []
theorem dksX0_startsJudging_0 : cX0_startsJudging.data.toList.drop 0 = dktX0_startsJudging_0 := by decide +kernel
theorem dX0_startsJudging_0 : decode cX0_startsJudging 0 = .ok (.aload_n 0, 1) := dk_42 (dk_at dksX0_startsJudging_0 0 rfl rfl)
theorem dX0_startsJudging_1 : decode cX0_startsJudging 1 = .ok (.bipush (-4), 2) := dk_16 252 (dk_at dksX0_startsJudging_0 1 rfl rfl)
theorem dX0_startsJudging_3 : decode cX0_startsJudging 3 = .ok (.putfield 255, 3) := dk_181 0 255 (dk_at dksX0_startsJudging_0 3 rfl rfl)
theorem dX0_startsJudging_6 : decode cX0_startsJudging 6 = .ok (.aload_n 0, 1) := dk_42 (dk_at dksX0_startsJudging_0 6 rfl rfl)
theorem dX0_startsJudging_7 : decode cX0_startsJudging 7 = .ok (.iload_n 1, 1) := dk_27 (dk_at dksX0_startsJudging_0 7 rfl rfl)
theorem dX0_startsJudging_8 : decode cX0_startsJudging 8 = .ok (.putfield 258, 3) := dk_181 1 2 (dk_at dksX0_startsJudging_0 8 rfl rfl)
theorem dX0_startsJudging_11 : decode cX0_startsJudging 11 = .ok (.return_, 1) := dk_177 (dk_at dksX0_startsJudging_0 11 rfl rfl)
abbrev cX0_doneByTried : ByteArray := prog_1_method_11_code
def yX0_doneByTried : MethodName := ⟨RX0, "doneByTried", "(I)I"⟩
def dkwX0_doneByTried_0 : List UInt8 := [42, 42, 180, 0, 111, 27, 182, 0, 115, 42, 180, 0, 1, 172]
abbrev dktX0_doneByTried_0 : List UInt8 := dkwX0_doneByTried_0 ++ []
theorem dksX0_doneByTried_0 : cX0_doneByTried.data.toList.drop 0 = dktX0_doneByTried_0 := by decide +kernel
theorem dX0_doneByTried_0 : decode cX0_doneByTried 0 = .ok (.aload_n 0, 1) := dk_42 (dk_at dksX0_doneByTried_0 0 rfl rfl)
theorem dX0_doneByTried_1 : decode cX0_doneByTried 1 = .ok (.aload_n 0, 1) := dk_42 (dk_at dksX0_doneByTried_0 1 rfl rfl)
theorem dX0_doneByTried_2 : decode cX0_doneByTried 2 = .ok (.getfield 111, 3) := dk_180 0 111 (dk_at dksX0_doneByTried_0 2 rfl rfl)
theorem dX0_doneByTried_5 : decode cX0_doneByTried 5 = .ok (.iload_n 1, 1) := dk_27 (dk_at dksX0_doneByTried_0 5 rfl rfl)
theorem dX0_doneByTried_6 : decode cX0_doneByTried 6 = .ok (.invokevirtual 115, 3) := dk_182 0 115 (dk_at dksX0_doneByTried_0 6 rfl rfl)
theorem dX0_doneByTried_9 : decode cX0_doneByTried 9 = .ok (.aload_n 0, 1) := dk_42 (dk_at dksX0_doneByTried_0 9 rfl rfl)
theorem dX0_doneByTried_10 : decode cX0_doneByTried 10 = .ok (.getfield 1, 3) := dk_180 0 1 (dk_at dksX0_doneByTried_0 10 rfl rfl)
theorem dX0_doneByTried_13 : decode cX0_doneByTried 13 = .ok (.ireturn, 1) := dk_172 (dk_at dksX0_doneByTried_0 13 rfl rfl)
abbrev cX0_judges : ByteArray := prog_1_method_40_code
def yX0_judges : MethodName := ⟨RX0, "judges", "(II)V"⟩
def dkwX0_judges_1 : List UInt8 := [180, 1, 2, 28, 184, 0, 87, 181, 1, 2, 177]
abbrev dktX0_judges_1 : List UInt8 := dkwX0_judges_1 ++ []
def dkwX0_judges_0 : List UInt8 := [42, 28, 42, 180, 1, 2, 164, 0, 7, 27, 167, 0, 7, 42, 180, 0, 255, 181, 0, 255, 42, 42]
abbrev dktX0_judges_0 : List UInt8 := dkwX0_judges_0 ++ dktX0_judges_1
theorem dksX0_judges_0 : cX0_judges.data.toList.drop 0 = dktX0_judges_0 := by decide +kernel
theorem dksX0_judges_1 : cX0_judges.data.toList.drop 22 = dktX0_judges_1 := dk_seg dksX0_judges_0 22 rfl rfl
theorem dX0_judges_0 : decode cX0_judges 0 = .ok (.aload_n 0, 1) := dk_42 (dk_at dksX0_judges_0 0 rfl rfl)
theorem dX0_judges_1 : decode cX0_judges 1 = .ok (.iload_n 2, 1) := dk_28 (dk_at dksX0_judges_0 1 rfl rfl)
theorem dX0_judges_2 : decode cX0_judges 2 = .ok (.aload_n 0, 1) := dk_42 (dk_at dksX0_judges_0 2 rfl rfl)
theorem dX0_judges_3 : decode cX0_judges 3 = .ok (.getfield 258, 3) := dk_180 1 2 (dk_at dksX0_judges_0 3 rfl rfl)
theorem dX0_judges_6 : decode cX0_judges 6 = .ok (.if_icmp .le 7, 3) := dk_164 0 7 (dk_at dksX0_judges_0 6 rfl rfl)
theorem dX0_judges_9 : decode cX0_judges 9 = .ok (.iload_n 1, 1) := dk_27 (dk_at dksX0_judges_0 9 rfl rfl)
theorem dX0_judges_10 : decode cX0_judges 10 = .ok (.goto 7, 3) := dk_167 0 7 (dk_at dksX0_judges_0 10 rfl rfl)
theorem dX0_judges_13 : decode cX0_judges 13 = .ok (.aload_n 0, 1) := dk_42 (dk_at dksX0_judges_0 13 rfl rfl)
theorem dX0_judges_14 : decode cX0_judges 14 = .ok (.getfield 255, 3) := dk_180 0 255 (dk_at dksX0_judges_0 14 rfl rfl)
theorem dX0_judges_17 : decode cX0_judges 17 = .ok (.putfield 255, 3) := dk_181 0 255 (dk_at dksX0_judges_0 17 rfl rfl)
theorem dX0_judges_20 : decode cX0_judges 20 = .ok (.aload_n 0, 1) := dk_42 (dk_at dksX0_judges_0 20 rfl rfl)
theorem dX0_judges_21 : decode cX0_judges 21 = .ok (.aload_n 0, 1) := dk_42 (dk_at dksX0_judges_0 21 rfl rfl)
theorem dX0_judges_22 : decode cX0_judges 22 = .ok (.getfield 258, 3) := dk_180 1 2 (dk_at dksX0_judges_1 0 rfl rfl)
theorem dX0_judges_25 : decode cX0_judges 25 = .ok (.iload_n 2, 1) := dk_28 (dk_at dksX0_judges_1 3 rfl rfl)
theorem dX0_judges_26 : decode cX0_judges 26 = .ok (.invokestatic 87, 3) := dk_184 0 87 (dk_at dksX0_judges_1 4 rfl rfl)
theorem dX0_judges_29 : decode cX0_judges 29 = .ok (.putfield 258, 3) := dk_181 1 2 (dk_at dksX0_judges_1 7 rfl rfl)
theorem dX0_judges_32 : decode cX0_judges 32 = .ok (.return_, 1) := dk_177 (dk_at dksX0_judges_1 10 rfl rfl)
abbrev cX0_judged : ByteArray := prog_1_method_41_code
def yX0_judged : MethodName := ⟨RX0, "judged", "(I)I"⟩
def dkwX0_judged_1 : List UInt8 := [167, 0, 7, 42, 180, 1, 2, 172]
abbrev dktX0_judged_1 : List UInt8 := dkwX0_judged_1 ++ []
def dkwX0_judged_0 : List UInt8 := [42, 180, 0, 255, 16, 252, 160, 0, 8, 16, 252, 167, 0, 18, 27, 154, 0, 10, 42, 180, 0, 255]
abbrev dktX0_judged_0 : List UInt8 := dkwX0_judged_0 ++ dktX0_judged_1
theorem dksX0_judged_0 : cX0_judged.data.toList.drop 0 = dktX0_judged_0 := by decide +kernel
theorem dksX0_judged_1 : cX0_judged.data.toList.drop 22 = dktX0_judged_1 := dk_seg dksX0_judged_0 22 rfl rfl
theorem dX0_judged_0 : decode cX0_judged 0 = .ok (.aload_n 0, 1) := dk_42 (dk_at dksX0_judged_0 0 rfl rfl)
theorem dX0_judged_1 : decode cX0_judged 1 = .ok (.getfield 255, 3) := dk_180 0 255 (dk_at dksX0_judged_0 1 rfl rfl)
theorem dX0_judged_4 : decode cX0_judged 4 = .ok (.bipush (-4), 2) := dk_16 252 (dk_at dksX0_judged_0 4 rfl rfl)
theorem dX0_judged_6 : decode cX0_judged 6 = .ok (.if_icmp .ne 8, 3) := dk_160 0 8 (dk_at dksX0_judged_0 6 rfl rfl)
theorem dX0_judged_9 : decode cX0_judged 9 = .ok (.bipush (-4), 2) := dk_16 252 (dk_at dksX0_judged_0 9 rfl rfl)
theorem dX0_judged_11 : decode cX0_judged 11 = .ok (.goto 18, 3) := dk_167 0 18 (dk_at dksX0_judged_0 11 rfl rfl)
theorem dX0_judged_14 : decode cX0_judged 14 = .ok (.iload_n 1, 1) := dk_27 (dk_at dksX0_judged_0 14 rfl rfl)
theorem dX0_judged_15 : decode cX0_judged 15 = .ok (.ifCond .ne 10, 3) := dk_154 0 10 (dk_at dksX0_judged_0 15 rfl rfl)
theorem dX0_judged_18 : decode cX0_judged 18 = .ok (.aload_n 0, 1) := dk_42 (dk_at dksX0_judged_0 18 rfl rfl)
theorem dX0_judged_19 : decode cX0_judged 19 = .ok (.getfield 255, 3) := dk_180 0 255 (dk_at dksX0_judged_0 19 rfl rfl)
theorem dX0_judged_22 : decode cX0_judged 22 = .ok (.goto 7, 3) := dk_167 0 7 (dk_at dksX0_judged_1 0 rfl rfl)
theorem dX0_judged_25 : decode cX0_judged 25 = .ok (.aload_n 0, 1) := dk_42 (dk_at dksX0_judged_1 3 rfl rfl)
theorem dX0_judged_26 : decode cX0_judged 26 = .ok (.getfield 258, 3) := dk_180 1 2 (dk_at dksX0_judged_1 4 rfl rfl)
theorem dX0_judged_29 : decode cX0_judged 29 = .ok (.ireturn, 1) := dk_172 (dk_at dksX0_judged_1 7 rfl rfl)
abbrev cX0_kind : ByteArray := prog_1_method_44_code
def yX0_kind : MethodName := ⟨RX0, "kind", "(III)I"⟩
def dkwX0_kind_3 : List UInt8 := [182, 1, 5, 182, 1, 15, 132, 4, 1, 167, 255, 211, 42, 29, 182, 1, 19, 172]
abbrev dktX0_kind_3 : List UInt8 := dkwX0_kind_3 ++ []
def dkwX0_kind_2 : List UInt8 := [182, 0, 185, 42, 180, 0, 111, 180, 0, 20, 27, 50, 21, 4, 181, 0, 26, 42, 21, 4, 42, 28]
abbrev dktX0_kind_2 : List UInt8 := dkwX0_kind_2 ++ dktX0_kind_3
def dkwX0_kind_1 : List UInt8 := [42, 2, 182, 1, 8, 3, 54, 4, 21, 4, 7, 162, 0, 45, 42, 180, 0, 111, 42, 180, 0, 134]
abbrev dktX0_kind_1 : List UInt8 := dkwX0_kind_1 ++ dktX0_kind_2
def dkwX0_kind_0 : List UInt8 := [42, 27, 182, 0, 212, 153, 0, 17, 28, 184, 0, 243, 153, 0, 10, 29, 184, 1, 12, 154, 0, 5, 2, 172]
abbrev dktX0_kind_0 : List UInt8 := dkwX0_kind_0 ++ dktX0_kind_1
theorem dksX0_kind_0 : cX0_kind.data.toList.drop 0 = dktX0_kind_0 := by decide +kernel
theorem dksX0_kind_1 : cX0_kind.data.toList.drop 24 = dktX0_kind_1 := dk_seg dksX0_kind_0 24 rfl rfl
theorem dksX0_kind_2 : cX0_kind.data.toList.drop 46 = dktX0_kind_2 := dk_seg dksX0_kind_1 22 rfl rfl
theorem dksX0_kind_3 : cX0_kind.data.toList.drop 68 = dktX0_kind_3 := dk_seg dksX0_kind_2 22 rfl rfl
theorem dX0_kind_0 : decode cX0_kind 0 = .ok (.aload_n 0, 1) := dk_42 (dk_at dksX0_kind_0 0 rfl rfl)
theorem dX0_kind_1 : decode cX0_kind 1 = .ok (.iload_n 1, 1) := dk_27 (dk_at dksX0_kind_0 1 rfl rfl)
theorem dX0_kind_2 : decode cX0_kind 2 = .ok (.invokevirtual 212, 3) := dk_182 0 212 (dk_at dksX0_kind_0 2 rfl rfl)
theorem dX0_kind_5 : decode cX0_kind 5 = .ok (.ifCond .eq 17, 3) := dk_153 0 17 (dk_at dksX0_kind_0 5 rfl rfl)
theorem dX0_kind_8 : decode cX0_kind 8 = .ok (.iload_n 2, 1) := dk_28 (dk_at dksX0_kind_0 8 rfl rfl)
theorem dX0_kind_9 : decode cX0_kind 9 = .ok (.invokestatic 243, 3) := dk_184 0 243 (dk_at dksX0_kind_0 9 rfl rfl)
theorem dX0_kind_12 : decode cX0_kind 12 = .ok (.ifCond .eq 10, 3) := dk_153 0 10 (dk_at dksX0_kind_0 12 rfl rfl)
theorem dX0_kind_15 : decode cX0_kind 15 = .ok (.iload_n 3, 1) := dk_29 (dk_at dksX0_kind_0 15 rfl rfl)
theorem dX0_kind_16 : decode cX0_kind 16 = .ok (.invokestatic 268, 3) := dk_184 1 12 (dk_at dksX0_kind_0 16 rfl rfl)
theorem dX0_kind_19 : decode cX0_kind 19 = .ok (.ifCond .ne 5, 3) := dk_154 0 5 (dk_at dksX0_kind_0 19 rfl rfl)
theorem dX0_kind_22 : decode cX0_kind 22 = .ok (.iconst (-1), 1) := dk_2 (dk_at dksX0_kind_0 22 rfl rfl)
theorem dX0_kind_23 : decode cX0_kind 23 = .ok (.ireturn, 1) := dk_172 (dk_at dksX0_kind_0 23 rfl rfl)
theorem dX0_kind_24 : decode cX0_kind 24 = .ok (.aload_n 0, 1) := dk_42 (dk_at dksX0_kind_1 0 rfl rfl)
theorem dX0_kind_25 : decode cX0_kind 25 = .ok (.iconst (-1), 1) := dk_2 (dk_at dksX0_kind_1 1 rfl rfl)
theorem dX0_kind_26 : decode cX0_kind 26 = .ok (.invokevirtual 264, 3) := dk_182 1 8 (dk_at dksX0_kind_1 2 rfl rfl)
theorem dX0_kind_29 : decode cX0_kind 29 = .ok (.iconst 0, 1) := dk_3 (dk_at dksX0_kind_1 5 rfl rfl)
theorem dX0_kind_30 : decode cX0_kind 30 = .ok (.istore 4, 2) := dk_54 4 (dk_at dksX0_kind_1 6 rfl rfl)
theorem dX0_kind_32 : decode cX0_kind 32 = .ok (.iload 4, 2) := dk_21 4 (dk_at dksX0_kind_1 8 rfl rfl)
theorem dX0_kind_34 : decode cX0_kind 34 = .ok (.iconst 4, 1) := dk_7 (dk_at dksX0_kind_1 10 rfl rfl)
theorem dX0_kind_35 : decode cX0_kind 35 = .ok (.if_icmp .ge 45, 3) := dk_162 0 45 (dk_at dksX0_kind_1 11 rfl rfl)
theorem dX0_kind_38 : decode cX0_kind 38 = .ok (.aload_n 0, 1) := dk_42 (dk_at dksX0_kind_1 14 rfl rfl)
theorem dX0_kind_39 : decode cX0_kind 39 = .ok (.getfield 111, 3) := dk_180 0 111 (dk_at dksX0_kind_1 15 rfl rfl)
theorem dX0_kind_42 : decode cX0_kind 42 = .ok (.aload_n 0, 1) := dk_42 (dk_at dksX0_kind_1 18 rfl rfl)
theorem dX0_kind_43 : decode cX0_kind 43 = .ok (.getfield 134, 3) := dk_180 0 134 (dk_at dksX0_kind_1 19 rfl rfl)
theorem dX0_kind_46 : decode cX0_kind 46 = .ok (.invokevirtual 185, 3) := dk_182 0 185 (dk_at dksX0_kind_2 0 rfl rfl)
theorem dX0_kind_49 : decode cX0_kind 49 = .ok (.aload_n 0, 1) := dk_42 (dk_at dksX0_kind_2 3 rfl rfl)
theorem dX0_kind_50 : decode cX0_kind 50 = .ok (.getfield 111, 3) := dk_180 0 111 (dk_at dksX0_kind_2 4 rfl rfl)
theorem dX0_kind_53 : decode cX0_kind 53 = .ok (.getfield 20, 3) := dk_180 0 20 (dk_at dksX0_kind_2 7 rfl rfl)
theorem dX0_kind_56 : decode cX0_kind 56 = .ok (.iload_n 1, 1) := dk_27 (dk_at dksX0_kind_2 10 rfl rfl)
theorem dX0_kind_57 : decode cX0_kind 57 = .ok (.aaload, 1) := dk_50 (dk_at dksX0_kind_2 11 rfl rfl)
theorem dX0_kind_58 : decode cX0_kind 58 = .ok (.iload 4, 2) := dk_21 4 (dk_at dksX0_kind_2 12 rfl rfl)
theorem dX0_kind_60 : decode cX0_kind 60 = .ok (.putfield 26, 3) := dk_181 0 26 (dk_at dksX0_kind_2 14 rfl rfl)
theorem dX0_kind_63 : decode cX0_kind 63 = .ok (.aload_n 0, 1) := dk_42 (dk_at dksX0_kind_2 17 rfl rfl)
theorem dX0_kind_64 : decode cX0_kind 64 = .ok (.iload 4, 2) := dk_21 4 (dk_at dksX0_kind_2 18 rfl rfl)
theorem dX0_kind_66 : decode cX0_kind 66 = .ok (.aload_n 0, 1) := dk_42 (dk_at dksX0_kind_2 20 rfl rfl)
theorem dX0_kind_67 : decode cX0_kind 67 = .ok (.iload_n 2, 1) := dk_28 (dk_at dksX0_kind_2 21 rfl rfl)
theorem dX0_kind_68 : decode cX0_kind 68 = .ok (.invokevirtual 261, 3) := dk_182 1 5 (dk_at dksX0_kind_3 0 rfl rfl)
theorem dX0_kind_71 : decode cX0_kind 71 = .ok (.invokevirtual 271, 3) := dk_182 1 15 (dk_at dksX0_kind_3 3 rfl rfl)
theorem dX0_kind_74 : decode cX0_kind 74 = .ok (.iinc 4 1, 3) := dk_132 4 1 (dk_at dksX0_kind_3 6 rfl rfl)
theorem dX0_kind_77 : decode cX0_kind 77 = .ok (.goto (-45), 3) := dk_167 255 211 (dk_at dksX0_kind_3 9 rfl rfl)
theorem dX0_kind_80 : decode cX0_kind 80 = .ok (.aload_n 0, 1) := dk_42 (dk_at dksX0_kind_3 12 rfl rfl)
theorem dX0_kind_81 : decode cX0_kind 81 = .ok (.iload_n 3, 1) := dk_29 (dk_at dksX0_kind_3 13 rfl rfl)
theorem dX0_kind_82 : decode cX0_kind 82 = .ok (.invokevirtual 275, 3) := dk_182 1 19 (dk_at dksX0_kind_3 14 rfl rfl)
theorem dX0_kind_85 : decode cX0_kind 85 = .ok (.ireturn, 1) := dk_172 (dk_at dksX0_kind_3 17 rfl rfl)
abbrev cX0_bears : ByteArray := prog_1_method_45_code
def yX0_bears : MethodName := ⟨RX0, "bears", "(II)I"⟩
def dkwX0_bears_3 : List UInt8 := [16, 252, 172]
abbrev dktX0_bears_3 : List UInt8 := dkwX0_bears_3 ++ []
def dkwX0_bears_2 : List UInt8 := [42, 42, 180, 0, 111, 28, 182, 0, 115, 42, 180, 0, 7, 154, 0, 5, 29, 172, 132, 3, 255, 167, 255, 207]
abbrev dktX0_bears_2 : List UInt8 := dkwX0_bears_2 ++ dktX0_bears_3
def dkwX0_bears_1 : List UInt8 := [42, 180, 0, 111, 42, 180, 0, 134, 182, 0, 185, 42, 180, 0, 111, 180, 0, 20, 27, 50, 29, 181, 0, 77]
abbrev dktX0_bears_1 : List UInt8 := dkwX0_bears_1 ++ dktX0_bears_2
def dkwX0_bears_0 : List UInt8 := [42, 27, 182, 0, 212, 153, 0, 10, 28, 184, 0, 243, 154, 0, 5, 2, 172, 16, 9, 62, 29, 155, 0, 51]
abbrev dktX0_bears_0 : List UInt8 := dkwX0_bears_0 ++ dktX0_bears_1
theorem dksX0_bears_0 : cX0_bears.data.toList.drop 0 = dktX0_bears_0 := by decide +kernel
theorem dksX0_bears_1 : cX0_bears.data.toList.drop 24 = dktX0_bears_1 := dk_seg dksX0_bears_0 24 rfl rfl
theorem dksX0_bears_2 : cX0_bears.data.toList.drop 48 = dktX0_bears_2 := dk_seg dksX0_bears_1 24 rfl rfl
theorem dksX0_bears_3 : cX0_bears.data.toList.drop 72 = dktX0_bears_3 := dk_seg dksX0_bears_2 24 rfl rfl
theorem dX0_bears_0 : decode cX0_bears 0 = .ok (.aload_n 0, 1) := dk_42 (dk_at dksX0_bears_0 0 rfl rfl)
theorem dX0_bears_1 : decode cX0_bears 1 = .ok (.iload_n 1, 1) := dk_27 (dk_at dksX0_bears_0 1 rfl rfl)
theorem dX0_bears_2 : decode cX0_bears 2 = .ok (.invokevirtual 212, 3) := dk_182 0 212 (dk_at dksX0_bears_0 2 rfl rfl)
theorem dX0_bears_5 : decode cX0_bears 5 = .ok (.ifCond .eq 10, 3) := dk_153 0 10 (dk_at dksX0_bears_0 5 rfl rfl)
theorem dX0_bears_8 : decode cX0_bears 8 = .ok (.iload_n 2, 1) := dk_28 (dk_at dksX0_bears_0 8 rfl rfl)
theorem dX0_bears_9 : decode cX0_bears 9 = .ok (.invokestatic 243, 3) := dk_184 0 243 (dk_at dksX0_bears_0 9 rfl rfl)
theorem dX0_bears_12 : decode cX0_bears 12 = .ok (.ifCond .ne 5, 3) := dk_154 0 5 (dk_at dksX0_bears_0 12 rfl rfl)
theorem dX0_bears_15 : decode cX0_bears 15 = .ok (.iconst (-1), 1) := dk_2 (dk_at dksX0_bears_0 15 rfl rfl)
theorem dX0_bears_16 : decode cX0_bears 16 = .ok (.ireturn, 1) := dk_172 (dk_at dksX0_bears_0 16 rfl rfl)
theorem dX0_bears_17 : decode cX0_bears 17 = .ok (.bipush 9, 2) := dk_16 9 (dk_at dksX0_bears_0 17 rfl rfl)
theorem dX0_bears_19 : decode cX0_bears 19 = .ok (.istore_n 3, 1) := dk_62 (dk_at dksX0_bears_0 19 rfl rfl)
theorem dX0_bears_20 : decode cX0_bears 20 = .ok (.iload_n 3, 1) := dk_29 (dk_at dksX0_bears_0 20 rfl rfl)
theorem dX0_bears_21 : decode cX0_bears 21 = .ok (.ifCond .lt 51, 3) := dk_155 0 51 (dk_at dksX0_bears_0 21 rfl rfl)
theorem dX0_bears_24 : decode cX0_bears 24 = .ok (.aload_n 0, 1) := dk_42 (dk_at dksX0_bears_1 0 rfl rfl)
theorem dX0_bears_25 : decode cX0_bears 25 = .ok (.getfield 111, 3) := dk_180 0 111 (dk_at dksX0_bears_1 1 rfl rfl)
theorem dX0_bears_28 : decode cX0_bears 28 = .ok (.aload_n 0, 1) := dk_42 (dk_at dksX0_bears_1 4 rfl rfl)
theorem dX0_bears_29 : decode cX0_bears 29 = .ok (.getfield 134, 3) := dk_180 0 134 (dk_at dksX0_bears_1 5 rfl rfl)
theorem dX0_bears_32 : decode cX0_bears 32 = .ok (.invokevirtual 185, 3) := dk_182 0 185 (dk_at dksX0_bears_1 8 rfl rfl)
theorem dX0_bears_35 : decode cX0_bears 35 = .ok (.aload_n 0, 1) := dk_42 (dk_at dksX0_bears_1 11 rfl rfl)
theorem dX0_bears_36 : decode cX0_bears 36 = .ok (.getfield 111, 3) := dk_180 0 111 (dk_at dksX0_bears_1 12 rfl rfl)
theorem dX0_bears_39 : decode cX0_bears 39 = .ok (.getfield 20, 3) := dk_180 0 20 (dk_at dksX0_bears_1 15 rfl rfl)
theorem dX0_bears_42 : decode cX0_bears 42 = .ok (.iload_n 1, 1) := dk_27 (dk_at dksX0_bears_1 18 rfl rfl)
theorem dX0_bears_43 : decode cX0_bears 43 = .ok (.aaload, 1) := dk_50 (dk_at dksX0_bears_1 19 rfl rfl)
theorem dX0_bears_44 : decode cX0_bears 44 = .ok (.iload_n 3, 1) := dk_29 (dk_at dksX0_bears_1 20 rfl rfl)
theorem dX0_bears_45 : decode cX0_bears 45 = .ok (.putfield 77, 3) := dk_181 0 77 (dk_at dksX0_bears_1 21 rfl rfl)
theorem dX0_bears_48 : decode cX0_bears 48 = .ok (.aload_n 0, 1) := dk_42 (dk_at dksX0_bears_2 0 rfl rfl)
theorem dX0_bears_49 : decode cX0_bears 49 = .ok (.aload_n 0, 1) := dk_42 (dk_at dksX0_bears_2 1 rfl rfl)
theorem dX0_bears_50 : decode cX0_bears 50 = .ok (.getfield 111, 3) := dk_180 0 111 (dk_at dksX0_bears_2 2 rfl rfl)
theorem dX0_bears_53 : decode cX0_bears 53 = .ok (.iload_n 2, 1) := dk_28 (dk_at dksX0_bears_2 5 rfl rfl)
theorem dX0_bears_54 : decode cX0_bears 54 = .ok (.invokevirtual 115, 3) := dk_182 0 115 (dk_at dksX0_bears_2 6 rfl rfl)
theorem dX0_bears_57 : decode cX0_bears 57 = .ok (.aload_n 0, 1) := dk_42 (dk_at dksX0_bears_2 9 rfl rfl)
theorem dX0_bears_58 : decode cX0_bears 58 = .ok (.getfield 7, 3) := dk_180 0 7 (dk_at dksX0_bears_2 10 rfl rfl)
theorem dX0_bears_61 : decode cX0_bears 61 = .ok (.ifCond .ne 5, 3) := dk_154 0 5 (dk_at dksX0_bears_2 13 rfl rfl)
theorem dX0_bears_64 : decode cX0_bears 64 = .ok (.iload_n 3, 1) := dk_29 (dk_at dksX0_bears_2 16 rfl rfl)
theorem dX0_bears_65 : decode cX0_bears 65 = .ok (.ireturn, 1) := dk_172 (dk_at dksX0_bears_2 17 rfl rfl)
theorem dX0_bears_66 : decode cX0_bears 66 = .ok (.iinc 3 (-1), 3) := dk_132 3 255 (dk_at dksX0_bears_2 18 rfl rfl)
theorem dX0_bears_69 : decode cX0_bears 69 = .ok (.goto (-49), 3) := dk_167 255 207 (dk_at dksX0_bears_2 21 rfl rfl)
theorem dX0_bears_72 : decode cX0_bears 72 = .ok (.bipush (-4), 2) := dk_16 252 (dk_at dksX0_bears_3 0 rfl rfl)
theorem dX0_bears_74 : decode cX0_bears 74 = .ok (.ireturn, 1) := dk_172 (dk_at dksX0_bears_3 2 rfl rfl)
abbrev cX0_swap : ByteArray := prog_1_method_46_code
def yX0_swap : MethodName := ⟨RX0, "swap", "(II)I"⟩
def dkwX0_swap_5 : List UInt8 := [132, 4, 1, 167, 255, 176, 132, 3, 1, 167, 255, 154, 42, 28, 182, 1, 19, 172]
abbrev dktX0_swap_5 : List UInt8 := dkwX0_swap_5 ++ []
def dkwX0_swap_4 : List UInt8 := [180, 0, 96, 29, 53, 86, 42, 16, 100, 29, 104, 21, 4, 96, 42, 27, 182, 1, 5, 182, 1, 15]
abbrev dktX0_swap_4 : List UInt8 := dkwX0_swap_4 ++ dktX0_swap_5
def dkwX0_swap_3 : List UInt8 := [180, 0, 134, 180, 0, 96, 21, 4, 53, 86, 42, 180, 0, 111, 180, 0, 96, 21, 4, 42, 180, 0, 134]
abbrev dktX0_swap_3 : List UInt8 := dkwX0_swap_3 ++ dktX0_swap_4
def dkwX0_swap_2 : List UInt8 := [162, 0, 74, 42, 180, 0, 111, 42, 180, 0, 134, 182, 0, 185, 42, 180, 0, 111, 180, 0, 96, 29, 42]
abbrev dktX0_swap_2 : List UInt8 := dkwX0_swap_2 ++ dktX0_swap_3
def dkwX0_swap_1 : List UInt8 := [42, 180, 0, 134, 180, 0, 203, 162, 0, 97, 29, 4, 96, 54, 4, 21, 4, 42, 180, 0, 134, 180, 0, 203]
abbrev dktX0_swap_1 : List UInt8 := dkwX0_swap_1 ++ dktX0_swap_2
def dkwX0_swap_0 : List UInt8 := [27, 184, 0, 243, 153, 0, 10, 28, 184, 1, 12, 154, 0, 5, 2, 172, 42, 27, 182, 1, 22, 3, 62, 29]
abbrev dktX0_swap_0 : List UInt8 := dkwX0_swap_0 ++ dktX0_swap_1
theorem dksX0_swap_0 : cX0_swap.data.toList.drop 0 = dktX0_swap_0 := by decide +kernel
theorem dksX0_swap_1 : cX0_swap.data.toList.drop 24 = dktX0_swap_1 := dk_seg dksX0_swap_0 24 rfl rfl
theorem dksX0_swap_2 : cX0_swap.data.toList.drop 48 = dktX0_swap_2 := dk_seg dksX0_swap_1 24 rfl rfl
theorem dksX0_swap_3 : cX0_swap.data.toList.drop 71 = dktX0_swap_3 := dk_seg dksX0_swap_2 23 rfl rfl
theorem dksX0_swap_4 : cX0_swap.data.toList.drop 94 = dktX0_swap_4 := dk_seg dksX0_swap_3 23 rfl rfl
theorem dksX0_swap_5 : cX0_swap.data.toList.drop 116 = dktX0_swap_5 := dk_seg dksX0_swap_4 22 rfl rfl
theorem dX0_swap_0 : decode cX0_swap 0 = .ok (.iload_n 1, 1) := dk_27 (dk_at dksX0_swap_0 0 rfl rfl)
theorem dX0_swap_1 : decode cX0_swap 1 = .ok (.invokestatic 243, 3) := dk_184 0 243 (dk_at dksX0_swap_0 1 rfl rfl)
theorem dX0_swap_4 : decode cX0_swap 4 = .ok (.ifCond .eq 10, 3) := dk_153 0 10 (dk_at dksX0_swap_0 4 rfl rfl)
theorem dX0_swap_7 : decode cX0_swap 7 = .ok (.iload_n 2, 1) := dk_28 (dk_at dksX0_swap_0 7 rfl rfl)
theorem dX0_swap_8 : decode cX0_swap 8 = .ok (.invokestatic 268, 3) := dk_184 1 12 (dk_at dksX0_swap_0 8 rfl rfl)
theorem dX0_swap_11 : decode cX0_swap 11 = .ok (.ifCond .ne 5, 3) := dk_154 0 5 (dk_at dksX0_swap_0 11 rfl rfl)
theorem dX0_swap_14 : decode cX0_swap 14 = .ok (.iconst (-1), 1) := dk_2 (dk_at dksX0_swap_0 14 rfl rfl)
theorem dX0_swap_15 : decode cX0_swap 15 = .ok (.ireturn, 1) := dk_172 (dk_at dksX0_swap_0 15 rfl rfl)
theorem dX0_swap_16 : decode cX0_swap 16 = .ok (.aload_n 0, 1) := dk_42 (dk_at dksX0_swap_0 16 rfl rfl)
theorem dX0_swap_17 : decode cX0_swap 17 = .ok (.iload_n 1, 1) := dk_27 (dk_at dksX0_swap_0 17 rfl rfl)
theorem dX0_swap_18 : decode cX0_swap 18 = .ok (.invokevirtual 278, 3) := dk_182 1 22 (dk_at dksX0_swap_0 18 rfl rfl)
theorem dX0_swap_21 : decode cX0_swap 21 = .ok (.iconst 0, 1) := dk_3 (dk_at dksX0_swap_0 21 rfl rfl)
theorem dX0_swap_22 : decode cX0_swap 22 = .ok (.istore_n 3, 1) := dk_62 (dk_at dksX0_swap_0 22 rfl rfl)
theorem dX0_swap_23 : decode cX0_swap 23 = .ok (.iload_n 3, 1) := dk_29 (dk_at dksX0_swap_0 23 rfl rfl)
theorem dX0_swap_24 : decode cX0_swap 24 = .ok (.aload_n 0, 1) := dk_42 (dk_at dksX0_swap_1 0 rfl rfl)
theorem dX0_swap_25 : decode cX0_swap 25 = .ok (.getfield 134, 3) := dk_180 0 134 (dk_at dksX0_swap_1 1 rfl rfl)
theorem dX0_swap_28 : decode cX0_swap 28 = .ok (.getfield 203, 3) := dk_180 0 203 (dk_at dksX0_swap_1 4 rfl rfl)
theorem dX0_swap_31 : decode cX0_swap 31 = .ok (.if_icmp .ge 97, 3) := dk_162 0 97 (dk_at dksX0_swap_1 7 rfl rfl)
theorem dX0_swap_34 : decode cX0_swap 34 = .ok (.iload_n 3, 1) := dk_29 (dk_at dksX0_swap_1 10 rfl rfl)
theorem dX0_swap_35 : decode cX0_swap 35 = .ok (.iconst 1, 1) := dk_4 (dk_at dksX0_swap_1 11 rfl rfl)
theorem dX0_swap_36 : decode cX0_swap 36 = .ok (.iadd, 1) := dk_96 (dk_at dksX0_swap_1 12 rfl rfl)
theorem dX0_swap_37 : decode cX0_swap 37 = .ok (.istore 4, 2) := dk_54 4 (dk_at dksX0_swap_1 13 rfl rfl)
theorem dX0_swap_39 : decode cX0_swap 39 = .ok (.iload 4, 2) := dk_21 4 (dk_at dksX0_swap_1 15 rfl rfl)
theorem dX0_swap_41 : decode cX0_swap 41 = .ok (.aload_n 0, 1) := dk_42 (dk_at dksX0_swap_1 17 rfl rfl)
theorem dX0_swap_42 : decode cX0_swap 42 = .ok (.getfield 134, 3) := dk_180 0 134 (dk_at dksX0_swap_1 18 rfl rfl)
theorem dX0_swap_45 : decode cX0_swap 45 = .ok (.getfield 203, 3) := dk_180 0 203 (dk_at dksX0_swap_1 21 rfl rfl)
theorem dX0_swap_48 : decode cX0_swap 48 = .ok (.if_icmp .ge 74, 3) := dk_162 0 74 (dk_at dksX0_swap_2 0 rfl rfl)
theorem dX0_swap_51 : decode cX0_swap 51 = .ok (.aload_n 0, 1) := dk_42 (dk_at dksX0_swap_2 3 rfl rfl)
theorem dX0_swap_52 : decode cX0_swap 52 = .ok (.getfield 111, 3) := dk_180 0 111 (dk_at dksX0_swap_2 4 rfl rfl)
theorem dX0_swap_55 : decode cX0_swap 55 = .ok (.aload_n 0, 1) := dk_42 (dk_at dksX0_swap_2 7 rfl rfl)
theorem dX0_swap_56 : decode cX0_swap 56 = .ok (.getfield 134, 3) := dk_180 0 134 (dk_at dksX0_swap_2 8 rfl rfl)
theorem dX0_swap_59 : decode cX0_swap 59 = .ok (.invokevirtual 185, 3) := dk_182 0 185 (dk_at dksX0_swap_2 11 rfl rfl)
theorem dX0_swap_62 : decode cX0_swap 62 = .ok (.aload_n 0, 1) := dk_42 (dk_at dksX0_swap_2 14 rfl rfl)
theorem dX0_swap_63 : decode cX0_swap 63 = .ok (.getfield 111, 3) := dk_180 0 111 (dk_at dksX0_swap_2 15 rfl rfl)
theorem dX0_swap_66 : decode cX0_swap 66 = .ok (.getfield 96, 3) := dk_180 0 96 (dk_at dksX0_swap_2 18 rfl rfl)
theorem dX0_swap_69 : decode cX0_swap 69 = .ok (.iload_n 3, 1) := dk_29 (dk_at dksX0_swap_2 21 rfl rfl)
theorem dX0_swap_70 : decode cX0_swap 70 = .ok (.aload_n 0, 1) := dk_42 (dk_at dksX0_swap_2 22 rfl rfl)
theorem dX0_swap_71 : decode cX0_swap 71 = .ok (.getfield 134, 3) := dk_180 0 134 (dk_at dksX0_swap_3 0 rfl rfl)
theorem dX0_swap_74 : decode cX0_swap 74 = .ok (.getfield 96, 3) := dk_180 0 96 (dk_at dksX0_swap_3 3 rfl rfl)
theorem dX0_swap_77 : decode cX0_swap 77 = .ok (.iload 4, 2) := dk_21 4 (dk_at dksX0_swap_3 6 rfl rfl)
theorem dX0_swap_79 : decode cX0_swap 79 = .ok (.saload, 1) := dk_53 (dk_at dksX0_swap_3 8 rfl rfl)
theorem dX0_swap_80 : decode cX0_swap 80 = .ok (.sastore, 1) := dk_86 (dk_at dksX0_swap_3 9 rfl rfl)
theorem dX0_swap_81 : decode cX0_swap 81 = .ok (.aload_n 0, 1) := dk_42 (dk_at dksX0_swap_3 10 rfl rfl)
theorem dX0_swap_82 : decode cX0_swap 82 = .ok (.getfield 111, 3) := dk_180 0 111 (dk_at dksX0_swap_3 11 rfl rfl)
theorem dX0_swap_85 : decode cX0_swap 85 = .ok (.getfield 96, 3) := dk_180 0 96 (dk_at dksX0_swap_3 14 rfl rfl)
theorem dX0_swap_88 : decode cX0_swap 88 = .ok (.iload 4, 2) := dk_21 4 (dk_at dksX0_swap_3 17 rfl rfl)
theorem dX0_swap_90 : decode cX0_swap 90 = .ok (.aload_n 0, 1) := dk_42 (dk_at dksX0_swap_3 19 rfl rfl)
theorem dX0_swap_91 : decode cX0_swap 91 = .ok (.getfield 134, 3) := dk_180 0 134 (dk_at dksX0_swap_3 20 rfl rfl)
theorem dX0_swap_94 : decode cX0_swap 94 = .ok (.getfield 96, 3) := dk_180 0 96 (dk_at dksX0_swap_4 0 rfl rfl)
theorem dX0_swap_97 : decode cX0_swap 97 = .ok (.iload_n 3, 1) := dk_29 (dk_at dksX0_swap_4 3 rfl rfl)
theorem dX0_swap_98 : decode cX0_swap 98 = .ok (.saload, 1) := dk_53 (dk_at dksX0_swap_4 4 rfl rfl)
theorem dX0_swap_99 : decode cX0_swap 99 = .ok (.sastore, 1) := dk_86 (dk_at dksX0_swap_4 5 rfl rfl)
theorem dX0_swap_100 : decode cX0_swap 100 = .ok (.aload_n 0, 1) := dk_42 (dk_at dksX0_swap_4 6 rfl rfl)
theorem dX0_swap_101 : decode cX0_swap 101 = .ok (.bipush 100, 2) := dk_16 100 (dk_at dksX0_swap_4 7 rfl rfl)
theorem dX0_swap_103 : decode cX0_swap 103 = .ok (.iload_n 3, 1) := dk_29 (dk_at dksX0_swap_4 9 rfl rfl)
theorem dX0_swap_104 : decode cX0_swap 104 = .ok (.imul, 1) := dk_104 (dk_at dksX0_swap_4 10 rfl rfl)
theorem dX0_swap_105 : decode cX0_swap 105 = .ok (.iload 4, 2) := dk_21 4 (dk_at dksX0_swap_4 11 rfl rfl)
theorem dX0_swap_107 : decode cX0_swap 107 = .ok (.iadd, 1) := dk_96 (dk_at dksX0_swap_4 13 rfl rfl)
theorem dX0_swap_108 : decode cX0_swap 108 = .ok (.aload_n 0, 1) := dk_42 (dk_at dksX0_swap_4 14 rfl rfl)
theorem dX0_swap_109 : decode cX0_swap 109 = .ok (.iload_n 1, 1) := dk_27 (dk_at dksX0_swap_4 15 rfl rfl)
theorem dX0_swap_110 : decode cX0_swap 110 = .ok (.invokevirtual 261, 3) := dk_182 1 5 (dk_at dksX0_swap_4 16 rfl rfl)
theorem dX0_swap_113 : decode cX0_swap 113 = .ok (.invokevirtual 271, 3) := dk_182 1 15 (dk_at dksX0_swap_4 19 rfl rfl)
theorem dX0_swap_116 : decode cX0_swap 116 = .ok (.iinc 4 1, 3) := dk_132 4 1 (dk_at dksX0_swap_5 0 rfl rfl)
theorem dX0_swap_119 : decode cX0_swap 119 = .ok (.goto (-80), 3) := dk_167 255 176 (dk_at dksX0_swap_5 3 rfl rfl)
theorem dX0_swap_122 : decode cX0_swap 122 = .ok (.iinc 3 1, 3) := dk_132 3 1 (dk_at dksX0_swap_5 6 rfl rfl)
theorem dX0_swap_125 : decode cX0_swap 125 = .ok (.goto (-102), 3) := dk_167 255 154 (dk_at dksX0_swap_5 9 rfl rfl)
theorem dX0_swap_128 : decode cX0_swap 128 = .ok (.aload_n 0, 1) := dk_42 (dk_at dksX0_swap_5 12 rfl rfl)
theorem dX0_swap_129 : decode cX0_swap 129 = .ok (.iload_n 2, 1) := dk_28 (dk_at dksX0_swap_5 13 rfl rfl)
theorem dX0_swap_130 : decode cX0_swap 130 = .ok (.invokevirtual 275, 3) := dk_182 1 19 (dk_at dksX0_swap_5 14 rfl rfl)
theorem dX0_swap_133 : decode cX0_swap 133 = .ok (.ireturn, 1) := dk_172 (dk_at dksX0_swap_5 17 rfl rfl)
abbrev cX0_startsByNow : ByteArray := prog_1_method_42_code
def yX0_startsByNow : MethodName := ⟨RX0, "startsByNow", "(I)V"⟩
def dkwX0_startsByNow_0 : List UInt8 := [42, 180, 0, 111, 42, 180, 0, 134, 182, 0, 185, 42, 42, 27, 182, 1, 5, 182, 1, 8, 177]
abbrev dktX0_startsByNow_0 : List UInt8 := dkwX0_startsByNow_0 ++ []
theorem dksX0_startsByNow_0 : cX0_startsByNow.data.toList.drop 0 = dktX0_startsByNow_0 := by decide +kernel
theorem dX0_startsByNow_0 : decode cX0_startsByNow 0 = .ok (.aload_n 0, 1) := dk_42 (dk_at dksX0_startsByNow_0 0 rfl rfl)
theorem dX0_startsByNow_1 : decode cX0_startsByNow 1 = .ok (.getfield 111, 3) := dk_180 0 111 (dk_at dksX0_startsByNow_0 1 rfl rfl)
theorem dX0_startsByNow_4 : decode cX0_startsByNow 4 = .ok (.aload_n 0, 1) := dk_42 (dk_at dksX0_startsByNow_0 4 rfl rfl)
theorem dX0_startsByNow_5 : decode cX0_startsByNow 5 = .ok (.getfield 134, 3) := dk_180 0 134 (dk_at dksX0_startsByNow_0 5 rfl rfl)
theorem dX0_startsByNow_8 : decode cX0_startsByNow 8 = .ok (.invokevirtual 185, 3) := dk_182 0 185 (dk_at dksX0_startsByNow_0 8 rfl rfl)
theorem dX0_startsByNow_11 : decode cX0_startsByNow 11 = .ok (.aload_n 0, 1) := dk_42 (dk_at dksX0_startsByNow_0 11 rfl rfl)
theorem dX0_startsByNow_12 : decode cX0_startsByNow 12 = .ok (.aload_n 0, 1) := dk_42 (dk_at dksX0_startsByNow_0 12 rfl rfl)
theorem dX0_startsByNow_13 : decode cX0_startsByNow 13 = .ok (.iload_n 1, 1) := dk_27 (dk_at dksX0_startsByNow_0 13 rfl rfl)
theorem dX0_startsByNow_14 : decode cX0_startsByNow 14 = .ok (.invokevirtual 261, 3) := dk_182 1 5 (dk_at dksX0_startsByNow_0 14 rfl rfl)
theorem dX0_startsByNow_17 : decode cX0_startsByNow 17 = .ok (.invokevirtual 264, 3) := dk_182 1 8 (dk_at dksX0_startsByNow_0 17 rfl rfl)
theorem dX0_startsByNow_20 : decode cX0_startsByNow 20 = .ok (.return_, 1) := dk_177 (dk_at dksX0_startsByNow_0 20 rfl rfl)
abbrev cX0_omit : ByteArray := prog_1_method_47_code
def yX0_omit : MethodName := ⟨RX0, "omit", "(II)I"⟩
def dkwX0_omit_3 : List UInt8 := [28, 182, 1, 19, 172]
abbrev dktX0_omit_3 : List UInt8 := dkwX0_omit_3 ++ []
def dkwX0_omit_2 : List UInt8 := [180, 0, 111, 29, 181, 0, 93, 42, 29, 42, 27, 182, 1, 5, 182, 1, 15, 132, 3, 1, 167, 255, 213, 42]
abbrev dktX0_omit_2 : List UInt8 := dkwX0_omit_2 ++ dktX0_omit_3
def dkwX0_omit_1 : List UInt8 := [42, 180, 0, 134, 180, 0, 203, 162, 0, 38, 42, 180, 0, 111, 42, 180, 0, 134, 182, 0, 185, 42]
abbrev dktX0_omit_1 : List UInt8 := dkwX0_omit_1 ++ dktX0_omit_2
def dkwX0_omit_0 : List UInt8 := [27, 184, 0, 243, 153, 0, 10, 28, 184, 1, 12, 154, 0, 5, 2, 172, 42, 27, 182, 1, 22, 3, 62, 29]
abbrev dktX0_omit_0 : List UInt8 := dkwX0_omit_0 ++ dktX0_omit_1
theorem dksX0_omit_0 : cX0_omit.data.toList.drop 0 = dktX0_omit_0 := by decide +kernel
theorem dksX0_omit_1 : cX0_omit.data.toList.drop 24 = dktX0_omit_1 := dk_seg dksX0_omit_0 24 rfl rfl
theorem dksX0_omit_2 : cX0_omit.data.toList.drop 46 = dktX0_omit_2 := dk_seg dksX0_omit_1 22 rfl rfl
theorem dksX0_omit_3 : cX0_omit.data.toList.drop 70 = dktX0_omit_3 := dk_seg dksX0_omit_2 24 rfl rfl
theorem dX0_omit_0 : decode cX0_omit 0 = .ok (.iload_n 1, 1) := dk_27 (dk_at dksX0_omit_0 0 rfl rfl)
theorem dX0_omit_1 : decode cX0_omit 1 = .ok (.invokestatic 243, 3) := dk_184 0 243 (dk_at dksX0_omit_0 1 rfl rfl)
theorem dX0_omit_4 : decode cX0_omit 4 = .ok (.ifCond .eq 10, 3) := dk_153 0 10 (dk_at dksX0_omit_0 4 rfl rfl)
theorem dX0_omit_7 : decode cX0_omit 7 = .ok (.iload_n 2, 1) := dk_28 (dk_at dksX0_omit_0 7 rfl rfl)
theorem dX0_omit_8 : decode cX0_omit 8 = .ok (.invokestatic 268, 3) := dk_184 1 12 (dk_at dksX0_omit_0 8 rfl rfl)
theorem dX0_omit_11 : decode cX0_omit 11 = .ok (.ifCond .ne 5, 3) := dk_154 0 5 (dk_at dksX0_omit_0 11 rfl rfl)
theorem dX0_omit_14 : decode cX0_omit 14 = .ok (.iconst (-1), 1) := dk_2 (dk_at dksX0_omit_0 14 rfl rfl)
theorem dX0_omit_15 : decode cX0_omit 15 = .ok (.ireturn, 1) := dk_172 (dk_at dksX0_omit_0 15 rfl rfl)
theorem dX0_omit_16 : decode cX0_omit 16 = .ok (.aload_n 0, 1) := dk_42 (dk_at dksX0_omit_0 16 rfl rfl)
theorem dX0_omit_17 : decode cX0_omit 17 = .ok (.iload_n 1, 1) := dk_27 (dk_at dksX0_omit_0 17 rfl rfl)
theorem dX0_omit_18 : decode cX0_omit 18 = .ok (.invokevirtual 278, 3) := dk_182 1 22 (dk_at dksX0_omit_0 18 rfl rfl)
theorem dX0_omit_21 : decode cX0_omit 21 = .ok (.iconst 0, 1) := dk_3 (dk_at dksX0_omit_0 21 rfl rfl)
theorem dX0_omit_22 : decode cX0_omit 22 = .ok (.istore_n 3, 1) := dk_62 (dk_at dksX0_omit_0 22 rfl rfl)
theorem dX0_omit_23 : decode cX0_omit 23 = .ok (.iload_n 3, 1) := dk_29 (dk_at dksX0_omit_0 23 rfl rfl)
theorem dX0_omit_24 : decode cX0_omit 24 = .ok (.aload_n 0, 1) := dk_42 (dk_at dksX0_omit_1 0 rfl rfl)
theorem dX0_omit_25 : decode cX0_omit 25 = .ok (.getfield 134, 3) := dk_180 0 134 (dk_at dksX0_omit_1 1 rfl rfl)
theorem dX0_omit_28 : decode cX0_omit 28 = .ok (.getfield 203, 3) := dk_180 0 203 (dk_at dksX0_omit_1 4 rfl rfl)
theorem dX0_omit_31 : decode cX0_omit 31 = .ok (.if_icmp .ge 38, 3) := dk_162 0 38 (dk_at dksX0_omit_1 7 rfl rfl)
theorem dX0_omit_34 : decode cX0_omit 34 = .ok (.aload_n 0, 1) := dk_42 (dk_at dksX0_omit_1 10 rfl rfl)
theorem dX0_omit_35 : decode cX0_omit 35 = .ok (.getfield 111, 3) := dk_180 0 111 (dk_at dksX0_omit_1 11 rfl rfl)
theorem dX0_omit_38 : decode cX0_omit 38 = .ok (.aload_n 0, 1) := dk_42 (dk_at dksX0_omit_1 14 rfl rfl)
theorem dX0_omit_39 : decode cX0_omit 39 = .ok (.getfield 134, 3) := dk_180 0 134 (dk_at dksX0_omit_1 15 rfl rfl)
theorem dX0_omit_42 : decode cX0_omit 42 = .ok (.invokevirtual 185, 3) := dk_182 0 185 (dk_at dksX0_omit_1 18 rfl rfl)
theorem dX0_omit_45 : decode cX0_omit 45 = .ok (.aload_n 0, 1) := dk_42 (dk_at dksX0_omit_1 21 rfl rfl)
theorem dX0_omit_46 : decode cX0_omit 46 = .ok (.getfield 111, 3) := dk_180 0 111 (dk_at dksX0_omit_2 0 rfl rfl)
theorem dX0_omit_49 : decode cX0_omit 49 = .ok (.iload_n 3, 1) := dk_29 (dk_at dksX0_omit_2 3 rfl rfl)
theorem dX0_omit_50 : decode cX0_omit 50 = .ok (.putfield 93, 3) := dk_181 0 93 (dk_at dksX0_omit_2 4 rfl rfl)
theorem dX0_omit_53 : decode cX0_omit 53 = .ok (.aload_n 0, 1) := dk_42 (dk_at dksX0_omit_2 7 rfl rfl)
theorem dX0_omit_54 : decode cX0_omit 54 = .ok (.iload_n 3, 1) := dk_29 (dk_at dksX0_omit_2 8 rfl rfl)
theorem dX0_omit_55 : decode cX0_omit 55 = .ok (.aload_n 0, 1) := dk_42 (dk_at dksX0_omit_2 9 rfl rfl)
theorem dX0_omit_56 : decode cX0_omit 56 = .ok (.iload_n 1, 1) := dk_27 (dk_at dksX0_omit_2 10 rfl rfl)
theorem dX0_omit_57 : decode cX0_omit 57 = .ok (.invokevirtual 261, 3) := dk_182 1 5 (dk_at dksX0_omit_2 11 rfl rfl)
theorem dX0_omit_60 : decode cX0_omit 60 = .ok (.invokevirtual 271, 3) := dk_182 1 15 (dk_at dksX0_omit_2 14 rfl rfl)
theorem dX0_omit_63 : decode cX0_omit 63 = .ok (.iinc 3 1, 3) := dk_132 3 1 (dk_at dksX0_omit_2 17 rfl rfl)
theorem dX0_omit_66 : decode cX0_omit 66 = .ok (.goto (-43), 3) := dk_167 255 213 (dk_at dksX0_omit_2 20 rfl rfl)
theorem dX0_omit_69 : decode cX0_omit 69 = .ok (.aload_n 0, 1) := dk_42 (dk_at dksX0_omit_2 23 rfl rfl)
theorem dX0_omit_70 : decode cX0_omit 70 = .ok (.iload_n 2, 1) := dk_28 (dk_at dksX0_omit_3 0 rfl rfl)
theorem dX0_omit_71 : decode cX0_omit 71 = .ok (.invokevirtual 275, 3) := dk_182 1 19 (dk_at dksX0_omit_3 1 rfl rfl)
theorem dX0_omit_74 : decode cX0_omit 74 = .ok (.ireturn, 1) := dk_172 (dk_at dksX0_omit_3 4 rfl rfl)
abbrev cX0_off : ByteArray := prog_1_method_48_code
def yX0_off : MethodName := ⟨RX0, "off", "(II)I"⟩
def dkwX0_off_3 : List UInt8 := [28, 182, 1, 19, 172]
abbrev dktX0_off_3 : List UInt8 := dkwX0_off_3 ++ []
def dkwX0_off_2 : List UInt8 := [180, 0, 111, 29, 181, 0, 47, 42, 29, 42, 27, 182, 1, 5, 182, 1, 15, 132, 3, 1, 167, 255, 213, 42]
abbrev dktX0_off_2 : List UInt8 := dkwX0_off_2 ++ dktX0_off_3
def dkwX0_off_1 : List UInt8 := [42, 180, 0, 134, 180, 0, 44, 162, 0, 38, 42, 180, 0, 111, 42, 180, 0, 134, 182, 0, 185, 42]
abbrev dktX0_off_1 : List UInt8 := dkwX0_off_1 ++ dktX0_off_2
def dkwX0_off_0 : List UInt8 := [27, 184, 0, 243, 153, 0, 10, 28, 184, 1, 12, 154, 0, 5, 2, 172, 42, 27, 182, 1, 22, 3, 62, 29]
abbrev dktX0_off_0 : List UInt8 := dkwX0_off_0 ++ dktX0_off_1
theorem dksX0_off_0 : cX0_off.data.toList.drop 0 = dktX0_off_0 := by decide +kernel
theorem dksX0_off_1 : cX0_off.data.toList.drop 24 = dktX0_off_1 := dk_seg dksX0_off_0 24 rfl rfl
theorem dksX0_off_2 : cX0_off.data.toList.drop 46 = dktX0_off_2 := dk_seg dksX0_off_1 22 rfl rfl
theorem dksX0_off_3 : cX0_off.data.toList.drop 70 = dktX0_off_3 := dk_seg dksX0_off_2 24 rfl rfl
theorem dX0_off_0 : decode cX0_off 0 = .ok (.iload_n 1, 1) := dk_27 (dk_at dksX0_off_0 0 rfl rfl)
theorem dX0_off_1 : decode cX0_off 1 = .ok (.invokestatic 243, 3) := dk_184 0 243 (dk_at dksX0_off_0 1 rfl rfl)
theorem dX0_off_4 : decode cX0_off 4 = .ok (.ifCond .eq 10, 3) := dk_153 0 10 (dk_at dksX0_off_0 4 rfl rfl)
theorem dX0_off_7 : decode cX0_off 7 = .ok (.iload_n 2, 1) := dk_28 (dk_at dksX0_off_0 7 rfl rfl)
theorem dX0_off_8 : decode cX0_off 8 = .ok (.invokestatic 268, 3) := dk_184 1 12 (dk_at dksX0_off_0 8 rfl rfl)
theorem dX0_off_11 : decode cX0_off 11 = .ok (.ifCond .ne 5, 3) := dk_154 0 5 (dk_at dksX0_off_0 11 rfl rfl)
theorem dX0_off_14 : decode cX0_off 14 = .ok (.iconst (-1), 1) := dk_2 (dk_at dksX0_off_0 14 rfl rfl)
theorem dX0_off_15 : decode cX0_off 15 = .ok (.ireturn, 1) := dk_172 (dk_at dksX0_off_0 15 rfl rfl)
theorem dX0_off_16 : decode cX0_off 16 = .ok (.aload_n 0, 1) := dk_42 (dk_at dksX0_off_0 16 rfl rfl)
theorem dX0_off_17 : decode cX0_off 17 = .ok (.iload_n 1, 1) := dk_27 (dk_at dksX0_off_0 17 rfl rfl)
theorem dX0_off_18 : decode cX0_off 18 = .ok (.invokevirtual 278, 3) := dk_182 1 22 (dk_at dksX0_off_0 18 rfl rfl)
theorem dX0_off_21 : decode cX0_off 21 = .ok (.iconst 0, 1) := dk_3 (dk_at dksX0_off_0 21 rfl rfl)
theorem dX0_off_22 : decode cX0_off 22 = .ok (.istore_n 3, 1) := dk_62 (dk_at dksX0_off_0 22 rfl rfl)
theorem dX0_off_23 : decode cX0_off 23 = .ok (.iload_n 3, 1) := dk_29 (dk_at dksX0_off_0 23 rfl rfl)
theorem dX0_off_24 : decode cX0_off 24 = .ok (.aload_n 0, 1) := dk_42 (dk_at dksX0_off_1 0 rfl rfl)
theorem dX0_off_25 : decode cX0_off 25 = .ok (.getfield 134, 3) := dk_180 0 134 (dk_at dksX0_off_1 1 rfl rfl)
theorem dX0_off_28 : decode cX0_off 28 = .ok (.getfield 44, 3) := dk_180 0 44 (dk_at dksX0_off_1 4 rfl rfl)
theorem dX0_off_31 : decode cX0_off 31 = .ok (.if_icmp .ge 38, 3) := dk_162 0 38 (dk_at dksX0_off_1 7 rfl rfl)
theorem dX0_off_34 : decode cX0_off 34 = .ok (.aload_n 0, 1) := dk_42 (dk_at dksX0_off_1 10 rfl rfl)
theorem dX0_off_35 : decode cX0_off 35 = .ok (.getfield 111, 3) := dk_180 0 111 (dk_at dksX0_off_1 11 rfl rfl)
theorem dX0_off_38 : decode cX0_off 38 = .ok (.aload_n 0, 1) := dk_42 (dk_at dksX0_off_1 14 rfl rfl)
theorem dX0_off_39 : decode cX0_off 39 = .ok (.getfield 134, 3) := dk_180 0 134 (dk_at dksX0_off_1 15 rfl rfl)
theorem dX0_off_42 : decode cX0_off 42 = .ok (.invokevirtual 185, 3) := dk_182 0 185 (dk_at dksX0_off_1 18 rfl rfl)
theorem dX0_off_45 : decode cX0_off 45 = .ok (.aload_n 0, 1) := dk_42 (dk_at dksX0_off_1 21 rfl rfl)
theorem dX0_off_46 : decode cX0_off 46 = .ok (.getfield 111, 3) := dk_180 0 111 (dk_at dksX0_off_2 0 rfl rfl)
theorem dX0_off_49 : decode cX0_off 49 = .ok (.iload_n 3, 1) := dk_29 (dk_at dksX0_off_2 3 rfl rfl)
theorem dX0_off_50 : decode cX0_off 50 = .ok (.putfield 47, 3) := dk_181 0 47 (dk_at dksX0_off_2 4 rfl rfl)
theorem dX0_off_53 : decode cX0_off 53 = .ok (.aload_n 0, 1) := dk_42 (dk_at dksX0_off_2 7 rfl rfl)
theorem dX0_off_54 : decode cX0_off 54 = .ok (.iload_n 3, 1) := dk_29 (dk_at dksX0_off_2 8 rfl rfl)
theorem dX0_off_55 : decode cX0_off 55 = .ok (.aload_n 0, 1) := dk_42 (dk_at dksX0_off_2 9 rfl rfl)
theorem dX0_off_56 : decode cX0_off 56 = .ok (.iload_n 1, 1) := dk_27 (dk_at dksX0_off_2 10 rfl rfl)
theorem dX0_off_57 : decode cX0_off 57 = .ok (.invokevirtual 261, 3) := dk_182 1 5 (dk_at dksX0_off_2 11 rfl rfl)
theorem dX0_off_60 : decode cX0_off 60 = .ok (.invokevirtual 271, 3) := dk_182 1 15 (dk_at dksX0_off_2 14 rfl rfl)
theorem dX0_off_63 : decode cX0_off 63 = .ok (.iinc 3 1, 3) := dk_132 3 1 (dk_at dksX0_off_2 17 rfl rfl)
theorem dX0_off_66 : decode cX0_off 66 = .ok (.goto (-43), 3) := dk_167 255 213 (dk_at dksX0_off_2 20 rfl rfl)
theorem dX0_off_69 : decode cX0_off 69 = .ok (.aload_n 0, 1) := dk_42 (dk_at dksX0_off_2 23 rfl rfl)
theorem dX0_off_70 : decode cX0_off 70 = .ok (.iload_n 2, 1) := dk_28 (dk_at dksX0_off_3 0 rfl rfl)
theorem dX0_off_71 : decode cX0_off 71 = .ok (.invokevirtual 275, 3) := dk_182 1 19 (dk_at dksX0_off_3 1 rfl rfl)
theorem dX0_off_74 : decode cX0_off 74 = .ok (.ireturn, 1) := dk_172 (dk_at dksX0_off_3 4 rfl rfl)
abbrev cX0_luck : ByteArray := prog_1_method_51_code
def yX0_luck : MethodName := ⟨RX0, "luck", "(III)J"⟩
def dkwX0_luck_2 : List UInt8 := [180, 1, 32, 29, 184, 1, 47, 173]
abbrev dktX0_luck_2 : List UInt8 := dkwX0_luck_2 ++ []
def dkwX0_luck_1 : List UInt8 := [29, 184, 1, 12, 154, 0, 7, 20, 1, 42, 173, 42, 27, 28, 182, 1, 44, 42, 180, 1, 25, 42]
abbrev dktX0_luck_1 : List UInt8 := dkwX0_luck_1 ++ dktX0_luck_2
def dkwX0_luck_0 : List UInt8 := [27, 133, 9, 20, 1, 38, 184, 0, 164, 153, 0, 22, 28, 133, 9, 20, 1, 40, 184, 0, 164, 153, 0, 10]
abbrev dktX0_luck_0 : List UInt8 := dkwX0_luck_0 ++ dktX0_luck_1
theorem dksX0_luck_0 : cX0_luck.data.toList.drop 0 = dktX0_luck_0 := by decide +kernel
theorem dksX0_luck_1 : cX0_luck.data.toList.drop 24 = dktX0_luck_1 := dk_seg dksX0_luck_0 24 rfl rfl
theorem dksX0_luck_2 : cX0_luck.data.toList.drop 46 = dktX0_luck_2 := dk_seg dksX0_luck_1 22 rfl rfl
theorem dX0_luck_0 : decode cX0_luck 0 = .ok (.iload_n 1, 1) := dk_27 (dk_at dksX0_luck_0 0 rfl rfl)
theorem dX0_luck_1 : decode cX0_luck 1 = .ok (.i2l, 1) := dk_133 (dk_at dksX0_luck_0 1 rfl rfl)
theorem dX0_luck_2 : decode cX0_luck 2 = .ok (.lconst 0, 1) := dk_9 (dk_at dksX0_luck_0 2 rfl rfl)
theorem dX0_luck_3 : decode cX0_luck 3 = .ok (.ldc2_w 294, 3) := dk_20 1 38 (dk_at dksX0_luck_0 3 rfl rfl)
theorem dX0_luck_6 : decode cX0_luck 6 = .ok (.invokestatic 164, 3) := dk_184 0 164 (dk_at dksX0_luck_0 6 rfl rfl)
theorem dX0_luck_9 : decode cX0_luck 9 = .ok (.ifCond .eq 22, 3) := dk_153 0 22 (dk_at dksX0_luck_0 9 rfl rfl)
theorem dX0_luck_12 : decode cX0_luck 12 = .ok (.iload_n 2, 1) := dk_28 (dk_at dksX0_luck_0 12 rfl rfl)
theorem dX0_luck_13 : decode cX0_luck 13 = .ok (.i2l, 1) := dk_133 (dk_at dksX0_luck_0 13 rfl rfl)
theorem dX0_luck_14 : decode cX0_luck 14 = .ok (.lconst 0, 1) := dk_9 (dk_at dksX0_luck_0 14 rfl rfl)
theorem dX0_luck_15 : decode cX0_luck 15 = .ok (.ldc2_w 296, 3) := dk_20 1 40 (dk_at dksX0_luck_0 15 rfl rfl)
theorem dX0_luck_18 : decode cX0_luck 18 = .ok (.invokestatic 164, 3) := dk_184 0 164 (dk_at dksX0_luck_0 18 rfl rfl)
theorem dX0_luck_21 : decode cX0_luck 21 = .ok (.ifCond .eq 10, 3) := dk_153 0 10 (dk_at dksX0_luck_0 21 rfl rfl)
theorem dX0_luck_24 : decode cX0_luck 24 = .ok (.iload_n 3, 1) := dk_29 (dk_at dksX0_luck_1 0 rfl rfl)
theorem dX0_luck_25 : decode cX0_luck 25 = .ok (.invokestatic 268, 3) := dk_184 1 12 (dk_at dksX0_luck_1 1 rfl rfl)
theorem dX0_luck_28 : decode cX0_luck 28 = .ok (.ifCond .ne 7, 3) := dk_154 0 7 (dk_at dksX0_luck_1 4 rfl rfl)
theorem dX0_luck_31 : decode cX0_luck 31 = .ok (.ldc2_w 298, 3) := dk_20 1 42 (dk_at dksX0_luck_1 7 rfl rfl)
theorem dX0_luck_34 : decode cX0_luck 34 = .ok (.lreturn, 1) := dk_173 (dk_at dksX0_luck_1 10 rfl rfl)
theorem dX0_luck_35 : decode cX0_luck 35 = .ok (.aload_n 0, 1) := dk_42 (dk_at dksX0_luck_1 11 rfl rfl)
theorem dX0_luck_36 : decode cX0_luck 36 = .ok (.iload_n 1, 1) := dk_27 (dk_at dksX0_luck_1 12 rfl rfl)
theorem dX0_luck_37 : decode cX0_luck 37 = .ok (.iload_n 2, 1) := dk_28 (dk_at dksX0_luck_1 13 rfl rfl)
theorem dX0_luck_38 : decode cX0_luck 38 = .ok (.invokevirtual 300, 3) := dk_182 1 44 (dk_at dksX0_luck_1 14 rfl rfl)
theorem dX0_luck_41 : decode cX0_luck 41 = .ok (.aload_n 0, 1) := dk_42 (dk_at dksX0_luck_1 17 rfl rfl)
theorem dX0_luck_42 : decode cX0_luck 42 = .ok (.getfield 281, 3) := dk_180 1 25 (dk_at dksX0_luck_1 18 rfl rfl)
theorem dX0_luck_45 : decode cX0_luck 45 = .ok (.aload_n 0, 1) := dk_42 (dk_at dksX0_luck_1 21 rfl rfl)
theorem dX0_luck_46 : decode cX0_luck 46 = .ok (.getfield 288, 3) := dk_180 1 32 (dk_at dksX0_luck_2 0 rfl rfl)
theorem dX0_luck_49 : decode cX0_luck 49 = .ok (.iload_n 3, 1) := dk_29 (dk_at dksX0_luck_2 3 rfl rfl)
theorem dX0_luck_50 : decode cX0_luck 50 = .ok (.invokestatic 303, 3) := dk_184 1 47 (dk_at dksX0_luck_2 4 rfl rfl)
theorem dX0_luck_53 : decode cX0_luck 53 = .ok (.lreturn, 1) := dk_173 (dk_at dksX0_luck_2 7 rfl rfl)
abbrev cX0_findOdds : ByteArray := prog_1_method_50_code
def yX0_findOdds : MethodName := ⟨RX0, "findOdds", "(II)V"⟩
def dkwX0_findOdds_6 : List UInt8 := [181, 1, 29, 132, 3, 1, 167, 255, 125, 177]
abbrev dktX0_findOdds_6 : List UInt8 := dkwX0_findOdds_6 ++ []
def dkwX0_findOdds_5 : List UInt8 := [167, 0, 4, 9, 97, 181, 1, 25, 42, 89, 180, 1, 29, 22, 4, 42, 180, 0, 1, 133, 105, 97]
abbrev dktX0_findOdds_5 : List UInt8 := dkwX0_findOdds_5 ++ dktX0_findOdds_6
def dkwX0_findOdds_4 : List UInt8 := [89, 180, 1, 32, 22, 4, 97, 181, 1, 32, 42, 89, 180, 1, 25, 42, 180, 0, 7, 154, 0, 8, 22, 4]
abbrev dktX0_findOdds_4 : List UInt8 := dkwX0_findOdds_4 ++ dktX0_findOdds_5
def dkwX0_findOdds_3 : List UInt8 := [105, 55, 4, 42, 42, 180, 0, 111, 29, 21, 6, 184, 1, 35, 182, 0, 107, 132, 6, 1, 167, 255, 209, 42]
abbrev dktX0_findOdds_3 : List UInt8 := dkwX0_findOdds_3 ++ dktX0_findOdds_4
def dkwX0_findOdds_2 : List UInt8 := [162, 0, 47, 22, 4, 29, 21, 6, 184, 1, 35, 153, 0, 8, 27, 133, 167, 0, 8, 16, 10, 27, 100, 133]
abbrev dktX0_findOdds_2 : List UInt8 := dkwX0_findOdds_2 ++ dktX0_findOdds_3
def dkwX0_findOdds_1 : List UInt8 := [10, 55, 4, 42, 180, 0, 111, 42, 180, 0, 134, 182, 0, 185, 42, 182, 0, 103, 3, 54, 6, 21, 6, 28]
abbrev dktX0_findOdds_1 : List UInt8 := dkwX0_findOdds_1 ++ dktX0_findOdds_2
def dkwX0_findOdds_0 : List UInt8 := [42, 9, 181, 1, 25, 42, 9, 181, 1, 29, 42, 9, 181, 1, 32, 3, 62, 29, 4, 28, 120, 162, 0, 130]
abbrev dktX0_findOdds_0 : List UInt8 := dkwX0_findOdds_0 ++ dktX0_findOdds_1
theorem dksX0_findOdds_0 : cX0_findOdds.data.toList.drop 0 = dktX0_findOdds_0 := by decide +kernel
theorem dksX0_findOdds_1 : cX0_findOdds.data.toList.drop 24 = dktX0_findOdds_1 := dk_seg dksX0_findOdds_0 24 rfl rfl
theorem dksX0_findOdds_2 : cX0_findOdds.data.toList.drop 48 = dktX0_findOdds_2 := dk_seg dksX0_findOdds_1 24 rfl rfl
theorem dksX0_findOdds_3 : cX0_findOdds.data.toList.drop 72 = dktX0_findOdds_3 := dk_seg dksX0_findOdds_2 24 rfl rfl
theorem dksX0_findOdds_4 : cX0_findOdds.data.toList.drop 96 = dktX0_findOdds_4 := dk_seg dksX0_findOdds_3 24 rfl rfl
theorem dksX0_findOdds_5 : cX0_findOdds.data.toList.drop 120 = dktX0_findOdds_5 := dk_seg dksX0_findOdds_4 24 rfl rfl
theorem dksX0_findOdds_6 : cX0_findOdds.data.toList.drop 142 = dktX0_findOdds_6 := dk_seg dksX0_findOdds_5 22 rfl rfl
theorem dX0_findOdds_0 : decode cX0_findOdds 0 = .ok (.aload_n 0, 1) := dk_42 (dk_at dksX0_findOdds_0 0 rfl rfl)
theorem dX0_findOdds_1 : decode cX0_findOdds 1 = .ok (.lconst 0, 1) := dk_9 (dk_at dksX0_findOdds_0 1 rfl rfl)
theorem dX0_findOdds_2 : decode cX0_findOdds 2 = .ok (.putfield 281, 3) := dk_181 1 25 (dk_at dksX0_findOdds_0 2 rfl rfl)
theorem dX0_findOdds_5 : decode cX0_findOdds 5 = .ok (.aload_n 0, 1) := dk_42 (dk_at dksX0_findOdds_0 5 rfl rfl)
theorem dX0_findOdds_6 : decode cX0_findOdds 6 = .ok (.lconst 0, 1) := dk_9 (dk_at dksX0_findOdds_0 6 rfl rfl)
theorem dX0_findOdds_7 : decode cX0_findOdds 7 = .ok (.putfield 285, 3) := dk_181 1 29 (dk_at dksX0_findOdds_0 7 rfl rfl)
theorem dX0_findOdds_10 : decode cX0_findOdds 10 = .ok (.aload_n 0, 1) := dk_42 (dk_at dksX0_findOdds_0 10 rfl rfl)
theorem dX0_findOdds_11 : decode cX0_findOdds 11 = .ok (.lconst 0, 1) := dk_9 (dk_at dksX0_findOdds_0 11 rfl rfl)
theorem dX0_findOdds_12 : decode cX0_findOdds 12 = .ok (.putfield 288, 3) := dk_181 1 32 (dk_at dksX0_findOdds_0 12 rfl rfl)
theorem dX0_findOdds_15 : decode cX0_findOdds 15 = .ok (.iconst 0, 1) := dk_3 (dk_at dksX0_findOdds_0 15 rfl rfl)
theorem dX0_findOdds_16 : decode cX0_findOdds 16 = .ok (.istore_n 3, 1) := dk_62 (dk_at dksX0_findOdds_0 16 rfl rfl)
theorem dX0_findOdds_17 : decode cX0_findOdds 17 = .ok (.iload_n 3, 1) := dk_29 (dk_at dksX0_findOdds_0 17 rfl rfl)
theorem dX0_findOdds_18 : decode cX0_findOdds 18 = .ok (.iconst 1, 1) := dk_4 (dk_at dksX0_findOdds_0 18 rfl rfl)
theorem dX0_findOdds_19 : decode cX0_findOdds 19 = .ok (.iload_n 2, 1) := dk_28 (dk_at dksX0_findOdds_0 19 rfl rfl)
theorem dX0_findOdds_20 : decode cX0_findOdds 20 = .ok (.ishl, 1) := dk_120 (dk_at dksX0_findOdds_0 20 rfl rfl)
theorem dX0_findOdds_21 : decode cX0_findOdds 21 = .ok (.if_icmp .ge 130, 3) := dk_162 0 130 (dk_at dksX0_findOdds_0 21 rfl rfl)
theorem dX0_findOdds_24 : decode cX0_findOdds 24 = .ok (.lconst 1, 1) := dk_10 (dk_at dksX0_findOdds_1 0 rfl rfl)
theorem dX0_findOdds_25 : decode cX0_findOdds 25 = .ok (.lstore 4, 2) := dk_55 4 (dk_at dksX0_findOdds_1 1 rfl rfl)
theorem dX0_findOdds_27 : decode cX0_findOdds 27 = .ok (.aload_n 0, 1) := dk_42 (dk_at dksX0_findOdds_1 3 rfl rfl)
theorem dX0_findOdds_28 : decode cX0_findOdds 28 = .ok (.getfield 111, 3) := dk_180 0 111 (dk_at dksX0_findOdds_1 4 rfl rfl)
theorem dX0_findOdds_31 : decode cX0_findOdds 31 = .ok (.aload_n 0, 1) := dk_42 (dk_at dksX0_findOdds_1 7 rfl rfl)
theorem dX0_findOdds_32 : decode cX0_findOdds 32 = .ok (.getfield 134, 3) := dk_180 0 134 (dk_at dksX0_findOdds_1 8 rfl rfl)
theorem dX0_findOdds_35 : decode cX0_findOdds 35 = .ok (.invokevirtual 185, 3) := dk_182 0 185 (dk_at dksX0_findOdds_1 11 rfl rfl)
theorem dX0_findOdds_38 : decode cX0_findOdds 38 = .ok (.aload_n 0, 1) := dk_42 (dk_at dksX0_findOdds_1 14 rfl rfl)
theorem dX0_findOdds_39 : decode cX0_findOdds 39 = .ok (.invokevirtual 103, 3) := dk_182 0 103 (dk_at dksX0_findOdds_1 15 rfl rfl)
theorem dX0_findOdds_42 : decode cX0_findOdds 42 = .ok (.iconst 0, 1) := dk_3 (dk_at dksX0_findOdds_1 18 rfl rfl)
theorem dX0_findOdds_43 : decode cX0_findOdds 43 = .ok (.istore 6, 2) := dk_54 6 (dk_at dksX0_findOdds_1 19 rfl rfl)
theorem dX0_findOdds_45 : decode cX0_findOdds 45 = .ok (.iload 6, 2) := dk_21 6 (dk_at dksX0_findOdds_1 21 rfl rfl)
theorem dX0_findOdds_47 : decode cX0_findOdds 47 = .ok (.iload_n 2, 1) := dk_28 (dk_at dksX0_findOdds_1 23 rfl rfl)
theorem dX0_findOdds_48 : decode cX0_findOdds 48 = .ok (.if_icmp .ge 47, 3) := dk_162 0 47 (dk_at dksX0_findOdds_2 0 rfl rfl)
theorem dX0_findOdds_51 : decode cX0_findOdds 51 = .ok (.lload 4, 2) := dk_22 4 (dk_at dksX0_findOdds_2 3 rfl rfl)
theorem dX0_findOdds_53 : decode cX0_findOdds 53 = .ok (.iload_n 3, 1) := dk_29 (dk_at dksX0_findOdds_2 5 rfl rfl)
theorem dX0_findOdds_54 : decode cX0_findOdds 54 = .ok (.iload 6, 2) := dk_21 6 (dk_at dksX0_findOdds_2 6 rfl rfl)
theorem dX0_findOdds_56 : decode cX0_findOdds 56 = .ok (.invokestatic 291, 3) := dk_184 1 35 (dk_at dksX0_findOdds_2 8 rfl rfl)
theorem dX0_findOdds_59 : decode cX0_findOdds 59 = .ok (.ifCond .eq 8, 3) := dk_153 0 8 (dk_at dksX0_findOdds_2 11 rfl rfl)
theorem dX0_findOdds_62 : decode cX0_findOdds 62 = .ok (.iload_n 1, 1) := dk_27 (dk_at dksX0_findOdds_2 14 rfl rfl)
theorem dX0_findOdds_63 : decode cX0_findOdds 63 = .ok (.i2l, 1) := dk_133 (dk_at dksX0_findOdds_2 15 rfl rfl)
theorem dX0_findOdds_64 : decode cX0_findOdds 64 = .ok (.goto 8, 3) := dk_167 0 8 (dk_at dksX0_findOdds_2 16 rfl rfl)
theorem dX0_findOdds_67 : decode cX0_findOdds 67 = .ok (.bipush 10, 2) := dk_16 10 (dk_at dksX0_findOdds_2 19 rfl rfl)
theorem dX0_findOdds_69 : decode cX0_findOdds 69 = .ok (.iload_n 1, 1) := dk_27 (dk_at dksX0_findOdds_2 21 rfl rfl)
theorem dX0_findOdds_70 : decode cX0_findOdds 70 = .ok (.isub, 1) := dk_100 (dk_at dksX0_findOdds_2 22 rfl rfl)
theorem dX0_findOdds_71 : decode cX0_findOdds 71 = .ok (.i2l, 1) := dk_133 (dk_at dksX0_findOdds_2 23 rfl rfl)
theorem dX0_findOdds_72 : decode cX0_findOdds 72 = .ok (.lmul, 1) := dk_105 (dk_at dksX0_findOdds_3 0 rfl rfl)
theorem dX0_findOdds_73 : decode cX0_findOdds 73 = .ok (.lstore 4, 2) := dk_55 4 (dk_at dksX0_findOdds_3 1 rfl rfl)
theorem dX0_findOdds_75 : decode cX0_findOdds 75 = .ok (.aload_n 0, 1) := dk_42 (dk_at dksX0_findOdds_3 3 rfl rfl)
theorem dX0_findOdds_76 : decode cX0_findOdds 76 = .ok (.aload_n 0, 1) := dk_42 (dk_at dksX0_findOdds_3 4 rfl rfl)
theorem dX0_findOdds_77 : decode cX0_findOdds 77 = .ok (.getfield 111, 3) := dk_180 0 111 (dk_at dksX0_findOdds_3 5 rfl rfl)
theorem dX0_findOdds_80 : decode cX0_findOdds 80 = .ok (.iload_n 3, 1) := dk_29 (dk_at dksX0_findOdds_3 8 rfl rfl)
theorem dX0_findOdds_81 : decode cX0_findOdds 81 = .ok (.iload 6, 2) := dk_21 6 (dk_at dksX0_findOdds_3 9 rfl rfl)
theorem dX0_findOdds_83 : decode cX0_findOdds 83 = .ok (.invokestatic 291, 3) := dk_184 1 35 (dk_at dksX0_findOdds_3 11 rfl rfl)
theorem dX0_findOdds_86 : decode cX0_findOdds 86 = .ok (.invokevirtual 107, 3) := dk_182 0 107 (dk_at dksX0_findOdds_3 14 rfl rfl)
theorem dX0_findOdds_89 : decode cX0_findOdds 89 = .ok (.iinc 6 1, 3) := dk_132 6 1 (dk_at dksX0_findOdds_3 17 rfl rfl)
theorem dX0_findOdds_92 : decode cX0_findOdds 92 = .ok (.goto (-47), 3) := dk_167 255 209 (dk_at dksX0_findOdds_3 20 rfl rfl)
theorem dX0_findOdds_95 : decode cX0_findOdds 95 = .ok (.aload_n 0, 1) := dk_42 (dk_at dksX0_findOdds_3 23 rfl rfl)
theorem dX0_findOdds_96 : decode cX0_findOdds 96 = .ok (.dup, 1) := dk_89 (dk_at dksX0_findOdds_4 0 rfl rfl)
theorem dX0_findOdds_97 : decode cX0_findOdds 97 = .ok (.getfield 288, 3) := dk_180 1 32 (dk_at dksX0_findOdds_4 1 rfl rfl)
theorem dX0_findOdds_100 : decode cX0_findOdds 100 = .ok (.lload 4, 2) := dk_22 4 (dk_at dksX0_findOdds_4 4 rfl rfl)
theorem dX0_findOdds_102 : decode cX0_findOdds 102 = .ok (.ladd, 1) := dk_97 (dk_at dksX0_findOdds_4 6 rfl rfl)
theorem dX0_findOdds_103 : decode cX0_findOdds 103 = .ok (.putfield 288, 3) := dk_181 1 32 (dk_at dksX0_findOdds_4 7 rfl rfl)
theorem dX0_findOdds_106 : decode cX0_findOdds 106 = .ok (.aload_n 0, 1) := dk_42 (dk_at dksX0_findOdds_4 10 rfl rfl)
theorem dX0_findOdds_107 : decode cX0_findOdds 107 = .ok (.dup, 1) := dk_89 (dk_at dksX0_findOdds_4 11 rfl rfl)
theorem dX0_findOdds_108 : decode cX0_findOdds 108 = .ok (.getfield 281, 3) := dk_180 1 25 (dk_at dksX0_findOdds_4 12 rfl rfl)
theorem dX0_findOdds_111 : decode cX0_findOdds 111 = .ok (.aload_n 0, 1) := dk_42 (dk_at dksX0_findOdds_4 15 rfl rfl)
theorem dX0_findOdds_112 : decode cX0_findOdds 112 = .ok (.getfield 7, 3) := dk_180 0 7 (dk_at dksX0_findOdds_4 16 rfl rfl)
theorem dX0_findOdds_115 : decode cX0_findOdds 115 = .ok (.ifCond .ne 8, 3) := dk_154 0 8 (dk_at dksX0_findOdds_4 19 rfl rfl)
theorem dX0_findOdds_118 : decode cX0_findOdds 118 = .ok (.lload 4, 2) := dk_22 4 (dk_at dksX0_findOdds_4 22 rfl rfl)
theorem dX0_findOdds_120 : decode cX0_findOdds 120 = .ok (.goto 4, 3) := dk_167 0 4 (dk_at dksX0_findOdds_5 0 rfl rfl)
theorem dX0_findOdds_123 : decode cX0_findOdds 123 = .ok (.lconst 0, 1) := dk_9 (dk_at dksX0_findOdds_5 3 rfl rfl)
theorem dX0_findOdds_124 : decode cX0_findOdds 124 = .ok (.ladd, 1) := dk_97 (dk_at dksX0_findOdds_5 4 rfl rfl)
theorem dX0_findOdds_125 : decode cX0_findOdds 125 = .ok (.putfield 281, 3) := dk_181 1 25 (dk_at dksX0_findOdds_5 5 rfl rfl)
theorem dX0_findOdds_128 : decode cX0_findOdds 128 = .ok (.aload_n 0, 1) := dk_42 (dk_at dksX0_findOdds_5 8 rfl rfl)
theorem dX0_findOdds_129 : decode cX0_findOdds 129 = .ok (.dup, 1) := dk_89 (dk_at dksX0_findOdds_5 9 rfl rfl)
theorem dX0_findOdds_130 : decode cX0_findOdds 130 = .ok (.getfield 285, 3) := dk_180 1 29 (dk_at dksX0_findOdds_5 10 rfl rfl)
theorem dX0_findOdds_133 : decode cX0_findOdds 133 = .ok (.lload 4, 2) := dk_22 4 (dk_at dksX0_findOdds_5 13 rfl rfl)
theorem dX0_findOdds_135 : decode cX0_findOdds 135 = .ok (.aload_n 0, 1) := dk_42 (dk_at dksX0_findOdds_5 15 rfl rfl)
theorem dX0_findOdds_136 : decode cX0_findOdds 136 = .ok (.getfield 1, 3) := dk_180 0 1 (dk_at dksX0_findOdds_5 16 rfl rfl)
theorem dX0_findOdds_139 : decode cX0_findOdds 139 = .ok (.i2l, 1) := dk_133 (dk_at dksX0_findOdds_5 19 rfl rfl)
theorem dX0_findOdds_140 : decode cX0_findOdds 140 = .ok (.lmul, 1) := dk_105 (dk_at dksX0_findOdds_5 20 rfl rfl)
theorem dX0_findOdds_141 : decode cX0_findOdds 141 = .ok (.ladd, 1) := dk_97 (dk_at dksX0_findOdds_5 21 rfl rfl)
theorem dX0_findOdds_142 : decode cX0_findOdds 142 = .ok (.putfield 285, 3) := dk_181 1 29 (dk_at dksX0_findOdds_6 0 rfl rfl)
theorem dX0_findOdds_145 : decode cX0_findOdds 145 = .ok (.iinc 3 1, 3) := dk_132 3 1 (dk_at dksX0_findOdds_6 3 rfl rfl)
theorem dX0_findOdds_148 : decode cX0_findOdds 148 = .ok (.goto (-131), 3) := dk_167 255 125 (dk_at dksX0_findOdds_6 6 rfl rfl)
theorem dX0_findOdds_151 : decode cX0_findOdds 151 = .ok (.return_, 1) := dk_177 (dk_at dksX0_findOdds_6 9 rfl rfl)
abbrev cX0_has : ByteArray := prog_1_method_2_code
def yX0_has : MethodName := ⟨RX0, "has", "(II)Z"⟩
def dkwX0_has_0 : List UInt8 := [26, 27, 122, 4, 126, 4, 160, 0, 7, 4, 167, 0, 4, 3, 172]
abbrev dktX0_has_0 : List UInt8 := dkwX0_has_0 ++ []
theorem dksX0_has_0 : cX0_has.data.toList.drop 0 = dktX0_has_0 := by decide +kernel
theorem dX0_has_0 : decode cX0_has 0 = .ok (.iload_n 0, 1) := dk_26 (dk_at dksX0_has_0 0 rfl rfl)
theorem dX0_has_1 : decode cX0_has 1 = .ok (.iload_n 1, 1) := dk_27 (dk_at dksX0_has_0 1 rfl rfl)
theorem dX0_has_2 : decode cX0_has 2 = .ok (.ishr, 1) := dk_122 (dk_at dksX0_has_0 2 rfl rfl)
theorem dX0_has_3 : decode cX0_has 3 = .ok (.iconst 1, 1) := dk_4 (dk_at dksX0_has_0 3 rfl rfl)
theorem dX0_has_4 : decode cX0_has 4 = .ok (.iand, 1) := dk_126 (dk_at dksX0_has_0 4 rfl rfl)
theorem dX0_has_5 : decode cX0_has 5 = .ok (.iconst 1, 1) := dk_4 (dk_at dksX0_has_0 5 rfl rfl)
theorem dX0_has_6 : decode cX0_has 6 = .ok (.if_icmp .ne 7, 3) := dk_160 0 7 (dk_at dksX0_has_0 6 rfl rfl)
theorem dX0_has_9 : decode cX0_has 9 = .ok (.iconst 1, 1) := dk_4 (dk_at dksX0_has_0 9 rfl rfl)
theorem dX0_has_10 : decode cX0_has 10 = .ok (.goto 4, 3) := dk_167 0 4 (dk_at dksX0_has_0 10 rfl rfl)
theorem dX0_has_13 : decode cX0_has 13 = .ok (.iconst 0, 1) := dk_3 (dk_at dksX0_has_0 13 rfl rfl)
theorem dX0_has_14 : decode cX0_has 14 = .ok (.ireturn, 1) := dk_172 (dk_at dksX0_has_0 14 rfl rfl)
abbrev cX0_lowest : ByteArray := prog_1_method_49_code
def yX0_lowest : MethodName := ⟨RX0, "lowest", "(JJI)J"⟩
def dkwX0_lowest_1 : List UInt8 := [22, 9, 55, 7, 167, 255, 234, 21, 4, 154, 0, 10, 30, 22, 5, 109, 167, 0, 7, 32, 22, 5, 109, 173]
abbrev dktX0_lowest_1 : List UInt8 := dkwX0_lowest_1 ++ []
def dkwX0_lowest_0 : List UInt8 := [32, 55, 5, 30, 55, 7, 22, 7, 9, 148, 153, 0, 21, 22, 5, 22, 7, 113, 55, 9, 22, 7, 55, 5]
abbrev dktX0_lowest_0 : List UInt8 := dkwX0_lowest_0 ++ dktX0_lowest_1
theorem dksX0_lowest_0 : cX0_lowest.data.toList.drop 0 = dktX0_lowest_0 := by decide +kernel
theorem dksX0_lowest_1 : cX0_lowest.data.toList.drop 24 = dktX0_lowest_1 := dk_seg dksX0_lowest_0 24 rfl rfl
theorem dX0_lowest_0 : decode cX0_lowest 0 = .ok (.lload_n 2, 1) := dk_32 (dk_at dksX0_lowest_0 0 rfl rfl)
theorem dX0_lowest_1 : decode cX0_lowest 1 = .ok (.lstore 5, 2) := dk_55 5 (dk_at dksX0_lowest_0 1 rfl rfl)
theorem dX0_lowest_3 : decode cX0_lowest 3 = .ok (.lload_n 0, 1) := dk_30 (dk_at dksX0_lowest_0 3 rfl rfl)
theorem dX0_lowest_4 : decode cX0_lowest 4 = .ok (.lstore 7, 2) := dk_55 7 (dk_at dksX0_lowest_0 4 rfl rfl)
theorem dX0_lowest_6 : decode cX0_lowest 6 = .ok (.lload 7, 2) := dk_22 7 (dk_at dksX0_lowest_0 6 rfl rfl)
theorem dX0_lowest_8 : decode cX0_lowest 8 = .ok (.lconst 0, 1) := dk_9 (dk_at dksX0_lowest_0 8 rfl rfl)
theorem dX0_lowest_9 : decode cX0_lowest 9 = .ok (.lcmp, 1) := dk_148 (dk_at dksX0_lowest_0 9 rfl rfl)
theorem dX0_lowest_10 : decode cX0_lowest 10 = .ok (.ifCond .eq 21, 3) := dk_153 0 21 (dk_at dksX0_lowest_0 10 rfl rfl)
theorem dX0_lowest_13 : decode cX0_lowest 13 = .ok (.lload 5, 2) := dk_22 5 (dk_at dksX0_lowest_0 13 rfl rfl)
theorem dX0_lowest_15 : decode cX0_lowest 15 = .ok (.lload 7, 2) := dk_22 7 (dk_at dksX0_lowest_0 15 rfl rfl)
theorem dX0_lowest_17 : decode cX0_lowest 17 = .ok (.lrem, 1) := dk_113 (dk_at dksX0_lowest_0 17 rfl rfl)
theorem dX0_lowest_18 : decode cX0_lowest 18 = .ok (.lstore 9, 2) := dk_55 9 (dk_at dksX0_lowest_0 18 rfl rfl)
theorem dX0_lowest_20 : decode cX0_lowest 20 = .ok (.lload 7, 2) := dk_22 7 (dk_at dksX0_lowest_0 20 rfl rfl)
theorem dX0_lowest_22 : decode cX0_lowest 22 = .ok (.lstore 5, 2) := dk_55 5 (dk_at dksX0_lowest_0 22 rfl rfl)
theorem dX0_lowest_24 : decode cX0_lowest 24 = .ok (.lload 9, 2) := dk_22 9 (dk_at dksX0_lowest_1 0 rfl rfl)
theorem dX0_lowest_26 : decode cX0_lowest 26 = .ok (.lstore 7, 2) := dk_55 7 (dk_at dksX0_lowest_1 2 rfl rfl)
theorem dX0_lowest_28 : decode cX0_lowest 28 = .ok (.goto (-22), 3) := dk_167 255 234 (dk_at dksX0_lowest_1 4 rfl rfl)
theorem dX0_lowest_31 : decode cX0_lowest 31 = .ok (.iload 4, 2) := dk_21 4 (dk_at dksX0_lowest_1 7 rfl rfl)
theorem dX0_lowest_33 : decode cX0_lowest 33 = .ok (.ifCond .ne 10, 3) := dk_154 0 10 (dk_at dksX0_lowest_1 9 rfl rfl)
theorem dX0_lowest_36 : decode cX0_lowest 36 = .ok (.lload_n 0, 1) := dk_30 (dk_at dksX0_lowest_1 12 rfl rfl)
theorem dX0_lowest_37 : decode cX0_lowest 37 = .ok (.lload 5, 2) := dk_22 5 (dk_at dksX0_lowest_1 13 rfl rfl)
theorem dX0_lowest_39 : decode cX0_lowest 39 = .ok (.ldiv, 1) := dk_109 (dk_at dksX0_lowest_1 15 rfl rfl)
theorem dX0_lowest_40 : decode cX0_lowest 40 = .ok (.goto 7, 3) := dk_167 0 7 (dk_at dksX0_lowest_1 16 rfl rfl)
theorem dX0_lowest_43 : decode cX0_lowest 43 = .ok (.lload_n 2, 1) := dk_32 (dk_at dksX0_lowest_1 19 rfl rfl)
theorem dX0_lowest_44 : decode cX0_lowest 44 = .ok (.lload 5, 2) := dk_22 5 (dk_at dksX0_lowest_1 20 rfl rfl)
theorem dX0_lowest_46 : decode cX0_lowest 46 = .ok (.ldiv, 1) := dk_109 (dk_at dksX0_lowest_1 22 rfl rfl)
theorem dX0_lowest_47 : decode cX0_lowest 47 = .ok (.lreturn, 1) := dk_173 (dk_at dksX0_lowest_1 23 rfl rfl)
abbrev cX0_mean : ByteArray := prog_1_method_52_code
def yX0_mean : MethodName := ⟨RX0, "mean", "(III)J"⟩
def dkwX0_mean_2 : List UInt8 := [180, 1, 32, 29, 184, 1, 47, 173]
abbrev dktX0_mean_2 : List UInt8 := dkwX0_mean_2 ++ []
def dkwX0_mean_1 : List UInt8 := [29, 184, 1, 12, 154, 0, 7, 20, 1, 42, 173, 42, 27, 28, 182, 1, 44, 42, 180, 1, 29, 42]
abbrev dktX0_mean_1 : List UInt8 := dkwX0_mean_1 ++ dktX0_mean_2
def dkwX0_mean_0 : List UInt8 := [27, 133, 9, 20, 1, 38, 184, 0, 164, 153, 0, 22, 28, 133, 9, 20, 1, 40, 184, 0, 164, 153, 0, 10]
abbrev dktX0_mean_0 : List UInt8 := dkwX0_mean_0 ++ dktX0_mean_1
theorem dksX0_mean_0 : cX0_mean.data.toList.drop 0 = dktX0_mean_0 := by decide +kernel
theorem dksX0_mean_1 : cX0_mean.data.toList.drop 24 = dktX0_mean_1 := dk_seg dksX0_mean_0 24 rfl rfl
theorem dksX0_mean_2 : cX0_mean.data.toList.drop 46 = dktX0_mean_2 := dk_seg dksX0_mean_1 22 rfl rfl
theorem dX0_mean_0 : decode cX0_mean 0 = .ok (.iload_n 1, 1) := dk_27 (dk_at dksX0_mean_0 0 rfl rfl)
theorem dX0_mean_1 : decode cX0_mean 1 = .ok (.i2l, 1) := dk_133 (dk_at dksX0_mean_0 1 rfl rfl)
theorem dX0_mean_2 : decode cX0_mean 2 = .ok (.lconst 0, 1) := dk_9 (dk_at dksX0_mean_0 2 rfl rfl)
theorem dX0_mean_3 : decode cX0_mean 3 = .ok (.ldc2_w 294, 3) := dk_20 1 38 (dk_at dksX0_mean_0 3 rfl rfl)
theorem dX0_mean_6 : decode cX0_mean 6 = .ok (.invokestatic 164, 3) := dk_184 0 164 (dk_at dksX0_mean_0 6 rfl rfl)
theorem dX0_mean_9 : decode cX0_mean 9 = .ok (.ifCond .eq 22, 3) := dk_153 0 22 (dk_at dksX0_mean_0 9 rfl rfl)
theorem dX0_mean_12 : decode cX0_mean 12 = .ok (.iload_n 2, 1) := dk_28 (dk_at dksX0_mean_0 12 rfl rfl)
theorem dX0_mean_13 : decode cX0_mean 13 = .ok (.i2l, 1) := dk_133 (dk_at dksX0_mean_0 13 rfl rfl)
theorem dX0_mean_14 : decode cX0_mean 14 = .ok (.lconst 0, 1) := dk_9 (dk_at dksX0_mean_0 14 rfl rfl)
theorem dX0_mean_15 : decode cX0_mean 15 = .ok (.ldc2_w 296, 3) := dk_20 1 40 (dk_at dksX0_mean_0 15 rfl rfl)
theorem dX0_mean_18 : decode cX0_mean 18 = .ok (.invokestatic 164, 3) := dk_184 0 164 (dk_at dksX0_mean_0 18 rfl rfl)
theorem dX0_mean_21 : decode cX0_mean 21 = .ok (.ifCond .eq 10, 3) := dk_153 0 10 (dk_at dksX0_mean_0 21 rfl rfl)
theorem dX0_mean_24 : decode cX0_mean 24 = .ok (.iload_n 3, 1) := dk_29 (dk_at dksX0_mean_1 0 rfl rfl)
theorem dX0_mean_25 : decode cX0_mean 25 = .ok (.invokestatic 268, 3) := dk_184 1 12 (dk_at dksX0_mean_1 1 rfl rfl)
theorem dX0_mean_28 : decode cX0_mean 28 = .ok (.ifCond .ne 7, 3) := dk_154 0 7 (dk_at dksX0_mean_1 4 rfl rfl)
theorem dX0_mean_31 : decode cX0_mean 31 = .ok (.ldc2_w 298, 3) := dk_20 1 42 (dk_at dksX0_mean_1 7 rfl rfl)
theorem dX0_mean_34 : decode cX0_mean 34 = .ok (.lreturn, 1) := dk_173 (dk_at dksX0_mean_1 10 rfl rfl)
theorem dX0_mean_35 : decode cX0_mean 35 = .ok (.aload_n 0, 1) := dk_42 (dk_at dksX0_mean_1 11 rfl rfl)
theorem dX0_mean_36 : decode cX0_mean 36 = .ok (.iload_n 1, 1) := dk_27 (dk_at dksX0_mean_1 12 rfl rfl)
theorem dX0_mean_37 : decode cX0_mean 37 = .ok (.iload_n 2, 1) := dk_28 (dk_at dksX0_mean_1 13 rfl rfl)
theorem dX0_mean_38 : decode cX0_mean 38 = .ok (.invokevirtual 300, 3) := dk_182 1 44 (dk_at dksX0_mean_1 14 rfl rfl)
theorem dX0_mean_41 : decode cX0_mean 41 = .ok (.aload_n 0, 1) := dk_42 (dk_at dksX0_mean_1 17 rfl rfl)
theorem dX0_mean_42 : decode cX0_mean 42 = .ok (.getfield 285, 3) := dk_180 1 29 (dk_at dksX0_mean_1 18 rfl rfl)
theorem dX0_mean_45 : decode cX0_mean 45 = .ok (.aload_n 0, 1) := dk_42 (dk_at dksX0_mean_1 21 rfl rfl)
theorem dX0_mean_46 : decode cX0_mean 46 = .ok (.getfield 288, 3) := dk_180 1 32 (dk_at dksX0_mean_2 0 rfl rfl)
theorem dX0_mean_49 : decode cX0_mean 49 = .ok (.iload_n 3, 1) := dk_29 (dk_at dksX0_mean_2 3 rfl rfl)
theorem dX0_mean_50 : decode cX0_mean 50 = .ok (.invokestatic 303, 3) := dk_184 1 47 (dk_at dksX0_mean_2 4 rfl rfl)
theorem dX0_mean_53 : decode cX0_mean 53 = .ok (.lreturn, 1) := dk_173 (dk_at dksX0_mean_2 7 rfl rfl)
abbrev cX0_see : ByteArray := prog_1_method_53_code
def yX0_see : MethodName := ⟨RX0, "see", "(III)I"⟩
def dkwX0_see_4 : List UInt8 := [181, 0, 189, 42, 180, 0, 189, 172]
abbrev dktX0_see_4 : List UInt8 := dkwX0_see_4 ++ []
def dkwX0_see_3 : List UInt8 := [79, 42, 180, 0, 141, 6, 42, 180, 0, 189, 104, 5, 96, 29, 79, 42, 89, 180, 0, 189, 4, 96]
abbrev dktX0_see_3 : List UInt8 := dkwX0_see_3 ++ dktX0_see_4
def dkwX0_see_2 : List UInt8 := [180, 0, 141, 6, 42, 180, 0, 189, 104, 27, 79, 42, 180, 0, 141, 6, 42, 180, 0, 189, 104, 4, 96, 28]
abbrev dktX0_see_2 : List UInt8 := dkwX0_see_2 ++ dktX0_see_3
def dkwX0_see_1 : List UInt8 := [20, 1, 53, 184, 0, 164, 154, 0, 5, 2, 172, 42, 180, 0, 189, 16, 6, 160, 0, 6, 16, 253, 172, 42]
abbrev dktX0_see_1 : List UInt8 := dkwX0_see_1 ++ dktX0_see_2
def dkwX0_see_0 : List UInt8 := [27, 133, 9, 20, 1, 51, 184, 0, 164, 153, 0, 23, 42, 28, 182, 0, 212, 153, 0, 15, 29, 133, 9]
abbrev dktX0_see_0 : List UInt8 := dkwX0_see_0 ++ dktX0_see_1
theorem dksX0_see_0 : cX0_see.data.toList.drop 0 = dktX0_see_0 := by decide +kernel
theorem dksX0_see_1 : cX0_see.data.toList.drop 23 = dktX0_see_1 := dk_seg dksX0_see_0 23 rfl rfl
theorem dksX0_see_2 : cX0_see.data.toList.drop 47 = dktX0_see_2 := dk_seg dksX0_see_1 24 rfl rfl
theorem dksX0_see_3 : cX0_see.data.toList.drop 71 = dktX0_see_3 := dk_seg dksX0_see_2 24 rfl rfl
theorem dksX0_see_4 : cX0_see.data.toList.drop 93 = dktX0_see_4 := dk_seg dksX0_see_3 22 rfl rfl
theorem dX0_see_0 : decode cX0_see 0 = .ok (.iload_n 1, 1) := dk_27 (dk_at dksX0_see_0 0 rfl rfl)
theorem dX0_see_1 : decode cX0_see 1 = .ok (.i2l, 1) := dk_133 (dk_at dksX0_see_0 1 rfl rfl)
theorem dX0_see_2 : decode cX0_see 2 = .ok (.lconst 0, 1) := dk_9 (dk_at dksX0_see_0 2 rfl rfl)
theorem dX0_see_3 : decode cX0_see 3 = .ok (.ldc2_w 307, 3) := dk_20 1 51 (dk_at dksX0_see_0 3 rfl rfl)
theorem dX0_see_6 : decode cX0_see 6 = .ok (.invokestatic 164, 3) := dk_184 0 164 (dk_at dksX0_see_0 6 rfl rfl)
theorem dX0_see_9 : decode cX0_see 9 = .ok (.ifCond .eq 23, 3) := dk_153 0 23 (dk_at dksX0_see_0 9 rfl rfl)
theorem dX0_see_12 : decode cX0_see 12 = .ok (.aload_n 0, 1) := dk_42 (dk_at dksX0_see_0 12 rfl rfl)
theorem dX0_see_13 : decode cX0_see 13 = .ok (.iload_n 2, 1) := dk_28 (dk_at dksX0_see_0 13 rfl rfl)
theorem dX0_see_14 : decode cX0_see 14 = .ok (.invokevirtual 212, 3) := dk_182 0 212 (dk_at dksX0_see_0 14 rfl rfl)
theorem dX0_see_17 : decode cX0_see 17 = .ok (.ifCond .eq 15, 3) := dk_153 0 15 (dk_at dksX0_see_0 17 rfl rfl)
theorem dX0_see_20 : decode cX0_see 20 = .ok (.iload_n 3, 1) := dk_29 (dk_at dksX0_see_0 20 rfl rfl)
theorem dX0_see_21 : decode cX0_see 21 = .ok (.i2l, 1) := dk_133 (dk_at dksX0_see_0 21 rfl rfl)
theorem dX0_see_22 : decode cX0_see 22 = .ok (.lconst 0, 1) := dk_9 (dk_at dksX0_see_0 22 rfl rfl)
theorem dX0_see_23 : decode cX0_see 23 = .ok (.ldc2_w 309, 3) := dk_20 1 53 (dk_at dksX0_see_1 0 rfl rfl)
theorem dX0_see_26 : decode cX0_see 26 = .ok (.invokestatic 164, 3) := dk_184 0 164 (dk_at dksX0_see_1 3 rfl rfl)
theorem dX0_see_29 : decode cX0_see 29 = .ok (.ifCond .ne 5, 3) := dk_154 0 5 (dk_at dksX0_see_1 6 rfl rfl)
theorem dX0_see_32 : decode cX0_see 32 = .ok (.iconst (-1), 1) := dk_2 (dk_at dksX0_see_1 9 rfl rfl)
theorem dX0_see_33 : decode cX0_see 33 = .ok (.ireturn, 1) := dk_172 (dk_at dksX0_see_1 10 rfl rfl)
theorem dX0_see_34 : decode cX0_see 34 = .ok (.aload_n 0, 1) := dk_42 (dk_at dksX0_see_1 11 rfl rfl)
theorem dX0_see_35 : decode cX0_see 35 = .ok (.getfield 189, 3) := dk_180 0 189 (dk_at dksX0_see_1 12 rfl rfl)
theorem dX0_see_38 : decode cX0_see 38 = .ok (.bipush 6, 2) := dk_16 6 (dk_at dksX0_see_1 15 rfl rfl)
theorem dX0_see_40 : decode cX0_see 40 = .ok (.if_icmp .ne 6, 3) := dk_160 0 6 (dk_at dksX0_see_1 17 rfl rfl)
theorem dX0_see_43 : decode cX0_see 43 = .ok (.bipush (-3), 2) := dk_16 253 (dk_at dksX0_see_1 20 rfl rfl)
theorem dX0_see_45 : decode cX0_see 45 = .ok (.ireturn, 1) := dk_172 (dk_at dksX0_see_1 22 rfl rfl)
theorem dX0_see_46 : decode cX0_see 46 = .ok (.aload_n 0, 1) := dk_42 (dk_at dksX0_see_1 23 rfl rfl)
theorem dX0_see_47 : decode cX0_see 47 = .ok (.getfield 141, 3) := dk_180 0 141 (dk_at dksX0_see_2 0 rfl rfl)
theorem dX0_see_50 : decode cX0_see 50 = .ok (.iconst 3, 1) := dk_6 (dk_at dksX0_see_2 3 rfl rfl)
theorem dX0_see_51 : decode cX0_see 51 = .ok (.aload_n 0, 1) := dk_42 (dk_at dksX0_see_2 4 rfl rfl)
theorem dX0_see_52 : decode cX0_see 52 = .ok (.getfield 189, 3) := dk_180 0 189 (dk_at dksX0_see_2 5 rfl rfl)
theorem dX0_see_55 : decode cX0_see 55 = .ok (.imul, 1) := dk_104 (dk_at dksX0_see_2 8 rfl rfl)
theorem dX0_see_56 : decode cX0_see 56 = .ok (.iload_n 1, 1) := dk_27 (dk_at dksX0_see_2 9 rfl rfl)
theorem dX0_see_57 : decode cX0_see 57 = .ok (.iastore, 1) := dk_79 (dk_at dksX0_see_2 10 rfl rfl)
theorem dX0_see_58 : decode cX0_see 58 = .ok (.aload_n 0, 1) := dk_42 (dk_at dksX0_see_2 11 rfl rfl)
theorem dX0_see_59 : decode cX0_see 59 = .ok (.getfield 141, 3) := dk_180 0 141 (dk_at dksX0_see_2 12 rfl rfl)
theorem dX0_see_62 : decode cX0_see 62 = .ok (.iconst 3, 1) := dk_6 (dk_at dksX0_see_2 15 rfl rfl)
theorem dX0_see_63 : decode cX0_see 63 = .ok (.aload_n 0, 1) := dk_42 (dk_at dksX0_see_2 16 rfl rfl)
theorem dX0_see_64 : decode cX0_see 64 = .ok (.getfield 189, 3) := dk_180 0 189 (dk_at dksX0_see_2 17 rfl rfl)
theorem dX0_see_67 : decode cX0_see 67 = .ok (.imul, 1) := dk_104 (dk_at dksX0_see_2 20 rfl rfl)
theorem dX0_see_68 : decode cX0_see 68 = .ok (.iconst 1, 1) := dk_4 (dk_at dksX0_see_2 21 rfl rfl)
theorem dX0_see_69 : decode cX0_see 69 = .ok (.iadd, 1) := dk_96 (dk_at dksX0_see_2 22 rfl rfl)
theorem dX0_see_70 : decode cX0_see 70 = .ok (.iload_n 2, 1) := dk_28 (dk_at dksX0_see_2 23 rfl rfl)
theorem dX0_see_71 : decode cX0_see 71 = .ok (.iastore, 1) := dk_79 (dk_at dksX0_see_3 0 rfl rfl)
theorem dX0_see_72 : decode cX0_see 72 = .ok (.aload_n 0, 1) := dk_42 (dk_at dksX0_see_3 1 rfl rfl)
theorem dX0_see_73 : decode cX0_see 73 = .ok (.getfield 141, 3) := dk_180 0 141 (dk_at dksX0_see_3 2 rfl rfl)
theorem dX0_see_76 : decode cX0_see 76 = .ok (.iconst 3, 1) := dk_6 (dk_at dksX0_see_3 5 rfl rfl)
theorem dX0_see_77 : decode cX0_see 77 = .ok (.aload_n 0, 1) := dk_42 (dk_at dksX0_see_3 6 rfl rfl)
theorem dX0_see_78 : decode cX0_see 78 = .ok (.getfield 189, 3) := dk_180 0 189 (dk_at dksX0_see_3 7 rfl rfl)
theorem dX0_see_81 : decode cX0_see 81 = .ok (.imul, 1) := dk_104 (dk_at dksX0_see_3 10 rfl rfl)
theorem dX0_see_82 : decode cX0_see 82 = .ok (.iconst 2, 1) := dk_5 (dk_at dksX0_see_3 11 rfl rfl)
theorem dX0_see_83 : decode cX0_see 83 = .ok (.iadd, 1) := dk_96 (dk_at dksX0_see_3 12 rfl rfl)
theorem dX0_see_84 : decode cX0_see 84 = .ok (.iload_n 3, 1) := dk_29 (dk_at dksX0_see_3 13 rfl rfl)
theorem dX0_see_85 : decode cX0_see 85 = .ok (.iastore, 1) := dk_79 (dk_at dksX0_see_3 14 rfl rfl)
theorem dX0_see_86 : decode cX0_see 86 = .ok (.aload_n 0, 1) := dk_42 (dk_at dksX0_see_3 15 rfl rfl)
theorem dX0_see_87 : decode cX0_see 87 = .ok (.dup, 1) := dk_89 (dk_at dksX0_see_3 16 rfl rfl)
theorem dX0_see_88 : decode cX0_see 88 = .ok (.getfield 189, 3) := dk_180 0 189 (dk_at dksX0_see_3 17 rfl rfl)
theorem dX0_see_91 : decode cX0_see 91 = .ok (.iconst 1, 1) := dk_4 (dk_at dksX0_see_3 20 rfl rfl)
theorem dX0_see_92 : decode cX0_see 92 = .ok (.iadd, 1) := dk_96 (dk_at dksX0_see_3 21 rfl rfl)
theorem dX0_see_93 : decode cX0_see 93 = .ok (.putfield 189, 3) := dk_181 0 189 (dk_at dksX0_see_4 0 rfl rfl)
theorem dX0_see_96 : decode cX0_see 96 = .ok (.aload_n 0, 1) := dk_42 (dk_at dksX0_see_4 3 rfl rfl)
theorem dX0_see_97 : decode cX0_see 97 = .ok (.getfield 189, 3) := dk_180 0 189 (dk_at dksX0_see_4 4 rfl rfl)
theorem dX0_see_100 : decode cX0_see 100 = .ok (.ireturn, 1) := dk_172 (dk_at dksX0_see_4 7 rfl rfl)
abbrev cX0_forget : ByteArray := prog_1_method_54_code
def yX0_forget : MethodName := ⟨RX0, "forget", "(I)I"⟩
def dkwX0_forget_1 : List UInt8 := [181, 0, 189, 28, 172]
abbrev dktX0_forget_1 : List UInt8 := dkwX0_forget_1 ++ []
def dkwX0_forget_0 : List UInt8 := [27, 133, 9, 42, 180, 0, 189, 133, 184, 0, 164, 154, 0, 5, 2, 172, 42, 180, 0, 189, 61, 42, 27]
abbrev dktX0_forget_0 : List UInt8 := dkwX0_forget_0 ++ dktX0_forget_1
theorem dksX0_forget_0 : cX0_forget.data.toList.drop 0 = dktX0_forget_0 := by decide +kernel
theorem dksX0_forget_1 : cX0_forget.data.toList.drop 23 = dktX0_forget_1 := dk_seg dksX0_forget_0 23 rfl rfl
theorem dX0_forget_0 : decode cX0_forget 0 = .ok (.iload_n 1, 1) := dk_27 (dk_at dksX0_forget_0 0 rfl rfl)
theorem dX0_forget_1 : decode cX0_forget 1 = .ok (.i2l, 1) := dk_133 (dk_at dksX0_forget_0 1 rfl rfl)
theorem dX0_forget_2 : decode cX0_forget 2 = .ok (.lconst 0, 1) := dk_9 (dk_at dksX0_forget_0 2 rfl rfl)
theorem dX0_forget_3 : decode cX0_forget 3 = .ok (.aload_n 0, 1) := dk_42 (dk_at dksX0_forget_0 3 rfl rfl)
theorem dX0_forget_4 : decode cX0_forget 4 = .ok (.getfield 189, 3) := dk_180 0 189 (dk_at dksX0_forget_0 4 rfl rfl)
theorem dX0_forget_7 : decode cX0_forget 7 = .ok (.i2l, 1) := dk_133 (dk_at dksX0_forget_0 7 rfl rfl)
theorem dX0_forget_8 : decode cX0_forget 8 = .ok (.invokestatic 164, 3) := dk_184 0 164 (dk_at dksX0_forget_0 8 rfl rfl)
theorem dX0_forget_11 : decode cX0_forget 11 = .ok (.ifCond .ne 5, 3) := dk_154 0 5 (dk_at dksX0_forget_0 11 rfl rfl)
theorem dX0_forget_14 : decode cX0_forget 14 = .ok (.iconst (-1), 1) := dk_2 (dk_at dksX0_forget_0 14 rfl rfl)
theorem dX0_forget_15 : decode cX0_forget 15 = .ok (.ireturn, 1) := dk_172 (dk_at dksX0_forget_0 15 rfl rfl)
theorem dX0_forget_16 : decode cX0_forget 16 = .ok (.aload_n 0, 1) := dk_42 (dk_at dksX0_forget_0 16 rfl rfl)
theorem dX0_forget_17 : decode cX0_forget 17 = .ok (.getfield 189, 3) := dk_180 0 189 (dk_at dksX0_forget_0 17 rfl rfl)
theorem dX0_forget_20 : decode cX0_forget 20 = .ok (.istore_n 2, 1) := dk_61 (dk_at dksX0_forget_0 20 rfl rfl)
theorem dX0_forget_21 : decode cX0_forget 21 = .ok (.aload_n 0, 1) := dk_42 (dk_at dksX0_forget_0 21 rfl rfl)
theorem dX0_forget_22 : decode cX0_forget 22 = .ok (.iload_n 1, 1) := dk_27 (dk_at dksX0_forget_0 22 rfl rfl)
theorem dX0_forget_23 : decode cX0_forget 23 = .ok (.putfield 189, 3) := dk_181 0 189 (dk_at dksX0_forget_1 0 rfl rfl)
theorem dX0_forget_26 : decode cX0_forget 26 = .ok (.iload_n 2, 1) := dk_28 (dk_at dksX0_forget_1 3 rfl rfl)
theorem dX0_forget_27 : decode cX0_forget 27 = .ok (.ireturn, 1) := dk_172 (dk_at dksX0_forget_1 4 rfl rfl)
abbrev cX0_kinds : ByteArray := prog_1_method_56_code
def yX0_kinds : MethodName := ⟨RX0, "kinds", "(I)I"⟩
def dkwX0_kinds_2 : List UInt8 := [153, 0, 9, 4, 29, 120, 167, 0, 4, 3, 128, 61, 132, 3, 1, 167, 255, 207, 28, 172]
abbrev dktX0_kinds_2 : List UInt8 := dkwX0_kinds_2 ++ []
def dkwX0_kinds_1 : List UInt8 := [180, 0, 134, 182, 0, 185, 42, 180, 0, 111, 180, 0, 20, 27, 50, 29, 181, 0, 26, 28, 42, 182, 1, 55]
abbrev dktX0_kinds_1 : List UInt8 := dkwX0_kinds_1 ++ dktX0_kinds_2
def dkwX0_kinds_0 : List UInt8 := [42, 27, 182, 0, 212, 154, 0, 5, 2, 172, 3, 61, 3, 62, 29, 7, 162, 0, 50, 42, 180, 0, 111, 42]
abbrev dktX0_kinds_0 : List UInt8 := dkwX0_kinds_0 ++ dktX0_kinds_1
theorem dksX0_kinds_0 : cX0_kinds.data.toList.drop 0 = dktX0_kinds_0 := by decide +kernel
theorem dksX0_kinds_1 : cX0_kinds.data.toList.drop 24 = dktX0_kinds_1 := dk_seg dksX0_kinds_0 24 rfl rfl
theorem dksX0_kinds_2 : cX0_kinds.data.toList.drop 48 = dktX0_kinds_2 := dk_seg dksX0_kinds_1 24 rfl rfl
theorem dX0_kinds_0 : decode cX0_kinds 0 = .ok (.aload_n 0, 1) := dk_42 (dk_at dksX0_kinds_0 0 rfl rfl)
theorem dX0_kinds_1 : decode cX0_kinds 1 = .ok (.iload_n 1, 1) := dk_27 (dk_at dksX0_kinds_0 1 rfl rfl)
theorem dX0_kinds_2 : decode cX0_kinds 2 = .ok (.invokevirtual 212, 3) := dk_182 0 212 (dk_at dksX0_kinds_0 2 rfl rfl)
theorem dX0_kinds_5 : decode cX0_kinds 5 = .ok (.ifCond .ne 5, 3) := dk_154 0 5 (dk_at dksX0_kinds_0 5 rfl rfl)
theorem dX0_kinds_8 : decode cX0_kinds 8 = .ok (.iconst (-1), 1) := dk_2 (dk_at dksX0_kinds_0 8 rfl rfl)
theorem dX0_kinds_9 : decode cX0_kinds 9 = .ok (.ireturn, 1) := dk_172 (dk_at dksX0_kinds_0 9 rfl rfl)
theorem dX0_kinds_10 : decode cX0_kinds 10 = .ok (.iconst 0, 1) := dk_3 (dk_at dksX0_kinds_0 10 rfl rfl)
theorem dX0_kinds_11 : decode cX0_kinds 11 = .ok (.istore_n 2, 1) := dk_61 (dk_at dksX0_kinds_0 11 rfl rfl)
theorem dX0_kinds_12 : decode cX0_kinds 12 = .ok (.iconst 0, 1) := dk_3 (dk_at dksX0_kinds_0 12 rfl rfl)
theorem dX0_kinds_13 : decode cX0_kinds 13 = .ok (.istore_n 3, 1) := dk_62 (dk_at dksX0_kinds_0 13 rfl rfl)
theorem dX0_kinds_14 : decode cX0_kinds 14 = .ok (.iload_n 3, 1) := dk_29 (dk_at dksX0_kinds_0 14 rfl rfl)
theorem dX0_kinds_15 : decode cX0_kinds 15 = .ok (.iconst 4, 1) := dk_7 (dk_at dksX0_kinds_0 15 rfl rfl)
theorem dX0_kinds_16 : decode cX0_kinds 16 = .ok (.if_icmp .ge 50, 3) := dk_162 0 50 (dk_at dksX0_kinds_0 16 rfl rfl)
theorem dX0_kinds_19 : decode cX0_kinds 19 = .ok (.aload_n 0, 1) := dk_42 (dk_at dksX0_kinds_0 19 rfl rfl)
theorem dX0_kinds_20 : decode cX0_kinds 20 = .ok (.getfield 111, 3) := dk_180 0 111 (dk_at dksX0_kinds_0 20 rfl rfl)
theorem dX0_kinds_23 : decode cX0_kinds 23 = .ok (.aload_n 0, 1) := dk_42 (dk_at dksX0_kinds_0 23 rfl rfl)
theorem dX0_kinds_24 : decode cX0_kinds 24 = .ok (.getfield 134, 3) := dk_180 0 134 (dk_at dksX0_kinds_1 0 rfl rfl)
theorem dX0_kinds_27 : decode cX0_kinds 27 = .ok (.invokevirtual 185, 3) := dk_182 0 185 (dk_at dksX0_kinds_1 3 rfl rfl)
theorem dX0_kinds_30 : decode cX0_kinds 30 = .ok (.aload_n 0, 1) := dk_42 (dk_at dksX0_kinds_1 6 rfl rfl)
theorem dX0_kinds_31 : decode cX0_kinds 31 = .ok (.getfield 111, 3) := dk_180 0 111 (dk_at dksX0_kinds_1 7 rfl rfl)
theorem dX0_kinds_34 : decode cX0_kinds 34 = .ok (.getfield 20, 3) := dk_180 0 20 (dk_at dksX0_kinds_1 10 rfl rfl)
theorem dX0_kinds_37 : decode cX0_kinds 37 = .ok (.iload_n 1, 1) := dk_27 (dk_at dksX0_kinds_1 13 rfl rfl)
theorem dX0_kinds_38 : decode cX0_kinds 38 = .ok (.aaload, 1) := dk_50 (dk_at dksX0_kinds_1 14 rfl rfl)
theorem dX0_kinds_39 : decode cX0_kinds 39 = .ok (.iload_n 3, 1) := dk_29 (dk_at dksX0_kinds_1 15 rfl rfl)
theorem dX0_kinds_40 : decode cX0_kinds 40 = .ok (.putfield 26, 3) := dk_181 0 26 (dk_at dksX0_kinds_1 16 rfl rfl)
theorem dX0_kinds_43 : decode cX0_kinds 43 = .ok (.iload_n 2, 1) := dk_28 (dk_at dksX0_kinds_1 19 rfl rfl)
theorem dX0_kinds_44 : decode cX0_kinds 44 = .ok (.aload_n 0, 1) := dk_42 (dk_at dksX0_kinds_1 20 rfl rfl)
theorem dX0_kinds_45 : decode cX0_kinds 45 = .ok (.invokevirtual 311, 3) := dk_182 1 55 (dk_at dksX0_kinds_1 21 rfl rfl)
theorem dX0_kinds_48 : decode cX0_kinds 48 = .ok (.ifCond .eq 9, 3) := dk_153 0 9 (dk_at dksX0_kinds_2 0 rfl rfl)
theorem dX0_kinds_51 : decode cX0_kinds 51 = .ok (.iconst 1, 1) := dk_4 (dk_at dksX0_kinds_2 3 rfl rfl)
theorem dX0_kinds_52 : decode cX0_kinds 52 = .ok (.iload_n 3, 1) := dk_29 (dk_at dksX0_kinds_2 4 rfl rfl)
theorem dX0_kinds_53 : decode cX0_kinds 53 = .ok (.ishl, 1) := dk_120 (dk_at dksX0_kinds_2 5 rfl rfl)
theorem dX0_kinds_54 : decode cX0_kinds 54 = .ok (.goto 4, 3) := dk_167 0 4 (dk_at dksX0_kinds_2 6 rfl rfl)
theorem dX0_kinds_57 : decode cX0_kinds 57 = .ok (.iconst 0, 1) := dk_3 (dk_at dksX0_kinds_2 9 rfl rfl)
theorem dX0_kinds_58 : decode cX0_kinds 58 = .ok (.ior, 1) := dk_128 (dk_at dksX0_kinds_2 10 rfl rfl)
theorem dX0_kinds_59 : decode cX0_kinds 59 = .ok (.istore_n 2, 1) := dk_61 (dk_at dksX0_kinds_2 11 rfl rfl)
theorem dX0_kinds_60 : decode cX0_kinds 60 = .ok (.iinc 3 1, 3) := dk_132 3 1 (dk_at dksX0_kinds_2 12 rfl rfl)
theorem dX0_kinds_63 : decode cX0_kinds 63 = .ok (.goto (-49), 3) := dk_167 255 207 (dk_at dksX0_kinds_2 15 rfl rfl)
theorem dX0_kinds_66 : decode cX0_kinds 66 = .ok (.iload_n 2, 1) := dk_28 (dk_at dksX0_kinds_2 18 rfl rfl)
theorem dX0_kinds_67 : decode cX0_kinds 67 = .ok (.ireturn, 1) := dk_172 (dk_at dksX0_kinds_2 19 rfl rfl)
abbrev cX0_isSo : ByteArray := prog_1_method_55_code
def yX0_isSo : MethodName := ⟨RX0, "isSo", "()Z"⟩
def dkwX0_isSo_6 : List UInt8 := [167, 255, 185, 27, 172]
abbrev dktX0_isSo_6 : List UInt8 := dkwX0_isSo_6 ++ []
def dkwX0_isSo_5 : List UInt8 := [180, 0, 141, 6, 28, 104, 5, 96, 46, 160, 0, 7, 4, 167, 0, 4, 3, 126, 60, 132, 2, 1]
abbrev dktX0_isSo_5 : List UInt8 := dkwX0_isSo_5 ++ dktX0_isSo_6
def dkwX0_isSo_4 : List UInt8 := [180, 0, 44, 162, 0, 37, 42, 180, 0, 149, 7, 42, 180, 0, 141, 6, 28, 104, 46, 104, 29, 96, 46, 42]
abbrev dktX0_isSo_4 : List UInt8 := dkwX0_isSo_4 ++ dktX0_isSo_5
def dkwX0_isSo_3 : List UInt8 := [180, 0, 189, 162, 0, 69, 42, 180, 0, 141, 6, 28, 104, 4, 96, 46, 62, 27, 29, 42, 180, 0, 134]
abbrev dktX0_isSo_3 : List UInt8 := dkwX0_isSo_3 ++ dktX0_isSo_4
def dkwX0_isSo_2 : List UInt8 := [167, 255, 220, 42, 42, 180, 0, 111, 3, 182, 0, 107, 132, 1, 1, 167, 255, 197, 4, 60, 3, 61, 28, 42]
abbrev dktX0_isSo_2 : List UInt8 := dkwX0_isSo_2 ++ dktX0_isSo_3
def dkwX0_isSo_1 : List UInt8 := [180, 0, 149, 7, 27, 104, 28, 96, 42, 180, 0, 111, 180, 0, 20, 28, 50, 180, 0, 31, 79, 132, 2, 1]
abbrev dktX0_isSo_1 : List UInt8 := dkwX0_isSo_1 ++ dktX0_isSo_2
def dkwX0_isSo_0 : List UInt8 := [3, 60, 27, 16, 40, 163, 0, 59, 3, 61, 28, 42, 180, 0, 134, 180, 0, 44, 162, 0, 31, 42]
abbrev dktX0_isSo_0 : List UInt8 := dkwX0_isSo_0 ++ dktX0_isSo_1
theorem dksX0_isSo_0 : cX0_isSo.data.toList.drop 0 = dktX0_isSo_0 := by decide +kernel
theorem dksX0_isSo_1 : cX0_isSo.data.toList.drop 22 = dktX0_isSo_1 := dk_seg dksX0_isSo_0 22 rfl rfl
theorem dksX0_isSo_2 : cX0_isSo.data.toList.drop 46 = dktX0_isSo_2 := dk_seg dksX0_isSo_1 24 rfl rfl
theorem dksX0_isSo_3 : cX0_isSo.data.toList.drop 70 = dktX0_isSo_3 := dk_seg dksX0_isSo_2 24 rfl rfl
theorem dksX0_isSo_4 : cX0_isSo.data.toList.drop 93 = dktX0_isSo_4 := dk_seg dksX0_isSo_3 23 rfl rfl
theorem dksX0_isSo_5 : cX0_isSo.data.toList.drop 117 = dktX0_isSo_5 := dk_seg dksX0_isSo_4 24 rfl rfl
theorem dksX0_isSo_6 : cX0_isSo.data.toList.drop 139 = dktX0_isSo_6 := dk_seg dksX0_isSo_5 22 rfl rfl
theorem dX0_isSo_0 : decode cX0_isSo 0 = .ok (.iconst 0, 1) := dk_3 (dk_at dksX0_isSo_0 0 rfl rfl)
theorem dX0_isSo_1 : decode cX0_isSo 1 = .ok (.istore_n 1, 1) := dk_60 (dk_at dksX0_isSo_0 1 rfl rfl)
theorem dX0_isSo_2 : decode cX0_isSo 2 = .ok (.iload_n 1, 1) := dk_27 (dk_at dksX0_isSo_0 2 rfl rfl)
theorem dX0_isSo_3 : decode cX0_isSo 3 = .ok (.bipush 40, 2) := dk_16 40 (dk_at dksX0_isSo_0 3 rfl rfl)
theorem dX0_isSo_5 : decode cX0_isSo 5 = .ok (.if_icmp .gt 59, 3) := dk_163 0 59 (dk_at dksX0_isSo_0 5 rfl rfl)
theorem dX0_isSo_8 : decode cX0_isSo 8 = .ok (.iconst 0, 1) := dk_3 (dk_at dksX0_isSo_0 8 rfl rfl)
theorem dX0_isSo_9 : decode cX0_isSo 9 = .ok (.istore_n 2, 1) := dk_61 (dk_at dksX0_isSo_0 9 rfl rfl)
theorem dX0_isSo_10 : decode cX0_isSo 10 = .ok (.iload_n 2, 1) := dk_28 (dk_at dksX0_isSo_0 10 rfl rfl)
theorem dX0_isSo_11 : decode cX0_isSo 11 = .ok (.aload_n 0, 1) := dk_42 (dk_at dksX0_isSo_0 11 rfl rfl)
theorem dX0_isSo_12 : decode cX0_isSo 12 = .ok (.getfield 134, 3) := dk_180 0 134 (dk_at dksX0_isSo_0 12 rfl rfl)
theorem dX0_isSo_15 : decode cX0_isSo 15 = .ok (.getfield 44, 3) := dk_180 0 44 (dk_at dksX0_isSo_0 15 rfl rfl)
theorem dX0_isSo_18 : decode cX0_isSo 18 = .ok (.if_icmp .ge 31, 3) := dk_162 0 31 (dk_at dksX0_isSo_0 18 rfl rfl)
theorem dX0_isSo_21 : decode cX0_isSo 21 = .ok (.aload_n 0, 1) := dk_42 (dk_at dksX0_isSo_0 21 rfl rfl)
theorem dX0_isSo_22 : decode cX0_isSo 22 = .ok (.getfield 149, 3) := dk_180 0 149 (dk_at dksX0_isSo_1 0 rfl rfl)
theorem dX0_isSo_25 : decode cX0_isSo 25 = .ok (.iconst 4, 1) := dk_7 (dk_at dksX0_isSo_1 3 rfl rfl)
theorem dX0_isSo_26 : decode cX0_isSo 26 = .ok (.iload_n 1, 1) := dk_27 (dk_at dksX0_isSo_1 4 rfl rfl)
theorem dX0_isSo_27 : decode cX0_isSo 27 = .ok (.imul, 1) := dk_104 (dk_at dksX0_isSo_1 5 rfl rfl)
theorem dX0_isSo_28 : decode cX0_isSo 28 = .ok (.iload_n 2, 1) := dk_28 (dk_at dksX0_isSo_1 6 rfl rfl)
theorem dX0_isSo_29 : decode cX0_isSo 29 = .ok (.iadd, 1) := dk_96 (dk_at dksX0_isSo_1 7 rfl rfl)
theorem dX0_isSo_30 : decode cX0_isSo 30 = .ok (.aload_n 0, 1) := dk_42 (dk_at dksX0_isSo_1 8 rfl rfl)
theorem dX0_isSo_31 : decode cX0_isSo 31 = .ok (.getfield 111, 3) := dk_180 0 111 (dk_at dksX0_isSo_1 9 rfl rfl)
theorem dX0_isSo_34 : decode cX0_isSo 34 = .ok (.getfield 20, 3) := dk_180 0 20 (dk_at dksX0_isSo_1 12 rfl rfl)
theorem dX0_isSo_37 : decode cX0_isSo 37 = .ok (.iload_n 2, 1) := dk_28 (dk_at dksX0_isSo_1 15 rfl rfl)
theorem dX0_isSo_38 : decode cX0_isSo 38 = .ok (.aaload, 1) := dk_50 (dk_at dksX0_isSo_1 16 rfl rfl)
theorem dX0_isSo_39 : decode cX0_isSo 39 = .ok (.getfield 31, 3) := dk_180 0 31 (dk_at dksX0_isSo_1 17 rfl rfl)
theorem dX0_isSo_42 : decode cX0_isSo 42 = .ok (.iastore, 1) := dk_79 (dk_at dksX0_isSo_1 20 rfl rfl)
theorem dX0_isSo_43 : decode cX0_isSo 43 = .ok (.iinc 2 1, 3) := dk_132 2 1 (dk_at dksX0_isSo_1 21 rfl rfl)
theorem dX0_isSo_46 : decode cX0_isSo 46 = .ok (.goto (-36), 3) := dk_167 255 220 (dk_at dksX0_isSo_2 0 rfl rfl)
theorem dX0_isSo_49 : decode cX0_isSo 49 = .ok (.aload_n 0, 1) := dk_42 (dk_at dksX0_isSo_2 3 rfl rfl)
theorem dX0_isSo_50 : decode cX0_isSo 50 = .ok (.aload_n 0, 1) := dk_42 (dk_at dksX0_isSo_2 4 rfl rfl)
theorem dX0_isSo_51 : decode cX0_isSo 51 = .ok (.getfield 111, 3) := dk_180 0 111 (dk_at dksX0_isSo_2 5 rfl rfl)
theorem dX0_isSo_54 : decode cX0_isSo 54 = .ok (.iconst 0, 1) := dk_3 (dk_at dksX0_isSo_2 8 rfl rfl)
theorem dX0_isSo_55 : decode cX0_isSo 55 = .ok (.invokevirtual 107, 3) := dk_182 0 107 (dk_at dksX0_isSo_2 9 rfl rfl)
theorem dX0_isSo_58 : decode cX0_isSo 58 = .ok (.iinc 1 1, 3) := dk_132 1 1 (dk_at dksX0_isSo_2 12 rfl rfl)
theorem dX0_isSo_61 : decode cX0_isSo 61 = .ok (.goto (-59), 3) := dk_167 255 197 (dk_at dksX0_isSo_2 15 rfl rfl)
theorem dX0_isSo_64 : decode cX0_isSo 64 = .ok (.iconst 1, 1) := dk_4 (dk_at dksX0_isSo_2 18 rfl rfl)
theorem dX0_isSo_65 : decode cX0_isSo 65 = .ok (.istore_n 1, 1) := dk_60 (dk_at dksX0_isSo_2 19 rfl rfl)
theorem dX0_isSo_66 : decode cX0_isSo 66 = .ok (.iconst 0, 1) := dk_3 (dk_at dksX0_isSo_2 20 rfl rfl)
theorem dX0_isSo_67 : decode cX0_isSo 67 = .ok (.istore_n 2, 1) := dk_61 (dk_at dksX0_isSo_2 21 rfl rfl)
theorem dX0_isSo_68 : decode cX0_isSo 68 = .ok (.iload_n 2, 1) := dk_28 (dk_at dksX0_isSo_2 22 rfl rfl)
theorem dX0_isSo_69 : decode cX0_isSo 69 = .ok (.aload_n 0, 1) := dk_42 (dk_at dksX0_isSo_2 23 rfl rfl)
theorem dX0_isSo_70 : decode cX0_isSo 70 = .ok (.getfield 189, 3) := dk_180 0 189 (dk_at dksX0_isSo_3 0 rfl rfl)
theorem dX0_isSo_73 : decode cX0_isSo 73 = .ok (.if_icmp .ge 69, 3) := dk_162 0 69 (dk_at dksX0_isSo_3 3 rfl rfl)
theorem dX0_isSo_76 : decode cX0_isSo 76 = .ok (.aload_n 0, 1) := dk_42 (dk_at dksX0_isSo_3 6 rfl rfl)
theorem dX0_isSo_77 : decode cX0_isSo 77 = .ok (.getfield 141, 3) := dk_180 0 141 (dk_at dksX0_isSo_3 7 rfl rfl)
theorem dX0_isSo_80 : decode cX0_isSo 80 = .ok (.iconst 3, 1) := dk_6 (dk_at dksX0_isSo_3 10 rfl rfl)
theorem dX0_isSo_81 : decode cX0_isSo 81 = .ok (.iload_n 2, 1) := dk_28 (dk_at dksX0_isSo_3 11 rfl rfl)
theorem dX0_isSo_82 : decode cX0_isSo 82 = .ok (.imul, 1) := dk_104 (dk_at dksX0_isSo_3 12 rfl rfl)
theorem dX0_isSo_83 : decode cX0_isSo 83 = .ok (.iconst 1, 1) := dk_4 (dk_at dksX0_isSo_3 13 rfl rfl)
theorem dX0_isSo_84 : decode cX0_isSo 84 = .ok (.iadd, 1) := dk_96 (dk_at dksX0_isSo_3 14 rfl rfl)
theorem dX0_isSo_85 : decode cX0_isSo 85 = .ok (.iaload, 1) := dk_46 (dk_at dksX0_isSo_3 15 rfl rfl)
theorem dX0_isSo_86 : decode cX0_isSo 86 = .ok (.istore_n 3, 1) := dk_62 (dk_at dksX0_isSo_3 16 rfl rfl)
theorem dX0_isSo_87 : decode cX0_isSo 87 = .ok (.iload_n 1, 1) := dk_27 (dk_at dksX0_isSo_3 17 rfl rfl)
theorem dX0_isSo_88 : decode cX0_isSo 88 = .ok (.iload_n 3, 1) := dk_29 (dk_at dksX0_isSo_3 18 rfl rfl)
theorem dX0_isSo_89 : decode cX0_isSo 89 = .ok (.aload_n 0, 1) := dk_42 (dk_at dksX0_isSo_3 19 rfl rfl)
theorem dX0_isSo_90 : decode cX0_isSo 90 = .ok (.getfield 134, 3) := dk_180 0 134 (dk_at dksX0_isSo_3 20 rfl rfl)
theorem dX0_isSo_93 : decode cX0_isSo 93 = .ok (.getfield 44, 3) := dk_180 0 44 (dk_at dksX0_isSo_4 0 rfl rfl)
theorem dX0_isSo_96 : decode cX0_isSo 96 = .ok (.if_icmp .ge 37, 3) := dk_162 0 37 (dk_at dksX0_isSo_4 3 rfl rfl)
theorem dX0_isSo_99 : decode cX0_isSo 99 = .ok (.aload_n 0, 1) := dk_42 (dk_at dksX0_isSo_4 6 rfl rfl)
theorem dX0_isSo_100 : decode cX0_isSo 100 = .ok (.getfield 149, 3) := dk_180 0 149 (dk_at dksX0_isSo_4 7 rfl rfl)
theorem dX0_isSo_103 : decode cX0_isSo 103 = .ok (.iconst 4, 1) := dk_7 (dk_at dksX0_isSo_4 10 rfl rfl)
theorem dX0_isSo_104 : decode cX0_isSo 104 = .ok (.aload_n 0, 1) := dk_42 (dk_at dksX0_isSo_4 11 rfl rfl)
theorem dX0_isSo_105 : decode cX0_isSo 105 = .ok (.getfield 141, 3) := dk_180 0 141 (dk_at dksX0_isSo_4 12 rfl rfl)
theorem dX0_isSo_108 : decode cX0_isSo 108 = .ok (.iconst 3, 1) := dk_6 (dk_at dksX0_isSo_4 15 rfl rfl)
theorem dX0_isSo_109 : decode cX0_isSo 109 = .ok (.iload_n 2, 1) := dk_28 (dk_at dksX0_isSo_4 16 rfl rfl)
theorem dX0_isSo_110 : decode cX0_isSo 110 = .ok (.imul, 1) := dk_104 (dk_at dksX0_isSo_4 17 rfl rfl)
theorem dX0_isSo_111 : decode cX0_isSo 111 = .ok (.iaload, 1) := dk_46 (dk_at dksX0_isSo_4 18 rfl rfl)
theorem dX0_isSo_112 : decode cX0_isSo 112 = .ok (.imul, 1) := dk_104 (dk_at dksX0_isSo_4 19 rfl rfl)
theorem dX0_isSo_113 : decode cX0_isSo 113 = .ok (.iload_n 3, 1) := dk_29 (dk_at dksX0_isSo_4 20 rfl rfl)
theorem dX0_isSo_114 : decode cX0_isSo 114 = .ok (.iadd, 1) := dk_96 (dk_at dksX0_isSo_4 21 rfl rfl)
theorem dX0_isSo_115 : decode cX0_isSo 115 = .ok (.iaload, 1) := dk_46 (dk_at dksX0_isSo_4 22 rfl rfl)
theorem dX0_isSo_116 : decode cX0_isSo 116 = .ok (.aload_n 0, 1) := dk_42 (dk_at dksX0_isSo_4 23 rfl rfl)
theorem dX0_isSo_117 : decode cX0_isSo 117 = .ok (.getfield 141, 3) := dk_180 0 141 (dk_at dksX0_isSo_5 0 rfl rfl)
theorem dX0_isSo_120 : decode cX0_isSo 120 = .ok (.iconst 3, 1) := dk_6 (dk_at dksX0_isSo_5 3 rfl rfl)
theorem dX0_isSo_121 : decode cX0_isSo 121 = .ok (.iload_n 2, 1) := dk_28 (dk_at dksX0_isSo_5 4 rfl rfl)
theorem dX0_isSo_122 : decode cX0_isSo 122 = .ok (.imul, 1) := dk_104 (dk_at dksX0_isSo_5 5 rfl rfl)
theorem dX0_isSo_123 : decode cX0_isSo 123 = .ok (.iconst 2, 1) := dk_5 (dk_at dksX0_isSo_5 6 rfl rfl)
theorem dX0_isSo_124 : decode cX0_isSo 124 = .ok (.iadd, 1) := dk_96 (dk_at dksX0_isSo_5 7 rfl rfl)
theorem dX0_isSo_125 : decode cX0_isSo 125 = .ok (.iaload, 1) := dk_46 (dk_at dksX0_isSo_5 8 rfl rfl)
theorem dX0_isSo_126 : decode cX0_isSo 126 = .ok (.if_icmp .ne 7, 3) := dk_160 0 7 (dk_at dksX0_isSo_5 9 rfl rfl)
theorem dX0_isSo_129 : decode cX0_isSo 129 = .ok (.iconst 1, 1) := dk_4 (dk_at dksX0_isSo_5 12 rfl rfl)
theorem dX0_isSo_130 : decode cX0_isSo 130 = .ok (.goto 4, 3) := dk_167 0 4 (dk_at dksX0_isSo_5 13 rfl rfl)
theorem dX0_isSo_133 : decode cX0_isSo 133 = .ok (.iconst 0, 1) := dk_3 (dk_at dksX0_isSo_5 16 rfl rfl)
theorem dX0_isSo_134 : decode cX0_isSo 134 = .ok (.iand, 1) := dk_126 (dk_at dksX0_isSo_5 17 rfl rfl)
theorem dX0_isSo_135 : decode cX0_isSo 135 = .ok (.istore_n 1, 1) := dk_60 (dk_at dksX0_isSo_5 18 rfl rfl)
theorem dX0_isSo_136 : decode cX0_isSo 136 = .ok (.iinc 2 1, 3) := dk_132 2 1 (dk_at dksX0_isSo_5 19 rfl rfl)
theorem dX0_isSo_139 : decode cX0_isSo 139 = .ok (.goto (-71), 3) := dk_167 255 185 (dk_at dksX0_isSo_6 0 rfl rfl)
theorem dX0_isSo_142 : decode cX0_isSo 142 = .ok (.iload_n 1, 1) := dk_27 (dk_at dksX0_isSo_6 3 rfl rfl)
theorem dX0_isSo_143 : decode cX0_isSo 143 = .ok (.ireturn, 1) := dk_172 (dk_at dksX0_isSo_6 4 rfl rfl)
abbrev cX0_losses : ByteArray := prog_1_method_58_code
def yX0_losses : MethodName := ⟨RX0, "losses", "(I)I"⟩
def dkwX0_losses_1 : List UInt8 := [182, 1, 59, 153, 0, 9, 4, 29, 120, 167, 0, 4, 3, 128, 61, 132, 3, 1, 167, 255, 228, 28, 172]
abbrev dktX0_losses_1 : List UInt8 := dkwX0_losses_1 ++ []
def dkwX0_losses_0 : List UInt8 := [42, 27, 182, 0, 212, 154, 0, 5, 2, 172, 3, 61, 3, 62, 29, 16, 9, 163, 0, 28, 28, 42, 27, 29]
abbrev dktX0_losses_0 : List UInt8 := dkwX0_losses_0 ++ dktX0_losses_1
theorem dksX0_losses_0 : cX0_losses.data.toList.drop 0 = dktX0_losses_0 := by decide +kernel
theorem dksX0_losses_1 : cX0_losses.data.toList.drop 24 = dktX0_losses_1 := dk_seg dksX0_losses_0 24 rfl rfl
theorem dX0_losses_0 : decode cX0_losses 0 = .ok (.aload_n 0, 1) := dk_42 (dk_at dksX0_losses_0 0 rfl rfl)
theorem dX0_losses_1 : decode cX0_losses 1 = .ok (.iload_n 1, 1) := dk_27 (dk_at dksX0_losses_0 1 rfl rfl)
theorem dX0_losses_2 : decode cX0_losses 2 = .ok (.invokevirtual 212, 3) := dk_182 0 212 (dk_at dksX0_losses_0 2 rfl rfl)
theorem dX0_losses_5 : decode cX0_losses 5 = .ok (.ifCond .ne 5, 3) := dk_154 0 5 (dk_at dksX0_losses_0 5 rfl rfl)
theorem dX0_losses_8 : decode cX0_losses 8 = .ok (.iconst (-1), 1) := dk_2 (dk_at dksX0_losses_0 8 rfl rfl)
theorem dX0_losses_9 : decode cX0_losses 9 = .ok (.ireturn, 1) := dk_172 (dk_at dksX0_losses_0 9 rfl rfl)
theorem dX0_losses_10 : decode cX0_losses 10 = .ok (.iconst 0, 1) := dk_3 (dk_at dksX0_losses_0 10 rfl rfl)
theorem dX0_losses_11 : decode cX0_losses 11 = .ok (.istore_n 2, 1) := dk_61 (dk_at dksX0_losses_0 11 rfl rfl)
theorem dX0_losses_12 : decode cX0_losses 12 = .ok (.iconst 0, 1) := dk_3 (dk_at dksX0_losses_0 12 rfl rfl)
theorem dX0_losses_13 : decode cX0_losses 13 = .ok (.istore_n 3, 1) := dk_62 (dk_at dksX0_losses_0 13 rfl rfl)
theorem dX0_losses_14 : decode cX0_losses 14 = .ok (.iload_n 3, 1) := dk_29 (dk_at dksX0_losses_0 14 rfl rfl)
theorem dX0_losses_15 : decode cX0_losses 15 = .ok (.bipush 9, 2) := dk_16 9 (dk_at dksX0_losses_0 15 rfl rfl)
theorem dX0_losses_17 : decode cX0_losses 17 = .ok (.if_icmp .gt 28, 3) := dk_163 0 28 (dk_at dksX0_losses_0 17 rfl rfl)
theorem dX0_losses_20 : decode cX0_losses 20 = .ok (.iload_n 2, 1) := dk_28 (dk_at dksX0_losses_0 20 rfl rfl)
theorem dX0_losses_21 : decode cX0_losses 21 = .ok (.aload_n 0, 1) := dk_42 (dk_at dksX0_losses_0 21 rfl rfl)
theorem dX0_losses_22 : decode cX0_losses 22 = .ok (.iload_n 1, 1) := dk_27 (dk_at dksX0_losses_0 22 rfl rfl)
theorem dX0_losses_23 : decode cX0_losses 23 = .ok (.iload_n 3, 1) := dk_29 (dk_at dksX0_losses_0 23 rfl rfl)
theorem dX0_losses_24 : decode cX0_losses 24 = .ok (.invokevirtual 315, 3) := dk_182 1 59 (dk_at dksX0_losses_1 0 rfl rfl)
theorem dX0_losses_27 : decode cX0_losses 27 = .ok (.ifCond .eq 9, 3) := dk_153 0 9 (dk_at dksX0_losses_1 3 rfl rfl)
theorem dX0_losses_30 : decode cX0_losses 30 = .ok (.iconst 1, 1) := dk_4 (dk_at dksX0_losses_1 6 rfl rfl)
theorem dX0_losses_31 : decode cX0_losses 31 = .ok (.iload_n 3, 1) := dk_29 (dk_at dksX0_losses_1 7 rfl rfl)
theorem dX0_losses_32 : decode cX0_losses 32 = .ok (.ishl, 1) := dk_120 (dk_at dksX0_losses_1 8 rfl rfl)
theorem dX0_losses_33 : decode cX0_losses 33 = .ok (.goto 4, 3) := dk_167 0 4 (dk_at dksX0_losses_1 9 rfl rfl)
theorem dX0_losses_36 : decode cX0_losses 36 = .ok (.iconst 0, 1) := dk_3 (dk_at dksX0_losses_1 12 rfl rfl)
theorem dX0_losses_37 : decode cX0_losses 37 = .ok (.ior, 1) := dk_128 (dk_at dksX0_losses_1 13 rfl rfl)
theorem dX0_losses_38 : decode cX0_losses 38 = .ok (.istore_n 2, 1) := dk_61 (dk_at dksX0_losses_1 14 rfl rfl)
theorem dX0_losses_39 : decode cX0_losses 39 = .ok (.iinc 3 1, 3) := dk_132 3 1 (dk_at dksX0_losses_1 15 rfl rfl)
theorem dX0_losses_42 : decode cX0_losses 42 = .ok (.goto (-28), 3) := dk_167 255 228 (dk_at dksX0_losses_1 18 rfl rfl)
theorem dX0_losses_45 : decode cX0_losses 45 = .ok (.iload_n 2, 1) := dk_28 (dk_at dksX0_losses_1 21 rfl rfl)
theorem dX0_losses_46 : decode cX0_losses 46 = .ok (.ireturn, 1) := dk_172 (dk_at dksX0_losses_1 22 rfl rfl)
abbrev cX0_isLossSo : ByteArray := prog_1_method_57_code
def yX0_isLossSo : MethodName := ⟨RX0, "isLossSo", "(II)Z"⟩
def dkwX0_isLossSo_1 : List UInt8 := [42, 182, 1, 55, 172]
abbrev dktX0_isLossSo_1 : List UInt8 := dkwX0_isLossSo_1 ++ []
def dkwX0_isLossSo_0 : List UInt8 := [42, 180, 0, 111, 42, 180, 0, 134, 182, 0, 185, 42, 180, 0, 111, 180, 0, 20, 27, 50, 28, 181, 0, 77]
abbrev dktX0_isLossSo_0 : List UInt8 := dkwX0_isLossSo_0 ++ dktX0_isLossSo_1
theorem dksX0_isLossSo_0 : cX0_isLossSo.data.toList.drop 0 = dktX0_isLossSo_0 := by decide +kernel
theorem dksX0_isLossSo_1 : cX0_isLossSo.data.toList.drop 24 = dktX0_isLossSo_1 := dk_seg dksX0_isLossSo_0 24 rfl rfl
theorem dX0_isLossSo_0 : decode cX0_isLossSo 0 = .ok (.aload_n 0, 1) := dk_42 (dk_at dksX0_isLossSo_0 0 rfl rfl)
theorem dX0_isLossSo_1 : decode cX0_isLossSo 1 = .ok (.getfield 111, 3) := dk_180 0 111 (dk_at dksX0_isLossSo_0 1 rfl rfl)
theorem dX0_isLossSo_4 : decode cX0_isLossSo 4 = .ok (.aload_n 0, 1) := dk_42 (dk_at dksX0_isLossSo_0 4 rfl rfl)
theorem dX0_isLossSo_5 : decode cX0_isLossSo 5 = .ok (.getfield 134, 3) := dk_180 0 134 (dk_at dksX0_isLossSo_0 5 rfl rfl)
theorem dX0_isLossSo_8 : decode cX0_isLossSo 8 = .ok (.invokevirtual 185, 3) := dk_182 0 185 (dk_at dksX0_isLossSo_0 8 rfl rfl)
theorem dX0_isLossSo_11 : decode cX0_isLossSo 11 = .ok (.aload_n 0, 1) := dk_42 (dk_at dksX0_isLossSo_0 11 rfl rfl)
theorem dX0_isLossSo_12 : decode cX0_isLossSo 12 = .ok (.getfield 111, 3) := dk_180 0 111 (dk_at dksX0_isLossSo_0 12 rfl rfl)
theorem dX0_isLossSo_15 : decode cX0_isLossSo 15 = .ok (.getfield 20, 3) := dk_180 0 20 (dk_at dksX0_isLossSo_0 15 rfl rfl)
theorem dX0_isLossSo_18 : decode cX0_isLossSo 18 = .ok (.iload_n 1, 1) := dk_27 (dk_at dksX0_isLossSo_0 18 rfl rfl)
theorem dX0_isLossSo_19 : decode cX0_isLossSo 19 = .ok (.aaload, 1) := dk_50 (dk_at dksX0_isLossSo_0 19 rfl rfl)
theorem dX0_isLossSo_20 : decode cX0_isLossSo 20 = .ok (.iload_n 2, 1) := dk_28 (dk_at dksX0_isLossSo_0 20 rfl rfl)
theorem dX0_isLossSo_21 : decode cX0_isLossSo 21 = .ok (.putfield 77, 3) := dk_181 0 77 (dk_at dksX0_isLossSo_0 21 rfl rfl)
theorem dX0_isLossSo_24 : decode cX0_isLossSo 24 = .ok (.aload_n 0, 1) := dk_42 (dk_at dksX0_isLossSo_1 0 rfl rfl)
theorem dX0_isLossSo_25 : decode cX0_isLossSo 25 = .ok (.invokevirtual 311, 3) := dk_182 1 55 (dk_at dksX0_isLossSo_1 1 rfl rfl)
theorem dX0_isLossSo_28 : decode cX0_isLossSo 28 = .ok (.ireturn, 1) := dk_172 (dk_at dksX0_isLossSo_1 4 rfl rfl)
abbrev cX0_ask : ByteArray := prog_1_method_61_code
def yX0_ask : MethodName := ⟨RX0, "ask", "(II)I"⟩
def dkwX0_ask_3 : List UInt8 := [167, 0, 19, 28, 154, 0, 10, 42, 180, 0, 255, 167, 0, 8, 42, 180, 1, 2, 116, 172]
abbrev dktX0_ask_3 : List UInt8 := dkwX0_ask_3 ++ []
def dkwX0_ask_2 : List UInt8 := [182, 1, 65, 116, 182, 1, 15, 132, 4, 1, 167, 255, 232, 42, 180, 0, 255, 16, 252, 160, 0, 8, 16, 252]
abbrev dktX0_ask_2 : List UInt8 := dkwX0_ask_2 ++ dktX0_ask_3
def dkwX0_ask_1 : List UInt8 := [29, 116, 182, 1, 8, 3, 54, 4, 21, 4, 16, 40, 163, 0, 23, 42, 21, 4, 42, 21, 4, 29]
abbrev dktX0_ask_1 : List UInt8 := dkwX0_ask_1 ++ dktX0_ask_2
def dkwX0_ask_0 : List UInt8 := [42, 27, 182, 0, 212, 153, 0, 10, 28, 184, 1, 12, 154, 0, 5, 2, 172, 42, 27, 182, 1, 62, 62, 42]
abbrev dktX0_ask_0 : List UInt8 := dkwX0_ask_0 ++ dktX0_ask_1
theorem dksX0_ask_0 : cX0_ask.data.toList.drop 0 = dktX0_ask_0 := by decide +kernel
theorem dksX0_ask_1 : cX0_ask.data.toList.drop 24 = dktX0_ask_1 := dk_seg dksX0_ask_0 24 rfl rfl
theorem dksX0_ask_2 : cX0_ask.data.toList.drop 46 = dktX0_ask_2 := dk_seg dksX0_ask_1 22 rfl rfl
theorem dksX0_ask_3 : cX0_ask.data.toList.drop 70 = dktX0_ask_3 := dk_seg dksX0_ask_2 24 rfl rfl
theorem dX0_ask_0 : decode cX0_ask 0 = .ok (.aload_n 0, 1) := dk_42 (dk_at dksX0_ask_0 0 rfl rfl)
theorem dX0_ask_1 : decode cX0_ask 1 = .ok (.iload_n 1, 1) := dk_27 (dk_at dksX0_ask_0 1 rfl rfl)
theorem dX0_ask_2 : decode cX0_ask 2 = .ok (.invokevirtual 212, 3) := dk_182 0 212 (dk_at dksX0_ask_0 2 rfl rfl)
theorem dX0_ask_5 : decode cX0_ask 5 = .ok (.ifCond .eq 10, 3) := dk_153 0 10 (dk_at dksX0_ask_0 5 rfl rfl)
theorem dX0_ask_8 : decode cX0_ask 8 = .ok (.iload_n 2, 1) := dk_28 (dk_at dksX0_ask_0 8 rfl rfl)
theorem dX0_ask_9 : decode cX0_ask 9 = .ok (.invokestatic 268, 3) := dk_184 1 12 (dk_at dksX0_ask_0 9 rfl rfl)
theorem dX0_ask_12 : decode cX0_ask 12 = .ok (.ifCond .ne 5, 3) := dk_154 0 5 (dk_at dksX0_ask_0 12 rfl rfl)
theorem dX0_ask_15 : decode cX0_ask 15 = .ok (.iconst (-1), 1) := dk_2 (dk_at dksX0_ask_0 15 rfl rfl)
theorem dX0_ask_16 : decode cX0_ask 16 = .ok (.ireturn, 1) := dk_172 (dk_at dksX0_ask_0 16 rfl rfl)
theorem dX0_ask_17 : decode cX0_ask 17 = .ok (.aload_n 0, 1) := dk_42 (dk_at dksX0_ask_0 17 rfl rfl)
theorem dX0_ask_18 : decode cX0_ask 18 = .ok (.iload_n 1, 1) := dk_27 (dk_at dksX0_ask_0 18 rfl rfl)
theorem dX0_ask_19 : decode cX0_ask 19 = .ok (.invokevirtual 318, 3) := dk_182 1 62 (dk_at dksX0_ask_0 19 rfl rfl)
theorem dX0_ask_22 : decode cX0_ask 22 = .ok (.istore_n 3, 1) := dk_62 (dk_at dksX0_ask_0 22 rfl rfl)
theorem dX0_ask_23 : decode cX0_ask 23 = .ok (.aload_n 0, 1) := dk_42 (dk_at dksX0_ask_0 23 rfl rfl)
theorem dX0_ask_24 : decode cX0_ask 24 = .ok (.iload_n 3, 1) := dk_29 (dk_at dksX0_ask_1 0 rfl rfl)
theorem dX0_ask_25 : decode cX0_ask 25 = .ok (.ineg, 1) := dk_116 (dk_at dksX0_ask_1 1 rfl rfl)
theorem dX0_ask_26 : decode cX0_ask 26 = .ok (.invokevirtual 264, 3) := dk_182 1 8 (dk_at dksX0_ask_1 2 rfl rfl)
theorem dX0_ask_29 : decode cX0_ask 29 = .ok (.iconst 0, 1) := dk_3 (dk_at dksX0_ask_1 5 rfl rfl)
theorem dX0_ask_30 : decode cX0_ask 30 = .ok (.istore 4, 2) := dk_54 4 (dk_at dksX0_ask_1 6 rfl rfl)
theorem dX0_ask_32 : decode cX0_ask 32 = .ok (.iload 4, 2) := dk_21 4 (dk_at dksX0_ask_1 8 rfl rfl)
theorem dX0_ask_34 : decode cX0_ask 34 = .ok (.bipush 40, 2) := dk_16 40 (dk_at dksX0_ask_1 10 rfl rfl)
theorem dX0_ask_36 : decode cX0_ask 36 = .ok (.if_icmp .gt 23, 3) := dk_163 0 23 (dk_at dksX0_ask_1 12 rfl rfl)
theorem dX0_ask_39 : decode cX0_ask 39 = .ok (.aload_n 0, 1) := dk_42 (dk_at dksX0_ask_1 15 rfl rfl)
theorem dX0_ask_40 : decode cX0_ask 40 = .ok (.iload 4, 2) := dk_21 4 (dk_at dksX0_ask_1 16 rfl rfl)
theorem dX0_ask_42 : decode cX0_ask 42 = .ok (.aload_n 0, 1) := dk_42 (dk_at dksX0_ask_1 18 rfl rfl)
theorem dX0_ask_43 : decode cX0_ask 43 = .ok (.iload 4, 2) := dk_21 4 (dk_at dksX0_ask_1 19 rfl rfl)
theorem dX0_ask_45 : decode cX0_ask 45 = .ok (.iload_n 3, 1) := dk_29 (dk_at dksX0_ask_1 21 rfl rfl)
theorem dX0_ask_46 : decode cX0_ask 46 = .ok (.invokevirtual 321, 3) := dk_182 1 65 (dk_at dksX0_ask_2 0 rfl rfl)
theorem dX0_ask_49 : decode cX0_ask 49 = .ok (.ineg, 1) := dk_116 (dk_at dksX0_ask_2 3 rfl rfl)
theorem dX0_ask_50 : decode cX0_ask 50 = .ok (.invokevirtual 271, 3) := dk_182 1 15 (dk_at dksX0_ask_2 4 rfl rfl)
theorem dX0_ask_53 : decode cX0_ask 53 = .ok (.iinc 4 1, 3) := dk_132 4 1 (dk_at dksX0_ask_2 7 rfl rfl)
theorem dX0_ask_56 : decode cX0_ask 56 = .ok (.goto (-24), 3) := dk_167 255 232 (dk_at dksX0_ask_2 10 rfl rfl)
theorem dX0_ask_59 : decode cX0_ask 59 = .ok (.aload_n 0, 1) := dk_42 (dk_at dksX0_ask_2 13 rfl rfl)
theorem dX0_ask_60 : decode cX0_ask 60 = .ok (.getfield 255, 3) := dk_180 0 255 (dk_at dksX0_ask_2 14 rfl rfl)
theorem dX0_ask_63 : decode cX0_ask 63 = .ok (.bipush (-4), 2) := dk_16 252 (dk_at dksX0_ask_2 17 rfl rfl)
theorem dX0_ask_65 : decode cX0_ask 65 = .ok (.if_icmp .ne 8, 3) := dk_160 0 8 (dk_at dksX0_ask_2 19 rfl rfl)
theorem dX0_ask_68 : decode cX0_ask 68 = .ok (.bipush (-4), 2) := dk_16 252 (dk_at dksX0_ask_2 22 rfl rfl)
theorem dX0_ask_70 : decode cX0_ask 70 = .ok (.goto 19, 3) := dk_167 0 19 (dk_at dksX0_ask_3 0 rfl rfl)
theorem dX0_ask_73 : decode cX0_ask 73 = .ok (.iload_n 2, 1) := dk_28 (dk_at dksX0_ask_3 3 rfl rfl)
theorem dX0_ask_74 : decode cX0_ask 74 = .ok (.ifCond .ne 10, 3) := dk_154 0 10 (dk_at dksX0_ask_3 4 rfl rfl)
theorem dX0_ask_77 : decode cX0_ask 77 = .ok (.aload_n 0, 1) := dk_42 (dk_at dksX0_ask_3 7 rfl rfl)
theorem dX0_ask_78 : decode cX0_ask 78 = .ok (.getfield 255, 3) := dk_180 0 255 (dk_at dksX0_ask_3 8 rfl rfl)
theorem dX0_ask_81 : decode cX0_ask 81 = .ok (.goto 8, 3) := dk_167 0 8 (dk_at dksX0_ask_3 11 rfl rfl)
theorem dX0_ask_84 : decode cX0_ask 84 = .ok (.aload_n 0, 1) := dk_42 (dk_at dksX0_ask_3 14 rfl rfl)
theorem dX0_ask_85 : decode cX0_ask 85 = .ok (.getfield 258, 3) := dk_180 1 2 (dk_at dksX0_ask_3 15 rfl rfl)
theorem dX0_ask_88 : decode cX0_ask 88 = .ok (.ineg, 1) := dk_116 (dk_at dksX0_ask_3 18 rfl rfl)
theorem dX0_ask_89 : decode cX0_ask 89 = .ok (.ireturn, 1) := dk_172 (dk_at dksX0_ask_3 19 rfl rfl)
abbrev cX0_findLosses : ByteArray := prog_1_method_59_code
def yX0_findLosses : MethodName := ⟨RX0, "findLosses", "(I)I"⟩
def dkwX0_findLosses_2 : List UInt8 := [27, 96, 46, 79, 132, 4, 1, 167, 255, 223, 132, 2, 1, 132, 3, 1, 167, 255, 196, 28, 172]
abbrev dktX0_findLosses_2 : List UInt8 := dkwX0_findLosses_2 ++ []
def dkwX0_findLosses_1 : List UInt8 := [16, 40, 163, 0, 32, 42, 180, 0, 152, 16, 41, 28, 104, 21, 4, 96, 42, 180, 0, 149, 7, 21, 4, 104]
abbrev dktX0_findLosses_1 : List UInt8 := dkwX0_findLosses_1 ++ dktX0_findLosses_2
def dkwX0_findLosses_0 : List UInt8 := [3, 61, 3, 62, 29, 16, 9, 163, 0, 60, 42, 27, 29, 182, 1, 59, 153, 0, 45, 3, 54, 4, 21, 4]
abbrev dktX0_findLosses_0 : List UInt8 := dkwX0_findLosses_0 ++ dktX0_findLosses_1
theorem dksX0_findLosses_0 : cX0_findLosses.data.toList.drop 0 = dktX0_findLosses_0 := by decide +kernel
theorem dksX0_findLosses_1 : cX0_findLosses.data.toList.drop 24 = dktX0_findLosses_1 := dk_seg dksX0_findLosses_0 24 rfl rfl
theorem dksX0_findLosses_2 : cX0_findLosses.data.toList.drop 48 = dktX0_findLosses_2 := dk_seg dksX0_findLosses_1 24 rfl rfl
theorem dX0_findLosses_0 : decode cX0_findLosses 0 = .ok (.iconst 0, 1) := dk_3 (dk_at dksX0_findLosses_0 0 rfl rfl)
theorem dX0_findLosses_1 : decode cX0_findLosses 1 = .ok (.istore_n 2, 1) := dk_61 (dk_at dksX0_findLosses_0 1 rfl rfl)
theorem dX0_findLosses_2 : decode cX0_findLosses 2 = .ok (.iconst 0, 1) := dk_3 (dk_at dksX0_findLosses_0 2 rfl rfl)
theorem dX0_findLosses_3 : decode cX0_findLosses 3 = .ok (.istore_n 3, 1) := dk_62 (dk_at dksX0_findLosses_0 3 rfl rfl)
theorem dX0_findLosses_4 : decode cX0_findLosses 4 = .ok (.iload_n 3, 1) := dk_29 (dk_at dksX0_findLosses_0 4 rfl rfl)
theorem dX0_findLosses_5 : decode cX0_findLosses 5 = .ok (.bipush 9, 2) := dk_16 9 (dk_at dksX0_findLosses_0 5 rfl rfl)
theorem dX0_findLosses_7 : decode cX0_findLosses 7 = .ok (.if_icmp .gt 60, 3) := dk_163 0 60 (dk_at dksX0_findLosses_0 7 rfl rfl)
theorem dX0_findLosses_10 : decode cX0_findLosses 10 = .ok (.aload_n 0, 1) := dk_42 (dk_at dksX0_findLosses_0 10 rfl rfl)
theorem dX0_findLosses_11 : decode cX0_findLosses 11 = .ok (.iload_n 1, 1) := dk_27 (dk_at dksX0_findLosses_0 11 rfl rfl)
theorem dX0_findLosses_12 : decode cX0_findLosses 12 = .ok (.iload_n 3, 1) := dk_29 (dk_at dksX0_findLosses_0 12 rfl rfl)
theorem dX0_findLosses_13 : decode cX0_findLosses 13 = .ok (.invokevirtual 315, 3) := dk_182 1 59 (dk_at dksX0_findLosses_0 13 rfl rfl)
theorem dX0_findLosses_16 : decode cX0_findLosses 16 = .ok (.ifCond .eq 45, 3) := dk_153 0 45 (dk_at dksX0_findLosses_0 16 rfl rfl)
theorem dX0_findLosses_19 : decode cX0_findLosses 19 = .ok (.iconst 0, 1) := dk_3 (dk_at dksX0_findLosses_0 19 rfl rfl)
theorem dX0_findLosses_20 : decode cX0_findLosses 20 = .ok (.istore 4, 2) := dk_54 4 (dk_at dksX0_findLosses_0 20 rfl rfl)
theorem dX0_findLosses_22 : decode cX0_findLosses 22 = .ok (.iload 4, 2) := dk_21 4 (dk_at dksX0_findLosses_0 22 rfl rfl)
theorem dX0_findLosses_24 : decode cX0_findLosses 24 = .ok (.bipush 40, 2) := dk_16 40 (dk_at dksX0_findLosses_1 0 rfl rfl)
theorem dX0_findLosses_26 : decode cX0_findLosses 26 = .ok (.if_icmp .gt 32, 3) := dk_163 0 32 (dk_at dksX0_findLosses_1 2 rfl rfl)
theorem dX0_findLosses_29 : decode cX0_findLosses 29 = .ok (.aload_n 0, 1) := dk_42 (dk_at dksX0_findLosses_1 5 rfl rfl)
theorem dX0_findLosses_30 : decode cX0_findLosses 30 = .ok (.getfield 152, 3) := dk_180 0 152 (dk_at dksX0_findLosses_1 6 rfl rfl)
theorem dX0_findLosses_33 : decode cX0_findLosses 33 = .ok (.bipush 41, 2) := dk_16 41 (dk_at dksX0_findLosses_1 9 rfl rfl)
theorem dX0_findLosses_35 : decode cX0_findLosses 35 = .ok (.iload_n 2, 1) := dk_28 (dk_at dksX0_findLosses_1 11 rfl rfl)
theorem dX0_findLosses_36 : decode cX0_findLosses 36 = .ok (.imul, 1) := dk_104 (dk_at dksX0_findLosses_1 12 rfl rfl)
theorem dX0_findLosses_37 : decode cX0_findLosses 37 = .ok (.iload 4, 2) := dk_21 4 (dk_at dksX0_findLosses_1 13 rfl rfl)
theorem dX0_findLosses_39 : decode cX0_findLosses 39 = .ok (.iadd, 1) := dk_96 (dk_at dksX0_findLosses_1 15 rfl rfl)
theorem dX0_findLosses_40 : decode cX0_findLosses 40 = .ok (.aload_n 0, 1) := dk_42 (dk_at dksX0_findLosses_1 16 rfl rfl)
theorem dX0_findLosses_41 : decode cX0_findLosses 41 = .ok (.getfield 149, 3) := dk_180 0 149 (dk_at dksX0_findLosses_1 17 rfl rfl)
theorem dX0_findLosses_44 : decode cX0_findLosses 44 = .ok (.iconst 4, 1) := dk_7 (dk_at dksX0_findLosses_1 20 rfl rfl)
theorem dX0_findLosses_45 : decode cX0_findLosses 45 = .ok (.iload 4, 2) := dk_21 4 (dk_at dksX0_findLosses_1 21 rfl rfl)
theorem dX0_findLosses_47 : decode cX0_findLosses 47 = .ok (.imul, 1) := dk_104 (dk_at dksX0_findLosses_1 23 rfl rfl)
theorem dX0_findLosses_48 : decode cX0_findLosses 48 = .ok (.iload_n 1, 1) := dk_27 (dk_at dksX0_findLosses_2 0 rfl rfl)
theorem dX0_findLosses_49 : decode cX0_findLosses 49 = .ok (.iadd, 1) := dk_96 (dk_at dksX0_findLosses_2 1 rfl rfl)
theorem dX0_findLosses_50 : decode cX0_findLosses 50 = .ok (.iaload, 1) := dk_46 (dk_at dksX0_findLosses_2 2 rfl rfl)
theorem dX0_findLosses_51 : decode cX0_findLosses 51 = .ok (.iastore, 1) := dk_79 (dk_at dksX0_findLosses_2 3 rfl rfl)
theorem dX0_findLosses_52 : decode cX0_findLosses 52 = .ok (.iinc 4 1, 3) := dk_132 4 1 (dk_at dksX0_findLosses_2 4 rfl rfl)
theorem dX0_findLosses_55 : decode cX0_findLosses 55 = .ok (.goto (-33), 3) := dk_167 255 223 (dk_at dksX0_findLosses_2 7 rfl rfl)
theorem dX0_findLosses_58 : decode cX0_findLosses 58 = .ok (.iinc 2 1, 3) := dk_132 2 1 (dk_at dksX0_findLosses_2 10 rfl rfl)
theorem dX0_findLosses_61 : decode cX0_findLosses 61 = .ok (.iinc 3 1, 3) := dk_132 3 1 (dk_at dksX0_findLosses_2 13 rfl rfl)
theorem dX0_findLosses_64 : decode cX0_findLosses 64 = .ok (.goto (-60), 3) := dk_167 255 196 (dk_at dksX0_findLosses_2 16 rfl rfl)
theorem dX0_findLosses_67 : decode cX0_findLosses 67 = .ok (.iload_n 2, 1) := dk_28 (dk_at dksX0_findLosses_2 19 rfl rfl)
theorem dX0_findLosses_68 : decode cX0_findLosses 68 = .ok (.ireturn, 1) := dk_172 (dk_at dksX0_findLosses_2 20 rfl rfl)
abbrev cX0_worstAt : ByteArray := prog_1_method_60_code
def yX0_worstAt : MethodName := ⟨RX0, "worstAt", "(II)I"⟩
def dkwX0_worstAt_3 : List UInt8 := [184, 0, 87, 62, 132, 4, 1, 167, 255, 185, 29, 172]
abbrev dktX0_worstAt_3 : List UInt8 := dkwX0_worstAt_3 ++ []
def dkwX0_worstAt_2 : List UInt8 := [96, 46, 160, 0, 7, 4, 167, 0, 4, 3, 96, 54, 5, 132, 6, 1, 167, 255, 210, 29, 21, 5]
abbrev dktX0_worstAt_2 : List UInt8 := dkwX0_worstAt_2 ++ dktX0_worstAt_3
def dkwX0_worstAt_1 : List UInt8 := [21, 5, 42, 180, 0, 152, 16, 41, 21, 4, 104, 27, 96, 46, 42, 180, 0, 152, 16, 41, 21, 6, 104, 27]
abbrev dktX0_worstAt_1 : List UInt8 := dkwX0_worstAt_1 ++ dktX0_worstAt_2
def dkwX0_worstAt_0 : List UInt8 := [3, 62, 3, 54, 4, 21, 4, 28, 162, 0, 71, 3, 54, 5, 3, 54, 6, 21, 6, 28, 162, 0, 46]
abbrev dktX0_worstAt_0 : List UInt8 := dkwX0_worstAt_0 ++ dktX0_worstAt_1
theorem dksX0_worstAt_0 : cX0_worstAt.data.toList.drop 0 = dktX0_worstAt_0 := by decide +kernel
theorem dksX0_worstAt_1 : cX0_worstAt.data.toList.drop 23 = dktX0_worstAt_1 := dk_seg dksX0_worstAt_0 23 rfl rfl
theorem dksX0_worstAt_2 : cX0_worstAt.data.toList.drop 47 = dktX0_worstAt_2 := dk_seg dksX0_worstAt_1 24 rfl rfl
theorem dksX0_worstAt_3 : cX0_worstAt.data.toList.drop 69 = dktX0_worstAt_3 := dk_seg dksX0_worstAt_2 22 rfl rfl
theorem dX0_worstAt_0 : decode cX0_worstAt 0 = .ok (.iconst 0, 1) := dk_3 (dk_at dksX0_worstAt_0 0 rfl rfl)
theorem dX0_worstAt_1 : decode cX0_worstAt 1 = .ok (.istore_n 3, 1) := dk_62 (dk_at dksX0_worstAt_0 1 rfl rfl)
theorem dX0_worstAt_2 : decode cX0_worstAt 2 = .ok (.iconst 0, 1) := dk_3 (dk_at dksX0_worstAt_0 2 rfl rfl)
theorem dX0_worstAt_3 : decode cX0_worstAt 3 = .ok (.istore 4, 2) := dk_54 4 (dk_at dksX0_worstAt_0 3 rfl rfl)
theorem dX0_worstAt_5 : decode cX0_worstAt 5 = .ok (.iload 4, 2) := dk_21 4 (dk_at dksX0_worstAt_0 5 rfl rfl)
theorem dX0_worstAt_7 : decode cX0_worstAt 7 = .ok (.iload_n 2, 1) := dk_28 (dk_at dksX0_worstAt_0 7 rfl rfl)
theorem dX0_worstAt_8 : decode cX0_worstAt 8 = .ok (.if_icmp .ge 71, 3) := dk_162 0 71 (dk_at dksX0_worstAt_0 8 rfl rfl)
theorem dX0_worstAt_11 : decode cX0_worstAt 11 = .ok (.iconst 0, 1) := dk_3 (dk_at dksX0_worstAt_0 11 rfl rfl)
theorem dX0_worstAt_12 : decode cX0_worstAt 12 = .ok (.istore 5, 2) := dk_54 5 (dk_at dksX0_worstAt_0 12 rfl rfl)
theorem dX0_worstAt_14 : decode cX0_worstAt 14 = .ok (.iconst 0, 1) := dk_3 (dk_at dksX0_worstAt_0 14 rfl rfl)
theorem dX0_worstAt_15 : decode cX0_worstAt 15 = .ok (.istore 6, 2) := dk_54 6 (dk_at dksX0_worstAt_0 15 rfl rfl)
theorem dX0_worstAt_17 : decode cX0_worstAt 17 = .ok (.iload 6, 2) := dk_21 6 (dk_at dksX0_worstAt_0 17 rfl rfl)
theorem dX0_worstAt_19 : decode cX0_worstAt 19 = .ok (.iload_n 2, 1) := dk_28 (dk_at dksX0_worstAt_0 19 rfl rfl)
theorem dX0_worstAt_20 : decode cX0_worstAt 20 = .ok (.if_icmp .ge 46, 3) := dk_162 0 46 (dk_at dksX0_worstAt_0 20 rfl rfl)
theorem dX0_worstAt_23 : decode cX0_worstAt 23 = .ok (.iload 5, 2) := dk_21 5 (dk_at dksX0_worstAt_1 0 rfl rfl)
theorem dX0_worstAt_25 : decode cX0_worstAt 25 = .ok (.aload_n 0, 1) := dk_42 (dk_at dksX0_worstAt_1 2 rfl rfl)
theorem dX0_worstAt_26 : decode cX0_worstAt 26 = .ok (.getfield 152, 3) := dk_180 0 152 (dk_at dksX0_worstAt_1 3 rfl rfl)
theorem dX0_worstAt_29 : decode cX0_worstAt 29 = .ok (.bipush 41, 2) := dk_16 41 (dk_at dksX0_worstAt_1 6 rfl rfl)
theorem dX0_worstAt_31 : decode cX0_worstAt 31 = .ok (.iload 4, 2) := dk_21 4 (dk_at dksX0_worstAt_1 8 rfl rfl)
theorem dX0_worstAt_33 : decode cX0_worstAt 33 = .ok (.imul, 1) := dk_104 (dk_at dksX0_worstAt_1 10 rfl rfl)
theorem dX0_worstAt_34 : decode cX0_worstAt 34 = .ok (.iload_n 1, 1) := dk_27 (dk_at dksX0_worstAt_1 11 rfl rfl)
theorem dX0_worstAt_35 : decode cX0_worstAt 35 = .ok (.iadd, 1) := dk_96 (dk_at dksX0_worstAt_1 12 rfl rfl)
theorem dX0_worstAt_36 : decode cX0_worstAt 36 = .ok (.iaload, 1) := dk_46 (dk_at dksX0_worstAt_1 13 rfl rfl)
theorem dX0_worstAt_37 : decode cX0_worstAt 37 = .ok (.aload_n 0, 1) := dk_42 (dk_at dksX0_worstAt_1 14 rfl rfl)
theorem dX0_worstAt_38 : decode cX0_worstAt 38 = .ok (.getfield 152, 3) := dk_180 0 152 (dk_at dksX0_worstAt_1 15 rfl rfl)
theorem dX0_worstAt_41 : decode cX0_worstAt 41 = .ok (.bipush 41, 2) := dk_16 41 (dk_at dksX0_worstAt_1 18 rfl rfl)
theorem dX0_worstAt_43 : decode cX0_worstAt 43 = .ok (.iload 6, 2) := dk_21 6 (dk_at dksX0_worstAt_1 20 rfl rfl)
theorem dX0_worstAt_45 : decode cX0_worstAt 45 = .ok (.imul, 1) := dk_104 (dk_at dksX0_worstAt_1 22 rfl rfl)
theorem dX0_worstAt_46 : decode cX0_worstAt 46 = .ok (.iload_n 1, 1) := dk_27 (dk_at dksX0_worstAt_1 23 rfl rfl)
theorem dX0_worstAt_47 : decode cX0_worstAt 47 = .ok (.iadd, 1) := dk_96 (dk_at dksX0_worstAt_2 0 rfl rfl)
theorem dX0_worstAt_48 : decode cX0_worstAt 48 = .ok (.iaload, 1) := dk_46 (dk_at dksX0_worstAt_2 1 rfl rfl)
theorem dX0_worstAt_49 : decode cX0_worstAt 49 = .ok (.if_icmp .ne 7, 3) := dk_160 0 7 (dk_at dksX0_worstAt_2 2 rfl rfl)
theorem dX0_worstAt_52 : decode cX0_worstAt 52 = .ok (.iconst 1, 1) := dk_4 (dk_at dksX0_worstAt_2 5 rfl rfl)
theorem dX0_worstAt_53 : decode cX0_worstAt 53 = .ok (.goto 4, 3) := dk_167 0 4 (dk_at dksX0_worstAt_2 6 rfl rfl)
theorem dX0_worstAt_56 : decode cX0_worstAt 56 = .ok (.iconst 0, 1) := dk_3 (dk_at dksX0_worstAt_2 9 rfl rfl)
theorem dX0_worstAt_57 : decode cX0_worstAt 57 = .ok (.iadd, 1) := dk_96 (dk_at dksX0_worstAt_2 10 rfl rfl)
theorem dX0_worstAt_58 : decode cX0_worstAt 58 = .ok (.istore 5, 2) := dk_54 5 (dk_at dksX0_worstAt_2 11 rfl rfl)
theorem dX0_worstAt_60 : decode cX0_worstAt 60 = .ok (.iinc 6 1, 3) := dk_132 6 1 (dk_at dksX0_worstAt_2 13 rfl rfl)
theorem dX0_worstAt_63 : decode cX0_worstAt 63 = .ok (.goto (-46), 3) := dk_167 255 210 (dk_at dksX0_worstAt_2 16 rfl rfl)
theorem dX0_worstAt_66 : decode cX0_worstAt 66 = .ok (.iload_n 3, 1) := dk_29 (dk_at dksX0_worstAt_2 19 rfl rfl)
theorem dX0_worstAt_67 : decode cX0_worstAt 67 = .ok (.iload 5, 2) := dk_21 5 (dk_at dksX0_worstAt_2 20 rfl rfl)
theorem dX0_worstAt_69 : decode cX0_worstAt 69 = .ok (.invokestatic 87, 3) := dk_184 0 87 (dk_at dksX0_worstAt_3 0 rfl rfl)
theorem dX0_worstAt_72 : decode cX0_worstAt 72 = .ok (.istore_n 3, 1) := dk_62 (dk_at dksX0_worstAt_3 3 rfl rfl)
theorem dX0_worstAt_73 : decode cX0_worstAt 73 = .ok (.iinc 4 1, 3) := dk_132 4 1 (dk_at dksX0_worstAt_3 4 rfl rfl)
theorem dX0_worstAt_76 : decode cX0_worstAt 76 = .ok (.goto (-71), 3) := dk_167 255 185 (dk_at dksX0_worstAt_3 7 rfl rfl)
theorem dX0_worstAt_79 : decode cX0_worstAt 79 = .ok (.iload_n 3, 1) := dk_29 (dk_at dksX0_worstAt_3 10 rfl rfl)
theorem dX0_worstAt_80 : decode cX0_worstAt 80 = .ok (.ireturn, 1) := dk_172 (dk_at dksX0_worstAt_3 11 rfl rfl)
abbrev cX0_drift : ByteArray := prog_1_method_62_code
def yX0_drift : MethodName := ⟨RX0, "drift", "(III)I"⟩
def dkwX0_drift_5 : List UInt8 := [182, 0, 248, 172]
abbrev dktX0_drift_5 : List UInt8 := dkwX0_drift_5 ++ []
def dkwX0_drift_4 : List UInt8 := [182, 0, 100, 132, 5, 1, 167, 255, 213, 29, 154, 0, 10, 42, 180, 0, 1, 167, 0, 10, 42, 180, 0, 111]
abbrev dktX0_drift_4 : List UInt8 := dkwX0_drift_4 ++ dktX0_drift_5
def dkwX0_drift_3 : List UInt8 := [96, 54, 4, 42, 42, 180, 0, 111, 21, 4, 16, 16, 124, 17, 127, 255, 126, 17, 0, 204, 112, 3]
abbrev dktX0_drift_3 : List UInt8 := dkwX0_drift_3 ++ dktX0_drift_4
def dkwX0_drift_2 : List UInt8 := [182, 0, 103, 27, 54, 4, 3, 54, 5, 21, 5, 28, 162, 0, 43, 21, 4, 19, 1, 68, 104, 17, 48, 57]
abbrev dktX0_drift_2 : List UInt8 := dkwX0_drift_2 ++ dktX0_drift_3
def dkwX0_drift_1 : List UInt8 := [180, 0, 134, 180, 0, 44, 154, 0, 6, 16, 254, 172, 42, 180, 0, 111, 42, 180, 0, 134, 182, 0, 185, 42]
abbrev dktX0_drift_1 : List UInt8 := dkwX0_drift_1 ++ dktX0_drift_2
def dkwX0_drift_0 : List UInt8 := [28, 133, 10, 20, 0, 207, 184, 0, 164, 153, 0, 10, 29, 184, 1, 12, 154, 0, 5, 2, 172, 42]
abbrev dktX0_drift_0 : List UInt8 := dkwX0_drift_0 ++ dktX0_drift_1
theorem dksX0_drift_0 : cX0_drift.data.toList.drop 0 = dktX0_drift_0 := by decide +kernel
theorem dksX0_drift_1 : cX0_drift.data.toList.drop 22 = dktX0_drift_1 := dk_seg dksX0_drift_0 22 rfl rfl
theorem dksX0_drift_2 : cX0_drift.data.toList.drop 46 = dktX0_drift_2 := dk_seg dksX0_drift_1 24 rfl rfl
theorem dksX0_drift_3 : cX0_drift.data.toList.drop 70 = dktX0_drift_3 := dk_seg dksX0_drift_2 24 rfl rfl
theorem dksX0_drift_4 : cX0_drift.data.toList.drop 92 = dktX0_drift_4 := dk_seg dksX0_drift_3 22 rfl rfl
theorem dksX0_drift_5 : cX0_drift.data.toList.drop 116 = dktX0_drift_5 := dk_seg dksX0_drift_4 24 rfl rfl
theorem dX0_drift_0 : decode cX0_drift 0 = .ok (.iload_n 2, 1) := dk_28 (dk_at dksX0_drift_0 0 rfl rfl)
theorem dX0_drift_1 : decode cX0_drift 1 = .ok (.i2l, 1) := dk_133 (dk_at dksX0_drift_0 1 rfl rfl)
theorem dX0_drift_2 : decode cX0_drift 2 = .ok (.lconst 1, 1) := dk_10 (dk_at dksX0_drift_0 2 rfl rfl)
theorem dX0_drift_3 : decode cX0_drift 3 = .ok (.ldc2_w 207, 3) := dk_20 0 207 (dk_at dksX0_drift_0 3 rfl rfl)
theorem dX0_drift_6 : decode cX0_drift 6 = .ok (.invokestatic 164, 3) := dk_184 0 164 (dk_at dksX0_drift_0 6 rfl rfl)
theorem dX0_drift_9 : decode cX0_drift 9 = .ok (.ifCond .eq 10, 3) := dk_153 0 10 (dk_at dksX0_drift_0 9 rfl rfl)
theorem dX0_drift_12 : decode cX0_drift 12 = .ok (.iload_n 3, 1) := dk_29 (dk_at dksX0_drift_0 12 rfl rfl)
theorem dX0_drift_13 : decode cX0_drift 13 = .ok (.invokestatic 268, 3) := dk_184 1 12 (dk_at dksX0_drift_0 13 rfl rfl)
theorem dX0_drift_16 : decode cX0_drift 16 = .ok (.ifCond .ne 5, 3) := dk_154 0 5 (dk_at dksX0_drift_0 16 rfl rfl)
theorem dX0_drift_19 : decode cX0_drift 19 = .ok (.iconst (-1), 1) := dk_2 (dk_at dksX0_drift_0 19 rfl rfl)
theorem dX0_drift_20 : decode cX0_drift 20 = .ok (.ireturn, 1) := dk_172 (dk_at dksX0_drift_0 20 rfl rfl)
theorem dX0_drift_21 : decode cX0_drift 21 = .ok (.aload_n 0, 1) := dk_42 (dk_at dksX0_drift_0 21 rfl rfl)
theorem dX0_drift_22 : decode cX0_drift 22 = .ok (.getfield 134, 3) := dk_180 0 134 (dk_at dksX0_drift_1 0 rfl rfl)
theorem dX0_drift_25 : decode cX0_drift 25 = .ok (.getfield 44, 3) := dk_180 0 44 (dk_at dksX0_drift_1 3 rfl rfl)
theorem dX0_drift_28 : decode cX0_drift 28 = .ok (.ifCond .ne 6, 3) := dk_154 0 6 (dk_at dksX0_drift_1 6 rfl rfl)
theorem dX0_drift_31 : decode cX0_drift 31 = .ok (.bipush (-2), 2) := dk_16 254 (dk_at dksX0_drift_1 9 rfl rfl)
theorem dX0_drift_33 : decode cX0_drift 33 = .ok (.ireturn, 1) := dk_172 (dk_at dksX0_drift_1 11 rfl rfl)
theorem dX0_drift_34 : decode cX0_drift 34 = .ok (.aload_n 0, 1) := dk_42 (dk_at dksX0_drift_1 12 rfl rfl)
theorem dX0_drift_35 : decode cX0_drift 35 = .ok (.getfield 111, 3) := dk_180 0 111 (dk_at dksX0_drift_1 13 rfl rfl)
theorem dX0_drift_38 : decode cX0_drift 38 = .ok (.aload_n 0, 1) := dk_42 (dk_at dksX0_drift_1 16 rfl rfl)
theorem dX0_drift_39 : decode cX0_drift 39 = .ok (.getfield 134, 3) := dk_180 0 134 (dk_at dksX0_drift_1 17 rfl rfl)
theorem dX0_drift_42 : decode cX0_drift 42 = .ok (.invokevirtual 185, 3) := dk_182 0 185 (dk_at dksX0_drift_1 20 rfl rfl)
theorem dX0_drift_45 : decode cX0_drift 45 = .ok (.aload_n 0, 1) := dk_42 (dk_at dksX0_drift_1 23 rfl rfl)
theorem dX0_drift_46 : decode cX0_drift 46 = .ok (.invokevirtual 103, 3) := dk_182 0 103 (dk_at dksX0_drift_2 0 rfl rfl)
theorem dX0_drift_49 : decode cX0_drift 49 = .ok (.iload_n 1, 1) := dk_27 (dk_at dksX0_drift_2 3 rfl rfl)
theorem dX0_drift_50 : decode cX0_drift 50 = .ok (.istore 4, 2) := dk_54 4 (dk_at dksX0_drift_2 4 rfl rfl)
theorem dX0_drift_52 : decode cX0_drift 52 = .ok (.iconst 0, 1) := dk_3 (dk_at dksX0_drift_2 6 rfl rfl)
theorem dX0_drift_53 : decode cX0_drift 53 = .ok (.istore 5, 2) := dk_54 5 (dk_at dksX0_drift_2 7 rfl rfl)
theorem dX0_drift_55 : decode cX0_drift 55 = .ok (.iload 5, 2) := dk_21 5 (dk_at dksX0_drift_2 9 rfl rfl)
theorem dX0_drift_57 : decode cX0_drift 57 = .ok (.iload_n 2, 1) := dk_28 (dk_at dksX0_drift_2 11 rfl rfl)
theorem dX0_drift_58 : decode cX0_drift 58 = .ok (.if_icmp .ge 43, 3) := dk_162 0 43 (dk_at dksX0_drift_2 12 rfl rfl)
theorem dX0_drift_61 : decode cX0_drift 61 = .ok (.iload 4, 2) := dk_21 4 (dk_at dksX0_drift_2 15 rfl rfl)
theorem dX0_drift_63 : decode cX0_drift 63 = .ok (.ldc_w 324, 3) := dk_19 1 68 (dk_at dksX0_drift_2 17 rfl rfl)
theorem dX0_drift_66 : decode cX0_drift 66 = .ok (.imul, 1) := dk_104 (dk_at dksX0_drift_2 20 rfl rfl)
theorem dX0_drift_67 : decode cX0_drift 67 = .ok (.sipush 12345, 3) := dk_17 48 57 (dk_at dksX0_drift_2 21 rfl rfl)
theorem dX0_drift_70 : decode cX0_drift 70 = .ok (.iadd, 1) := dk_96 (dk_at dksX0_drift_3 0 rfl rfl)
theorem dX0_drift_71 : decode cX0_drift 71 = .ok (.istore 4, 2) := dk_54 4 (dk_at dksX0_drift_3 1 rfl rfl)
theorem dX0_drift_73 : decode cX0_drift 73 = .ok (.aload_n 0, 1) := dk_42 (dk_at dksX0_drift_3 3 rfl rfl)
theorem dX0_drift_74 : decode cX0_drift 74 = .ok (.aload_n 0, 1) := dk_42 (dk_at dksX0_drift_3 4 rfl rfl)
theorem dX0_drift_75 : decode cX0_drift 75 = .ok (.getfield 111, 3) := dk_180 0 111 (dk_at dksX0_drift_3 5 rfl rfl)
theorem dX0_drift_78 : decode cX0_drift 78 = .ok (.iload 4, 2) := dk_21 4 (dk_at dksX0_drift_3 8 rfl rfl)
theorem dX0_drift_80 : decode cX0_drift 80 = .ok (.bipush 16, 2) := dk_16 16 (dk_at dksX0_drift_3 10 rfl rfl)
theorem dX0_drift_82 : decode cX0_drift 82 = .ok (.iushr, 1) := dk_124 (dk_at dksX0_drift_3 12 rfl rfl)
theorem dX0_drift_83 : decode cX0_drift 83 = .ok (.sipush 32767, 3) := dk_17 127 255 (dk_at dksX0_drift_3 13 rfl rfl)
theorem dX0_drift_86 : decode cX0_drift 86 = .ok (.iand, 1) := dk_126 (dk_at dksX0_drift_3 16 rfl rfl)
theorem dX0_drift_87 : decode cX0_drift 87 = .ok (.sipush 204, 3) := dk_17 0 204 (dk_at dksX0_drift_3 17 rfl rfl)
theorem dX0_drift_90 : decode cX0_drift 90 = .ok (.irem, 1) := dk_112 (dk_at dksX0_drift_3 20 rfl rfl)
theorem dX0_drift_91 : decode cX0_drift 91 = .ok (.iconst 0, 1) := dk_3 (dk_at dksX0_drift_3 21 rfl rfl)
theorem dX0_drift_92 : decode cX0_drift 92 = .ok (.invokevirtual 100, 3) := dk_182 0 100 (dk_at dksX0_drift_4 0 rfl rfl)
theorem dX0_drift_95 : decode cX0_drift 95 = .ok (.iinc 5 1, 3) := dk_132 5 1 (dk_at dksX0_drift_4 3 rfl rfl)
theorem dX0_drift_98 : decode cX0_drift 98 = .ok (.goto (-43), 3) := dk_167 255 213 (dk_at dksX0_drift_4 6 rfl rfl)
theorem dX0_drift_101 : decode cX0_drift 101 = .ok (.iload_n 3, 1) := dk_29 (dk_at dksX0_drift_4 9 rfl rfl)
theorem dX0_drift_102 : decode cX0_drift 102 = .ok (.ifCond .ne 10, 3) := dk_154 0 10 (dk_at dksX0_drift_4 10 rfl rfl)
theorem dX0_drift_105 : decode cX0_drift 105 = .ok (.aload_n 0, 1) := dk_42 (dk_at dksX0_drift_4 13 rfl rfl)
theorem dX0_drift_106 : decode cX0_drift 106 = .ok (.getfield 1, 3) := dk_180 0 1 (dk_at dksX0_drift_4 14 rfl rfl)
theorem dX0_drift_109 : decode cX0_drift 109 = .ok (.goto 10, 3) := dk_167 0 10 (dk_at dksX0_drift_4 17 rfl rfl)
theorem dX0_drift_112 : decode cX0_drift 112 = .ok (.aload_n 0, 1) := dk_42 (dk_at dksX0_drift_4 20 rfl rfl)
theorem dX0_drift_113 : decode cX0_drift 113 = .ok (.getfield 111, 3) := dk_180 0 111 (dk_at dksX0_drift_4 21 rfl rfl)
theorem dX0_drift_116 : decode cX0_drift 116 = .ok (.invokevirtual 248, 3) := dk_182 0 248 (dk_at dksX0_drift_5 0 rfl rfl)
theorem dX0_drift_119 : decode cX0_drift 119 = .ok (.ireturn, 1) := dk_172 (dk_at dksX0_drift_5 3 rfl rfl)
abbrev cX0_keep : ByteArray := prog_1_method_63_code
def yX0_keep : MethodName := ⟨RX0, "keep", "(I)I"⟩
def dkwX0_keep_2 : List UInt8 := [28, 172]
abbrev dktX0_keep_2 : List UInt8 := dkwX0_keep_2 ++ []
def dkwX0_keep_1 : List UInt8 := [180, 0, 137, 27, 50, 42, 180, 0, 134, 182, 0, 185, 42, 89, 180, 0, 192, 4, 27, 120, 128, 181, 0, 192]
abbrev dktX0_keep_1 : List UInt8 := dkwX0_keep_1 ++ dktX0_keep_2
def dkwX0_keep_0 : List UInt8 := [27, 133, 9, 10, 184, 0, 164, 154, 0, 5, 2, 172, 42, 180, 0, 192, 27, 122, 4, 126, 61, 42]
abbrev dktX0_keep_0 : List UInt8 := dkwX0_keep_0 ++ dktX0_keep_1
theorem dksX0_keep_0 : cX0_keep.data.toList.drop 0 = dktX0_keep_0 := by decide +kernel
theorem dksX0_keep_1 : cX0_keep.data.toList.drop 22 = dktX0_keep_1 := dk_seg dksX0_keep_0 22 rfl rfl
theorem dksX0_keep_2 : cX0_keep.data.toList.drop 46 = dktX0_keep_2 := dk_seg dksX0_keep_1 24 rfl rfl
theorem dX0_keep_0 : decode cX0_keep 0 = .ok (.iload_n 1, 1) := dk_27 (dk_at dksX0_keep_0 0 rfl rfl)
theorem dX0_keep_1 : decode cX0_keep 1 = .ok (.i2l, 1) := dk_133 (dk_at dksX0_keep_0 1 rfl rfl)
theorem dX0_keep_2 : decode cX0_keep 2 = .ok (.lconst 0, 1) := dk_9 (dk_at dksX0_keep_0 2 rfl rfl)
theorem dX0_keep_3 : decode cX0_keep 3 = .ok (.lconst 1, 1) := dk_10 (dk_at dksX0_keep_0 3 rfl rfl)
theorem dX0_keep_4 : decode cX0_keep 4 = .ok (.invokestatic 164, 3) := dk_184 0 164 (dk_at dksX0_keep_0 4 rfl rfl)
theorem dX0_keep_7 : decode cX0_keep 7 = .ok (.ifCond .ne 5, 3) := dk_154 0 5 (dk_at dksX0_keep_0 7 rfl rfl)
theorem dX0_keep_10 : decode cX0_keep 10 = .ok (.iconst (-1), 1) := dk_2 (dk_at dksX0_keep_0 10 rfl rfl)
theorem dX0_keep_11 : decode cX0_keep 11 = .ok (.ireturn, 1) := dk_172 (dk_at dksX0_keep_0 11 rfl rfl)
theorem dX0_keep_12 : decode cX0_keep 12 = .ok (.aload_n 0, 1) := dk_42 (dk_at dksX0_keep_0 12 rfl rfl)
theorem dX0_keep_13 : decode cX0_keep 13 = .ok (.getfield 192, 3) := dk_180 0 192 (dk_at dksX0_keep_0 13 rfl rfl)
theorem dX0_keep_16 : decode cX0_keep 16 = .ok (.iload_n 1, 1) := dk_27 (dk_at dksX0_keep_0 16 rfl rfl)
theorem dX0_keep_17 : decode cX0_keep 17 = .ok (.ishr, 1) := dk_122 (dk_at dksX0_keep_0 17 rfl rfl)
theorem dX0_keep_18 : decode cX0_keep 18 = .ok (.iconst 1, 1) := dk_4 (dk_at dksX0_keep_0 18 rfl rfl)
theorem dX0_keep_19 : decode cX0_keep 19 = .ok (.iand, 1) := dk_126 (dk_at dksX0_keep_0 19 rfl rfl)
theorem dX0_keep_20 : decode cX0_keep 20 = .ok (.istore_n 2, 1) := dk_61 (dk_at dksX0_keep_0 20 rfl rfl)
theorem dX0_keep_21 : decode cX0_keep 21 = .ok (.aload_n 0, 1) := dk_42 (dk_at dksX0_keep_0 21 rfl rfl)
theorem dX0_keep_22 : decode cX0_keep 22 = .ok (.getfield 137, 3) := dk_180 0 137 (dk_at dksX0_keep_1 0 rfl rfl)
theorem dX0_keep_25 : decode cX0_keep 25 = .ok (.iload_n 1, 1) := dk_27 (dk_at dksX0_keep_1 3 rfl rfl)
theorem dX0_keep_26 : decode cX0_keep 26 = .ok (.aaload, 1) := dk_50 (dk_at dksX0_keep_1 4 rfl rfl)
theorem dX0_keep_27 : decode cX0_keep 27 = .ok (.aload_n 0, 1) := dk_42 (dk_at dksX0_keep_1 5 rfl rfl)
theorem dX0_keep_28 : decode cX0_keep 28 = .ok (.getfield 134, 3) := dk_180 0 134 (dk_at dksX0_keep_1 6 rfl rfl)
theorem dX0_keep_31 : decode cX0_keep 31 = .ok (.invokevirtual 185, 3) := dk_182 0 185 (dk_at dksX0_keep_1 9 rfl rfl)
theorem dX0_keep_34 : decode cX0_keep 34 = .ok (.aload_n 0, 1) := dk_42 (dk_at dksX0_keep_1 12 rfl rfl)
theorem dX0_keep_35 : decode cX0_keep 35 = .ok (.dup, 1) := dk_89 (dk_at dksX0_keep_1 13 rfl rfl)
theorem dX0_keep_36 : decode cX0_keep 36 = .ok (.getfield 192, 3) := dk_180 0 192 (dk_at dksX0_keep_1 14 rfl rfl)
theorem dX0_keep_39 : decode cX0_keep 39 = .ok (.iconst 1, 1) := dk_4 (dk_at dksX0_keep_1 17 rfl rfl)
theorem dX0_keep_40 : decode cX0_keep 40 = .ok (.iload_n 1, 1) := dk_27 (dk_at dksX0_keep_1 18 rfl rfl)
theorem dX0_keep_41 : decode cX0_keep 41 = .ok (.ishl, 1) := dk_120 (dk_at dksX0_keep_1 19 rfl rfl)
theorem dX0_keep_42 : decode cX0_keep 42 = .ok (.ior, 1) := dk_128 (dk_at dksX0_keep_1 20 rfl rfl)
theorem dX0_keep_43 : decode cX0_keep 43 = .ok (.putfield 192, 3) := dk_181 0 192 (dk_at dksX0_keep_1 21 rfl rfl)
theorem dX0_keep_46 : decode cX0_keep 46 = .ok (.iload_n 2, 1) := dk_28 (dk_at dksX0_keep_2 0 rfl rfl)
theorem dX0_keep_47 : decode cX0_keep 47 = .ok (.ireturn, 1) := dk_172 (dk_at dksX0_keep_2 1 rfl rfl)
abbrev cX0_back : ByteArray := prog_1_method_64_code
def yX0_back : MethodName := ⟨RX0, "back", "(I)I"⟩
def dkwX0_back_1 : List UInt8 := [16, 254, 172, 42, 180, 0, 134, 42, 180, 0, 137, 27, 50, 182, 0, 185, 42, 180, 0, 134, 180, 0, 80, 172]
abbrev dktX0_back_1 : List UInt8 := dkwX0_back_1 ++ []
def dkwX0_back_0 : List UInt8 := [27, 133, 9, 10, 184, 0, 164, 154, 0, 5, 2, 172, 42, 180, 0, 192, 27, 184, 1, 35, 154, 0, 6]
abbrev dktX0_back_0 : List UInt8 := dkwX0_back_0 ++ dktX0_back_1
theorem dksX0_back_0 : cX0_back.data.toList.drop 0 = dktX0_back_0 := by decide +kernel
theorem dksX0_back_1 : cX0_back.data.toList.drop 23 = dktX0_back_1 := dk_seg dksX0_back_0 23 rfl rfl
theorem dX0_back_0 : decode cX0_back 0 = .ok (.iload_n 1, 1) := dk_27 (dk_at dksX0_back_0 0 rfl rfl)
theorem dX0_back_1 : decode cX0_back 1 = .ok (.i2l, 1) := dk_133 (dk_at dksX0_back_0 1 rfl rfl)
theorem dX0_back_2 : decode cX0_back 2 = .ok (.lconst 0, 1) := dk_9 (dk_at dksX0_back_0 2 rfl rfl)
theorem dX0_back_3 : decode cX0_back 3 = .ok (.lconst 1, 1) := dk_10 (dk_at dksX0_back_0 3 rfl rfl)
theorem dX0_back_4 : decode cX0_back 4 = .ok (.invokestatic 164, 3) := dk_184 0 164 (dk_at dksX0_back_0 4 rfl rfl)
theorem dX0_back_7 : decode cX0_back 7 = .ok (.ifCond .ne 5, 3) := dk_154 0 5 (dk_at dksX0_back_0 7 rfl rfl)
theorem dX0_back_10 : decode cX0_back 10 = .ok (.iconst (-1), 1) := dk_2 (dk_at dksX0_back_0 10 rfl rfl)
theorem dX0_back_11 : decode cX0_back 11 = .ok (.ireturn, 1) := dk_172 (dk_at dksX0_back_0 11 rfl rfl)
theorem dX0_back_12 : decode cX0_back 12 = .ok (.aload_n 0, 1) := dk_42 (dk_at dksX0_back_0 12 rfl rfl)
theorem dX0_back_13 : decode cX0_back 13 = .ok (.getfield 192, 3) := dk_180 0 192 (dk_at dksX0_back_0 13 rfl rfl)
theorem dX0_back_16 : decode cX0_back 16 = .ok (.iload_n 1, 1) := dk_27 (dk_at dksX0_back_0 16 rfl rfl)
theorem dX0_back_17 : decode cX0_back 17 = .ok (.invokestatic 291, 3) := dk_184 1 35 (dk_at dksX0_back_0 17 rfl rfl)
theorem dX0_back_20 : decode cX0_back 20 = .ok (.ifCond .ne 6, 3) := dk_154 0 6 (dk_at dksX0_back_0 20 rfl rfl)
theorem dX0_back_23 : decode cX0_back 23 = .ok (.bipush (-2), 2) := dk_16 254 (dk_at dksX0_back_1 0 rfl rfl)
theorem dX0_back_25 : decode cX0_back 25 = .ok (.ireturn, 1) := dk_172 (dk_at dksX0_back_1 2 rfl rfl)
theorem dX0_back_26 : decode cX0_back 26 = .ok (.aload_n 0, 1) := dk_42 (dk_at dksX0_back_1 3 rfl rfl)
theorem dX0_back_27 : decode cX0_back 27 = .ok (.getfield 134, 3) := dk_180 0 134 (dk_at dksX0_back_1 4 rfl rfl)
theorem dX0_back_30 : decode cX0_back 30 = .ok (.aload_n 0, 1) := dk_42 (dk_at dksX0_back_1 7 rfl rfl)
theorem dX0_back_31 : decode cX0_back 31 = .ok (.getfield 137, 3) := dk_180 0 137 (dk_at dksX0_back_1 8 rfl rfl)
theorem dX0_back_34 : decode cX0_back 34 = .ok (.iload_n 1, 1) := dk_27 (dk_at dksX0_back_1 11 rfl rfl)
theorem dX0_back_35 : decode cX0_back 35 = .ok (.aaload, 1) := dk_50 (dk_at dksX0_back_1 12 rfl rfl)
theorem dX0_back_36 : decode cX0_back 36 = .ok (.invokevirtual 185, 3) := dk_182 0 185 (dk_at dksX0_back_1 13 rfl rfl)
theorem dX0_back_39 : decode cX0_back 39 = .ok (.aload_n 0, 1) := dk_42 (dk_at dksX0_back_1 16 rfl rfl)
theorem dX0_back_40 : decode cX0_back 40 = .ok (.getfield 134, 3) := dk_180 0 134 (dk_at dksX0_back_1 17 rfl rfl)
theorem dX0_back_43 : decode cX0_back 43 = .ok (.getfield 80, 3) := dk_180 0 80 (dk_at dksX0_back_1 20 rfl rfl)
theorem dX0_back_46 : decode cX0_back 46 = .ok (.ireturn, 1) := dk_172 (dk_at dksX0_back_1 23 rfl rfl)
abbrev cX0_sheet : ByteArray := prog_1_method_66_code
def yX0_sheet : MethodName := ⟨RX0, "sheet", "(III)I"⟩
def dkwX0_sheet_2 : List UInt8 := [181, 1, 74, 4, 172, 58, 4, 16, 242, 172]
abbrev dktX0_sheet_2 : List UInt8 := dkwX0_sheet_2 ++ []
def dkwX0_sheet_1 : List UInt8 := [154, 0, 9, 29, 188, 8, 167, 0, 17, 28, 4, 160, 0, 9, 29, 188, 9, 167, 0, 6, 29, 188, 10]
abbrev dktX0_sheet_1 : List UInt8 := dkwX0_sheet_1 ++ dktX0_sheet_2
def dkwX0_sheet_0 : List UInt8 := [27, 28, 184, 1, 71, 153, 0, 9, 29, 16, 40, 164, 0, 5, 2, 172, 42, 180, 0, 157, 27, 50, 28]
abbrev dktX0_sheet_0 : List UInt8 := dkwX0_sheet_0 ++ dktX0_sheet_1
theorem dksX0_sheet_0 : cX0_sheet.data.toList.drop 0 = dktX0_sheet_0 := by decide +kernel
theorem dksX0_sheet_1 : cX0_sheet.data.toList.drop 23 = dktX0_sheet_1 := dk_seg dksX0_sheet_0 23 rfl rfl
theorem dksX0_sheet_2 : cX0_sheet.data.toList.drop 46 = dktX0_sheet_2 := dk_seg dksX0_sheet_1 23 rfl rfl
theorem dX0_sheet_0 : decode cX0_sheet 0 = .ok (.iload_n 1, 1) := dk_27 (dk_at dksX0_sheet_0 0 rfl rfl)
theorem dX0_sheet_1 : decode cX0_sheet 1 = .ok (.iload_n 2, 1) := dk_28 (dk_at dksX0_sheet_0 1 rfl rfl)
theorem dX0_sheet_2 : decode cX0_sheet 2 = .ok (.invokestatic 327, 3) := dk_184 1 71 (dk_at dksX0_sheet_0 2 rfl rfl)
theorem dX0_sheet_5 : decode cX0_sheet 5 = .ok (.ifCond .eq 9, 3) := dk_153 0 9 (dk_at dksX0_sheet_0 5 rfl rfl)
theorem dX0_sheet_8 : decode cX0_sheet 8 = .ok (.iload_n 3, 1) := dk_29 (dk_at dksX0_sheet_0 8 rfl rfl)
theorem dX0_sheet_9 : decode cX0_sheet 9 = .ok (.bipush 40, 2) := dk_16 40 (dk_at dksX0_sheet_0 9 rfl rfl)
theorem dX0_sheet_11 : decode cX0_sheet 11 = .ok (.if_icmp .le 5, 3) := dk_164 0 5 (dk_at dksX0_sheet_0 11 rfl rfl)
theorem dX0_sheet_14 : decode cX0_sheet 14 = .ok (.iconst (-1), 1) := dk_2 (dk_at dksX0_sheet_0 14 rfl rfl)
theorem dX0_sheet_15 : decode cX0_sheet 15 = .ok (.ireturn, 1) := dk_172 (dk_at dksX0_sheet_0 15 rfl rfl)
theorem dX0_sheet_16 : decode cX0_sheet 16 = .ok (.aload_n 0, 1) := dk_42 (dk_at dksX0_sheet_0 16 rfl rfl)
theorem dX0_sheet_17 : decode cX0_sheet 17 = .ok (.getfield 157, 3) := dk_180 0 157 (dk_at dksX0_sheet_0 17 rfl rfl)
theorem dX0_sheet_20 : decode cX0_sheet 20 = .ok (.iload_n 1, 1) := dk_27 (dk_at dksX0_sheet_0 20 rfl rfl)
theorem dX0_sheet_21 : decode cX0_sheet 21 = .ok (.aaload, 1) := dk_50 (dk_at dksX0_sheet_0 21 rfl rfl)
theorem dX0_sheet_22 : decode cX0_sheet 22 = .ok (.iload_n 2, 1) := dk_28 (dk_at dksX0_sheet_0 22 rfl rfl)
theorem dX0_sheet_23 : decode cX0_sheet 23 = .ok (.ifCond .ne 9, 3) := dk_154 0 9 (dk_at dksX0_sheet_1 0 rfl rfl)
theorem dX0_sheet_26 : decode cX0_sheet 26 = .ok (.iload_n 3, 1) := dk_29 (dk_at dksX0_sheet_1 3 rfl rfl)
theorem dX0_sheet_27 : decode cX0_sheet 27 = .ok (.newarray .byte, 2) := dk_188_8 (dk_at dksX0_sheet_1 4 rfl rfl)
theorem dX0_sheet_29 : decode cX0_sheet 29 = .ok (.goto 17, 3) := dk_167 0 17 (dk_at dksX0_sheet_1 6 rfl rfl)
theorem dX0_sheet_32 : decode cX0_sheet 32 = .ok (.iload_n 2, 1) := dk_28 (dk_at dksX0_sheet_1 9 rfl rfl)
theorem dX0_sheet_33 : decode cX0_sheet 33 = .ok (.iconst 1, 1) := dk_4 (dk_at dksX0_sheet_1 10 rfl rfl)
theorem dX0_sheet_34 : decode cX0_sheet 34 = .ok (.if_icmp .ne 9, 3) := dk_160 0 9 (dk_at dksX0_sheet_1 11 rfl rfl)
theorem dX0_sheet_37 : decode cX0_sheet 37 = .ok (.iload_n 3, 1) := dk_29 (dk_at dksX0_sheet_1 14 rfl rfl)
theorem dX0_sheet_38 : decode cX0_sheet 38 = .ok (.newarray .short, 2) := dk_188_9 (dk_at dksX0_sheet_1 15 rfl rfl)
theorem dX0_sheet_40 : decode cX0_sheet 40 = .ok (.goto 6, 3) := dk_167 0 6 (dk_at dksX0_sheet_1 17 rfl rfl)
theorem dX0_sheet_43 : decode cX0_sheet 43 = .ok (.iload_n 3, 1) := dk_29 (dk_at dksX0_sheet_1 20 rfl rfl)
theorem dX0_sheet_44 : decode cX0_sheet 44 = .ok (.newarray .int, 2) := dk_188_10 (dk_at dksX0_sheet_1 21 rfl rfl)
theorem dX0_sheet_46 : decode cX0_sheet 46 = .ok (.putfield 330, 3) := dk_181 1 74 (dk_at dksX0_sheet_2 0 rfl rfl)
theorem dX0_sheet_49 : decode cX0_sheet 49 = .ok (.iconst 1, 1) := dk_4 (dk_at dksX0_sheet_2 3 rfl rfl)
theorem dX0_sheet_50 : decode cX0_sheet 50 = .ok (.ireturn, 1) := dk_172 (dk_at dksX0_sheet_2 4 rfl rfl)
theorem dX0_sheet_51 : decode cX0_sheet 51 = .ok (.astore 4, 2) := dk_58 4 (dk_at dksX0_sheet_2 5 rfl rfl)
theorem dX0_sheet_53 : decode cX0_sheet 53 = .ok (.bipush (-14), 2) := dk_16 242 (dk_at dksX0_sheet_2 7 rfl rfl)
theorem dX0_sheet_55 : decode cX0_sheet 55 = .ok (.ireturn, 1) := dk_172 (dk_at dksX0_sheet_2 9 rfl rfl)
abbrev cX0_isSheet : ByteArray := prog_1_method_65_code
def yX0_isSheet : MethodName := ⟨RX0, "isSheet", "(II)Z"⟩
def dkwX0_isSheet_1 : List UInt8 := [4, 167, 0, 4, 3, 172]
abbrev dktX0_isSheet_1 : List UInt8 := dkwX0_isSheet_1 ++ []
def dkwX0_isSheet_0 : List UInt8 := [26, 133, 9, 20, 0, 220, 184, 0, 164, 153, 0, 19, 27, 133, 9, 20, 1, 69, 184, 0, 164, 153, 0, 7]
abbrev dktX0_isSheet_0 : List UInt8 := dkwX0_isSheet_0 ++ dktX0_isSheet_1
theorem dksX0_isSheet_0 : cX0_isSheet.data.toList.drop 0 = dktX0_isSheet_0 := by decide +kernel
theorem dksX0_isSheet_1 : cX0_isSheet.data.toList.drop 24 = dktX0_isSheet_1 := dk_seg dksX0_isSheet_0 24 rfl rfl
theorem dX0_isSheet_0 : decode cX0_isSheet 0 = .ok (.iload_n 0, 1) := dk_26 (dk_at dksX0_isSheet_0 0 rfl rfl)
theorem dX0_isSheet_1 : decode cX0_isSheet 1 = .ok (.i2l, 1) := dk_133 (dk_at dksX0_isSheet_0 1 rfl rfl)
theorem dX0_isSheet_2 : decode cX0_isSheet 2 = .ok (.lconst 0, 1) := dk_9 (dk_at dksX0_isSheet_0 2 rfl rfl)
theorem dX0_isSheet_3 : decode cX0_isSheet 3 = .ok (.ldc2_w 220, 3) := dk_20 0 220 (dk_at dksX0_isSheet_0 3 rfl rfl)
theorem dX0_isSheet_6 : decode cX0_isSheet 6 = .ok (.invokestatic 164, 3) := dk_184 0 164 (dk_at dksX0_isSheet_0 6 rfl rfl)
theorem dX0_isSheet_9 : decode cX0_isSheet 9 = .ok (.ifCond .eq 19, 3) := dk_153 0 19 (dk_at dksX0_isSheet_0 9 rfl rfl)
theorem dX0_isSheet_12 : decode cX0_isSheet 12 = .ok (.iload_n 1, 1) := dk_27 (dk_at dksX0_isSheet_0 12 rfl rfl)
theorem dX0_isSheet_13 : decode cX0_isSheet 13 = .ok (.i2l, 1) := dk_133 (dk_at dksX0_isSheet_0 13 rfl rfl)
theorem dX0_isSheet_14 : decode cX0_isSheet 14 = .ok (.lconst 0, 1) := dk_9 (dk_at dksX0_isSheet_0 14 rfl rfl)
theorem dX0_isSheet_15 : decode cX0_isSheet 15 = .ok (.ldc2_w 325, 3) := dk_20 1 69 (dk_at dksX0_isSheet_0 15 rfl rfl)
theorem dX0_isSheet_18 : decode cX0_isSheet 18 = .ok (.invokestatic 164, 3) := dk_184 0 164 (dk_at dksX0_isSheet_0 18 rfl rfl)
theorem dX0_isSheet_21 : decode cX0_isSheet 21 = .ok (.ifCond .eq 7, 3) := dk_153 0 7 (dk_at dksX0_isSheet_0 21 rfl rfl)
theorem dX0_isSheet_24 : decode cX0_isSheet 24 = .ok (.iconst 1, 1) := dk_4 (dk_at dksX0_isSheet_1 0 rfl rfl)
theorem dX0_isSheet_25 : decode cX0_isSheet 25 = .ok (.goto 4, 3) := dk_167 0 4 (dk_at dksX0_isSheet_1 1 rfl rfl)
theorem dX0_isSheet_28 : decode cX0_isSheet 28 = .ok (.iconst 0, 1) := dk_3 (dk_at dksX0_isSheet_1 4 rfl rfl)
theorem dX0_isSheet_29 : decode cX0_isSheet 29 = .ok (.ireturn, 1) := dk_172 (dk_at dksX0_isSheet_1 5 rfl rfl)
abbrev cX0_lay : ByteArray := prog_1_method_67_code
def yX0_lay : MethodName := ⟨RX0, "lay", "(III)I"⟩
def dkwX0_lay_3 : List UInt8 := [29, 79, 4, 172, 58, 5, 16, 245, 172, 58, 5, 16, 244, 172]
abbrev dktX0_lay_3 : List UInt8 := dkwX0_lay_3 ++ []
def dkwX0_lay_2 : List UInt8 := [193, 1, 81, 153, 0, 15, 25, 4, 192, 1, 81, 28, 29, 147, 86, 167, 0, 11, 25, 4, 192, 1, 82, 28]
abbrev dktX0_lay_2 : List UInt8 := dkwX0_lay_2 ++ dktX0_lay_3
def dkwX0_lay_1 : List UInt8 := [58, 4, 25, 4, 193, 1, 80, 153, 0, 15, 25, 4, 192, 1, 80, 28, 29, 145, 84, 167, 0, 31, 25, 4]
abbrev dktX0_lay_1 : List UInt8 := dkwX0_lay_1 ++ dktX0_lay_2
def dkwX0_lay_0 : List UInt8 := [27, 133, 9, 20, 0, 220, 184, 0, 164, 154, 0, 5, 2, 172, 42, 180, 0, 157, 27, 50, 180, 1, 74]
abbrev dktX0_lay_0 : List UInt8 := dkwX0_lay_0 ++ dktX0_lay_1
theorem dksX0_lay_0 : cX0_lay.data.toList.drop 0 = dktX0_lay_0 := by decide +kernel
theorem dksX0_lay_1 : cX0_lay.data.toList.drop 23 = dktX0_lay_1 := dk_seg dksX0_lay_0 23 rfl rfl
theorem dksX0_lay_2 : cX0_lay.data.toList.drop 47 = dktX0_lay_2 := dk_seg dksX0_lay_1 24 rfl rfl
theorem dksX0_lay_3 : cX0_lay.data.toList.drop 71 = dktX0_lay_3 := dk_seg dksX0_lay_2 24 rfl rfl
theorem dX0_lay_0 : decode cX0_lay 0 = .ok (.iload_n 1, 1) := dk_27 (dk_at dksX0_lay_0 0 rfl rfl)
theorem dX0_lay_1 : decode cX0_lay 1 = .ok (.i2l, 1) := dk_133 (dk_at dksX0_lay_0 1 rfl rfl)
theorem dX0_lay_2 : decode cX0_lay 2 = .ok (.lconst 0, 1) := dk_9 (dk_at dksX0_lay_0 2 rfl rfl)
theorem dX0_lay_3 : decode cX0_lay 3 = .ok (.ldc2_w 220, 3) := dk_20 0 220 (dk_at dksX0_lay_0 3 rfl rfl)
theorem dX0_lay_6 : decode cX0_lay 6 = .ok (.invokestatic 164, 3) := dk_184 0 164 (dk_at dksX0_lay_0 6 rfl rfl)
theorem dX0_lay_9 : decode cX0_lay 9 = .ok (.ifCond .ne 5, 3) := dk_154 0 5 (dk_at dksX0_lay_0 9 rfl rfl)
theorem dX0_lay_12 : decode cX0_lay 12 = .ok (.iconst (-1), 1) := dk_2 (dk_at dksX0_lay_0 12 rfl rfl)
theorem dX0_lay_13 : decode cX0_lay 13 = .ok (.ireturn, 1) := dk_172 (dk_at dksX0_lay_0 13 rfl rfl)
theorem dX0_lay_14 : decode cX0_lay 14 = .ok (.aload_n 0, 1) := dk_42 (dk_at dksX0_lay_0 14 rfl rfl)
theorem dX0_lay_15 : decode cX0_lay 15 = .ok (.getfield 157, 3) := dk_180 0 157 (dk_at dksX0_lay_0 15 rfl rfl)
theorem dX0_lay_18 : decode cX0_lay 18 = .ok (.iload_n 1, 1) := dk_27 (dk_at dksX0_lay_0 18 rfl rfl)
theorem dX0_lay_19 : decode cX0_lay 19 = .ok (.aaload, 1) := dk_50 (dk_at dksX0_lay_0 19 rfl rfl)
theorem dX0_lay_20 : decode cX0_lay 20 = .ok (.getfield 330, 3) := dk_180 1 74 (dk_at dksX0_lay_0 20 rfl rfl)
theorem dX0_lay_23 : decode cX0_lay 23 = .ok (.astore 4, 2) := dk_58 4 (dk_at dksX0_lay_1 0 rfl rfl)
theorem dX0_lay_25 : decode cX0_lay 25 = .ok (.aload 4, 2) := dk_25 4 (dk_at dksX0_lay_1 2 rfl rfl)
theorem dX0_lay_27 : decode cX0_lay 27 = .ok (.instanceof 336, 3) := dk_193 1 80 (dk_at dksX0_lay_1 4 rfl rfl)
theorem dX0_lay_30 : decode cX0_lay 30 = .ok (.ifCond .eq 15, 3) := dk_153 0 15 (dk_at dksX0_lay_1 7 rfl rfl)
theorem dX0_lay_33 : decode cX0_lay 33 = .ok (.aload 4, 2) := dk_25 4 (dk_at dksX0_lay_1 10 rfl rfl)
theorem dX0_lay_35 : decode cX0_lay 35 = .ok (.checkcast 336, 3) := dk_192 1 80 (dk_at dksX0_lay_1 12 rfl rfl)
theorem dX0_lay_38 : decode cX0_lay 38 = .ok (.iload_n 2, 1) := dk_28 (dk_at dksX0_lay_1 15 rfl rfl)
theorem dX0_lay_39 : decode cX0_lay 39 = .ok (.iload_n 3, 1) := dk_29 (dk_at dksX0_lay_1 16 rfl rfl)
theorem dX0_lay_40 : decode cX0_lay 40 = .ok (.i2b, 1) := dk_145 (dk_at dksX0_lay_1 17 rfl rfl)
theorem dX0_lay_41 : decode cX0_lay 41 = .ok (.bastore, 1) := dk_84 (dk_at dksX0_lay_1 18 rfl rfl)
theorem dX0_lay_42 : decode cX0_lay 42 = .ok (.goto 31, 3) := dk_167 0 31 (dk_at dksX0_lay_1 19 rfl rfl)
theorem dX0_lay_45 : decode cX0_lay 45 = .ok (.aload 4, 2) := dk_25 4 (dk_at dksX0_lay_1 22 rfl rfl)
theorem dX0_lay_47 : decode cX0_lay 47 = .ok (.instanceof 337, 3) := dk_193 1 81 (dk_at dksX0_lay_2 0 rfl rfl)
theorem dX0_lay_50 : decode cX0_lay 50 = .ok (.ifCond .eq 15, 3) := dk_153 0 15 (dk_at dksX0_lay_2 3 rfl rfl)
theorem dX0_lay_53 : decode cX0_lay 53 = .ok (.aload 4, 2) := dk_25 4 (dk_at dksX0_lay_2 6 rfl rfl)
theorem dX0_lay_55 : decode cX0_lay 55 = .ok (.checkcast 337, 3) := dk_192 1 81 (dk_at dksX0_lay_2 8 rfl rfl)
theorem dX0_lay_58 : decode cX0_lay 58 = .ok (.iload_n 2, 1) := dk_28 (dk_at dksX0_lay_2 11 rfl rfl)
theorem dX0_lay_59 : decode cX0_lay 59 = .ok (.iload_n 3, 1) := dk_29 (dk_at dksX0_lay_2 12 rfl rfl)
theorem dX0_lay_60 : decode cX0_lay 60 = .ok (.i2s, 1) := dk_147 (dk_at dksX0_lay_2 13 rfl rfl)
theorem dX0_lay_61 : decode cX0_lay 61 = .ok (.sastore, 1) := dk_86 (dk_at dksX0_lay_2 14 rfl rfl)
theorem dX0_lay_62 : decode cX0_lay 62 = .ok (.goto 11, 3) := dk_167 0 11 (dk_at dksX0_lay_2 15 rfl rfl)
theorem dX0_lay_65 : decode cX0_lay 65 = .ok (.aload 4, 2) := dk_25 4 (dk_at dksX0_lay_2 18 rfl rfl)
theorem dX0_lay_67 : decode cX0_lay 67 = .ok (.checkcast 338, 3) := dk_192 1 82 (dk_at dksX0_lay_2 20 rfl rfl)
theorem dX0_lay_70 : decode cX0_lay 70 = .ok (.iload_n 2, 1) := dk_28 (dk_at dksX0_lay_2 23 rfl rfl)
theorem dX0_lay_71 : decode cX0_lay 71 = .ok (.iload_n 3, 1) := dk_29 (dk_at dksX0_lay_3 0 rfl rfl)
theorem dX0_lay_72 : decode cX0_lay 72 = .ok (.iastore, 1) := dk_79 (dk_at dksX0_lay_3 1 rfl rfl)
theorem dX0_lay_73 : decode cX0_lay 73 = .ok (.iconst 1, 1) := dk_4 (dk_at dksX0_lay_3 2 rfl rfl)
theorem dX0_lay_74 : decode cX0_lay 74 = .ok (.ireturn, 1) := dk_172 (dk_at dksX0_lay_3 3 rfl rfl)
theorem dX0_lay_75 : decode cX0_lay 75 = .ok (.astore 5, 2) := dk_58 5 (dk_at dksX0_lay_3 4 rfl rfl)
theorem dX0_lay_77 : decode cX0_lay 77 = .ok (.bipush (-11), 2) := dk_16 245 (dk_at dksX0_lay_3 6 rfl rfl)
theorem dX0_lay_79 : decode cX0_lay 79 = .ok (.ireturn, 1) := dk_172 (dk_at dksX0_lay_3 8 rfl rfl)
theorem dX0_lay_80 : decode cX0_lay 80 = .ok (.astore 5, 2) := dk_58 5 (dk_at dksX0_lay_3 9 rfl rfl)
theorem dX0_lay_82 : decode cX0_lay 82 = .ok (.bipush (-12), 2) := dk_16 244 (dk_at dksX0_lay_3 11 rfl rfl)
theorem dX0_lay_84 : decode cX0_lay 84 = .ok (.ireturn, 1) := dk_172 (dk_at dksX0_lay_3 13 rfl rfl)
abbrev cX0_read : ByteArray := prog_1_method_69_code
def yX0_read : MethodName := ⟨RX0, "read", "(IIII)I"⟩
def dkwX0_read_4 : List UInt8 := [58, 8, 6, 54, 6, 167, 0, 8, 58, 8, 5, 54, 6, 42, 21, 6, 181, 1, 96, 21, 7, 172]
abbrev dktX0_read_4 : List UInt8 := dkwX0_read_4 ++ []
def dkwX0_read_3 : List UInt8 := [16, 236, 21, 7, 100, 172, 132, 7, 1, 167, 255, 214, 167, 0, 24, 58, 8, 4, 54, 6, 167, 0, 16]
abbrev dktX0_read_3 : List UInt8 := dkwX0_read_3 ++ dktX0_read_4
def dkwX0_read_2 : List UInt8 := [28, 29, 21, 7, 96, 182, 1, 87, 182, 1, 91, 156, 0, 18, 42, 180, 0, 134, 21, 5, 181, 0, 203]
abbrev dktX0_read_2 : List UInt8 := dkwX0_read_2 ++ dktX0_read_3
def dkwX0_read_1 : List UInt8 := [180, 0, 134, 180, 0, 203, 54, 5, 3, 54, 6, 3, 54, 7, 21, 7, 21, 4, 162, 0, 41, 42, 42, 27]
abbrev dktX0_read_1 : List UInt8 := dkwX0_read_1 ++ dktX0_read_2
def dkwX0_read_0 : List UInt8 := [27, 28, 184, 1, 71, 153, 0, 16, 21, 4, 133, 9, 20, 1, 51, 184, 0, 164, 154, 0, 5, 2, 172, 42]
abbrev dktX0_read_0 : List UInt8 := dkwX0_read_0 ++ dktX0_read_1
theorem dksX0_read_0 : cX0_read.data.toList.drop 0 = dktX0_read_0 := by decide +kernel
theorem dksX0_read_1 : cX0_read.data.toList.drop 24 = dktX0_read_1 := dk_seg dksX0_read_0 24 rfl rfl
theorem dksX0_read_2 : cX0_read.data.toList.drop 48 = dktX0_read_2 := dk_seg dksX0_read_1 24 rfl rfl
theorem dksX0_read_3 : cX0_read.data.toList.drop 71 = dktX0_read_3 := dk_seg dksX0_read_2 23 rfl rfl
theorem dksX0_read_4 : cX0_read.data.toList.drop 94 = dktX0_read_4 := dk_seg dksX0_read_3 23 rfl rfl
theorem dX0_read_0 : decode cX0_read 0 = .ok (.iload_n 1, 1) := dk_27 (dk_at dksX0_read_0 0 rfl rfl)
theorem dX0_read_1 : decode cX0_read 1 = .ok (.iload_n 2, 1) := dk_28 (dk_at dksX0_read_0 1 rfl rfl)
theorem dX0_read_2 : decode cX0_read 2 = .ok (.invokestatic 327, 3) := dk_184 1 71 (dk_at dksX0_read_0 2 rfl rfl)
theorem dX0_read_5 : decode cX0_read 5 = .ok (.ifCond .eq 16, 3) := dk_153 0 16 (dk_at dksX0_read_0 5 rfl rfl)
theorem dX0_read_8 : decode cX0_read 8 = .ok (.iload 4, 2) := dk_21 4 (dk_at dksX0_read_0 8 rfl rfl)
theorem dX0_read_10 : decode cX0_read 10 = .ok (.i2l, 1) := dk_133 (dk_at dksX0_read_0 10 rfl rfl)
theorem dX0_read_11 : decode cX0_read 11 = .ok (.lconst 0, 1) := dk_9 (dk_at dksX0_read_0 11 rfl rfl)
theorem dX0_read_12 : decode cX0_read 12 = .ok (.ldc2_w 307, 3) := dk_20 1 51 (dk_at dksX0_read_0 12 rfl rfl)
theorem dX0_read_15 : decode cX0_read 15 = .ok (.invokestatic 164, 3) := dk_184 0 164 (dk_at dksX0_read_0 15 rfl rfl)
theorem dX0_read_18 : decode cX0_read 18 = .ok (.ifCond .ne 5, 3) := dk_154 0 5 (dk_at dksX0_read_0 18 rfl rfl)
theorem dX0_read_21 : decode cX0_read 21 = .ok (.iconst (-1), 1) := dk_2 (dk_at dksX0_read_0 21 rfl rfl)
theorem dX0_read_22 : decode cX0_read 22 = .ok (.ireturn, 1) := dk_172 (dk_at dksX0_read_0 22 rfl rfl)
theorem dX0_read_23 : decode cX0_read 23 = .ok (.aload_n 0, 1) := dk_42 (dk_at dksX0_read_0 23 rfl rfl)
theorem dX0_read_24 : decode cX0_read 24 = .ok (.getfield 134, 3) := dk_180 0 134 (dk_at dksX0_read_1 0 rfl rfl)
theorem dX0_read_27 : decode cX0_read 27 = .ok (.getfield 203, 3) := dk_180 0 203 (dk_at dksX0_read_1 3 rfl rfl)
theorem dX0_read_30 : decode cX0_read 30 = .ok (.istore 5, 2) := dk_54 5 (dk_at dksX0_read_1 6 rfl rfl)
theorem dX0_read_32 : decode cX0_read 32 = .ok (.iconst 0, 1) := dk_3 (dk_at dksX0_read_1 8 rfl rfl)
theorem dX0_read_33 : decode cX0_read 33 = .ok (.istore 6, 2) := dk_54 6 (dk_at dksX0_read_1 9 rfl rfl)
theorem dX0_read_35 : decode cX0_read 35 = .ok (.iconst 0, 1) := dk_3 (dk_at dksX0_read_1 11 rfl rfl)
theorem dX0_read_36 : decode cX0_read 36 = .ok (.istore 7, 2) := dk_54 7 (dk_at dksX0_read_1 12 rfl rfl)
theorem dX0_read_38 : decode cX0_read 38 = .ok (.iload 7, 2) := dk_21 7 (dk_at dksX0_read_1 14 rfl rfl)
theorem dX0_read_40 : decode cX0_read 40 = .ok (.iload 4, 2) := dk_21 4 (dk_at dksX0_read_1 16 rfl rfl)
theorem dX0_read_42 : decode cX0_read 42 = .ok (.if_icmp .ge 41, 3) := dk_162 0 41 (dk_at dksX0_read_1 18 rfl rfl)
theorem dX0_read_45 : decode cX0_read 45 = .ok (.aload_n 0, 1) := dk_42 (dk_at dksX0_read_1 21 rfl rfl)
theorem dX0_read_46 : decode cX0_read 46 = .ok (.aload_n 0, 1) := dk_42 (dk_at dksX0_read_1 22 rfl rfl)
theorem dX0_read_47 : decode cX0_read 47 = .ok (.iload_n 1, 1) := dk_27 (dk_at dksX0_read_1 23 rfl rfl)
theorem dX0_read_48 : decode cX0_read 48 = .ok (.iload_n 2, 1) := dk_28 (dk_at dksX0_read_2 0 rfl rfl)
theorem dX0_read_49 : decode cX0_read 49 = .ok (.iload_n 3, 1) := dk_29 (dk_at dksX0_read_2 1 rfl rfl)
theorem dX0_read_50 : decode cX0_read 50 = .ok (.iload 7, 2) := dk_21 7 (dk_at dksX0_read_2 2 rfl rfl)
theorem dX0_read_52 : decode cX0_read 52 = .ok (.iadd, 1) := dk_96 (dk_at dksX0_read_2 4 rfl rfl)
theorem dX0_read_53 : decode cX0_read 53 = .ok (.invokevirtual 343, 3) := dk_182 1 87 (dk_at dksX0_read_2 5 rfl rfl)
theorem dX0_read_56 : decode cX0_read 56 = .ok (.invokevirtual 347, 3) := dk_182 1 91 (dk_at dksX0_read_2 8 rfl rfl)
theorem dX0_read_59 : decode cX0_read 59 = .ok (.ifCond .ge 18, 3) := dk_156 0 18 (dk_at dksX0_read_2 11 rfl rfl)
theorem dX0_read_62 : decode cX0_read 62 = .ok (.aload_n 0, 1) := dk_42 (dk_at dksX0_read_2 14 rfl rfl)
theorem dX0_read_63 : decode cX0_read 63 = .ok (.getfield 134, 3) := dk_180 0 134 (dk_at dksX0_read_2 15 rfl rfl)
theorem dX0_read_66 : decode cX0_read 66 = .ok (.iload 5, 2) := dk_21 5 (dk_at dksX0_read_2 18 rfl rfl)
theorem dX0_read_68 : decode cX0_read 68 = .ok (.putfield 203, 3) := dk_181 0 203 (dk_at dksX0_read_2 20 rfl rfl)
theorem dX0_read_71 : decode cX0_read 71 = .ok (.bipush (-20), 2) := dk_16 236 (dk_at dksX0_read_3 0 rfl rfl)
theorem dX0_read_73 : decode cX0_read 73 = .ok (.iload 7, 2) := dk_21 7 (dk_at dksX0_read_3 2 rfl rfl)
theorem dX0_read_75 : decode cX0_read 75 = .ok (.isub, 1) := dk_100 (dk_at dksX0_read_3 4 rfl rfl)
theorem dX0_read_76 : decode cX0_read 76 = .ok (.ireturn, 1) := dk_172 (dk_at dksX0_read_3 5 rfl rfl)
theorem dX0_read_77 : decode cX0_read 77 = .ok (.iinc 7 1, 3) := dk_132 7 1 (dk_at dksX0_read_3 6 rfl rfl)
theorem dX0_read_80 : decode cX0_read 80 = .ok (.goto (-42), 3) := dk_167 255 214 (dk_at dksX0_read_3 9 rfl rfl)
theorem dX0_read_83 : decode cX0_read 83 = .ok (.goto 24, 3) := dk_167 0 24 (dk_at dksX0_read_3 12 rfl rfl)
theorem dX0_read_86 : decode cX0_read 86 = .ok (.astore 8, 2) := dk_58 8 (dk_at dksX0_read_3 15 rfl rfl)
theorem dX0_read_88 : decode cX0_read 88 = .ok (.iconst 1, 1) := dk_4 (dk_at dksX0_read_3 17 rfl rfl)
theorem dX0_read_89 : decode cX0_read 89 = .ok (.istore 6, 2) := dk_54 6 (dk_at dksX0_read_3 18 rfl rfl)
theorem dX0_read_91 : decode cX0_read 91 = .ok (.goto 16, 3) := dk_167 0 16 (dk_at dksX0_read_3 20 rfl rfl)
theorem dX0_read_94 : decode cX0_read 94 = .ok (.astore 8, 2) := dk_58 8 (dk_at dksX0_read_4 0 rfl rfl)
theorem dX0_read_96 : decode cX0_read 96 = .ok (.iconst 3, 1) := dk_6 (dk_at dksX0_read_4 2 rfl rfl)
theorem dX0_read_97 : decode cX0_read 97 = .ok (.istore 6, 2) := dk_54 6 (dk_at dksX0_read_4 3 rfl rfl)
theorem dX0_read_99 : decode cX0_read 99 = .ok (.goto 8, 3) := dk_167 0 8 (dk_at dksX0_read_4 5 rfl rfl)
theorem dX0_read_102 : decode cX0_read 102 = .ok (.astore 8, 2) := dk_58 8 (dk_at dksX0_read_4 8 rfl rfl)
theorem dX0_read_104 : decode cX0_read 104 = .ok (.iconst 2, 1) := dk_5 (dk_at dksX0_read_4 10 rfl rfl)
theorem dX0_read_105 : decode cX0_read 105 = .ok (.istore 6, 2) := dk_54 6 (dk_at dksX0_read_4 11 rfl rfl)
theorem dX0_read_107 : decode cX0_read 107 = .ok (.aload_n 0, 1) := dk_42 (dk_at dksX0_read_4 13 rfl rfl)
theorem dX0_read_108 : decode cX0_read 108 = .ok (.iload 6, 2) := dk_21 6 (dk_at dksX0_read_4 14 rfl rfl)
theorem dX0_read_110 : decode cX0_read 110 = .ok (.putfield 352, 3) := dk_181 1 96 (dk_at dksX0_read_4 16 rfl rfl)
theorem dX0_read_113 : decode cX0_read 113 = .ok (.iload 7, 2) := dk_21 7 (dk_at dksX0_read_4 19 rfl rfl)
theorem dX0_read_115 : decode cX0_read 115 = .ok (.ireturn, 1) := dk_172 (dk_at dksX0_read_4 21 rfl rfl)
abbrev cX0_takenOf : ByteArray := prog_1_method_68_code
def yX0_takenOf : MethodName := ⟨RX0, "takenOf", "(III)I"⟩
def dkwX0_takenOf_2 : List UInt8 := [46, 172]
abbrev dktX0_takenOf_2 : List UInt8 := dkwX0_takenOf_2 ++ []
def dkwX0_takenOf_1 : List UInt8 := [167, 0, 25, 28, 4, 160, 0, 13, 25, 4, 192, 1, 81, 29, 53, 167, 0, 10, 25, 4, 192, 1, 82, 29]
abbrev dktX0_takenOf_1 : List UInt8 := dkwX0_takenOf_1 ++ dktX0_takenOf_2
def dkwX0_takenOf_0 : List UInt8 := [42, 180, 0, 157, 27, 50, 180, 1, 74, 58, 4, 28, 154, 0, 13, 25, 4, 192, 1, 80, 29, 51]
abbrev dktX0_takenOf_0 : List UInt8 := dkwX0_takenOf_0 ++ dktX0_takenOf_1
theorem dksX0_takenOf_0 : cX0_takenOf.data.toList.drop 0 = dktX0_takenOf_0 := by decide +kernel
theorem dksX0_takenOf_1 : cX0_takenOf.data.toList.drop 22 = dktX0_takenOf_1 := dk_seg dksX0_takenOf_0 22 rfl rfl
theorem dksX0_takenOf_2 : cX0_takenOf.data.toList.drop 46 = dktX0_takenOf_2 := dk_seg dksX0_takenOf_1 24 rfl rfl
theorem dX0_takenOf_0 : decode cX0_takenOf 0 = .ok (.aload_n 0, 1) := dk_42 (dk_at dksX0_takenOf_0 0 rfl rfl)
theorem dX0_takenOf_1 : decode cX0_takenOf 1 = .ok (.getfield 157, 3) := dk_180 0 157 (dk_at dksX0_takenOf_0 1 rfl rfl)
theorem dX0_takenOf_4 : decode cX0_takenOf 4 = .ok (.iload_n 1, 1) := dk_27 (dk_at dksX0_takenOf_0 4 rfl rfl)
theorem dX0_takenOf_5 : decode cX0_takenOf 5 = .ok (.aaload, 1) := dk_50 (dk_at dksX0_takenOf_0 5 rfl rfl)
theorem dX0_takenOf_6 : decode cX0_takenOf 6 = .ok (.getfield 330, 3) := dk_180 1 74 (dk_at dksX0_takenOf_0 6 rfl rfl)
theorem dX0_takenOf_9 : decode cX0_takenOf 9 = .ok (.astore 4, 2) := dk_58 4 (dk_at dksX0_takenOf_0 9 rfl rfl)
theorem dX0_takenOf_11 : decode cX0_takenOf 11 = .ok (.iload_n 2, 1) := dk_28 (dk_at dksX0_takenOf_0 11 rfl rfl)
theorem dX0_takenOf_12 : decode cX0_takenOf 12 = .ok (.ifCond .ne 13, 3) := dk_154 0 13 (dk_at dksX0_takenOf_0 12 rfl rfl)
theorem dX0_takenOf_15 : decode cX0_takenOf 15 = .ok (.aload 4, 2) := dk_25 4 (dk_at dksX0_takenOf_0 15 rfl rfl)
theorem dX0_takenOf_17 : decode cX0_takenOf 17 = .ok (.checkcast 336, 3) := dk_192 1 80 (dk_at dksX0_takenOf_0 17 rfl rfl)
theorem dX0_takenOf_20 : decode cX0_takenOf 20 = .ok (.iload_n 3, 1) := dk_29 (dk_at dksX0_takenOf_0 20 rfl rfl)
theorem dX0_takenOf_21 : decode cX0_takenOf 21 = .ok (.baload, 1) := dk_51 (dk_at dksX0_takenOf_0 21 rfl rfl)
theorem dX0_takenOf_22 : decode cX0_takenOf 22 = .ok (.goto 25, 3) := dk_167 0 25 (dk_at dksX0_takenOf_1 0 rfl rfl)
theorem dX0_takenOf_25 : decode cX0_takenOf 25 = .ok (.iload_n 2, 1) := dk_28 (dk_at dksX0_takenOf_1 3 rfl rfl)
theorem dX0_takenOf_26 : decode cX0_takenOf 26 = .ok (.iconst 1, 1) := dk_4 (dk_at dksX0_takenOf_1 4 rfl rfl)
theorem dX0_takenOf_27 : decode cX0_takenOf 27 = .ok (.if_icmp .ne 13, 3) := dk_160 0 13 (dk_at dksX0_takenOf_1 5 rfl rfl)
theorem dX0_takenOf_30 : decode cX0_takenOf 30 = .ok (.aload 4, 2) := dk_25 4 (dk_at dksX0_takenOf_1 8 rfl rfl)
theorem dX0_takenOf_32 : decode cX0_takenOf 32 = .ok (.checkcast 337, 3) := dk_192 1 81 (dk_at dksX0_takenOf_1 10 rfl rfl)
theorem dX0_takenOf_35 : decode cX0_takenOf 35 = .ok (.iload_n 3, 1) := dk_29 (dk_at dksX0_takenOf_1 13 rfl rfl)
theorem dX0_takenOf_36 : decode cX0_takenOf 36 = .ok (.saload, 1) := dk_53 (dk_at dksX0_takenOf_1 14 rfl rfl)
theorem dX0_takenOf_37 : decode cX0_takenOf 37 = .ok (.goto 10, 3) := dk_167 0 10 (dk_at dksX0_takenOf_1 15 rfl rfl)
theorem dX0_takenOf_40 : decode cX0_takenOf 40 = .ok (.aload 4, 2) := dk_25 4 (dk_at dksX0_takenOf_1 18 rfl rfl)
theorem dX0_takenOf_42 : decode cX0_takenOf 42 = .ok (.checkcast 338, 3) := dk_192 1 82 (dk_at dksX0_takenOf_1 20 rfl rfl)
theorem dX0_takenOf_45 : decode cX0_takenOf 45 = .ok (.iload_n 3, 1) := dk_29 (dk_at dksX0_takenOf_1 23 rfl rfl)
theorem dX0_takenOf_46 : decode cX0_takenOf 46 = .ok (.iaload, 1) := dk_46 (dk_at dksX0_takenOf_2 0 rfl rfl)
theorem dX0_takenOf_47 : decode cX0_takenOf 47 = .ok (.ireturn, 1) := dk_172 (dk_at dksX0_takenOf_2 1 rfl rfl)
abbrev cX0_torn : ByteArray := prog_1_method_70_code
def yX0_torn : MethodName := ⟨RX0, "torn", "()I"⟩
theorem dX0_torn_0 : decode cX0_torn 0 = .ok (.aload_n 0, 1) := by decide +kernel
theorem dX0_torn_1 : decode cX0_torn 1 = .ok (.getfield 352, 3) := by decide +kernel
theorem dX0_torn_4 : decode cX0_torn 4 = .ok (.ireturn, 1) := by decide +kernel
abbrev cX0_count : ByteArray := prog_1_method_71_code
def yX0_count : MethodName := ⟨RX0, "count", "(I)I"⟩
def dkwX0_count_8 : List UInt8 := [21, 5, 172, 2, 172]
abbrev dktX0_count_8 : List UInt8 := dkwX0_count_8 ++ []
def dkwX0_count_7 : List UInt8 := [42, 180, 0, 189, 172, 42, 180, 0, 192, 184, 1, 99, 172, 42, 180, 0, 168, 172, 29, 172, 21, 4, 172]
abbrev dktX0_count_7 : List UInt8 := dkwX0_count_7 ++ dktX0_count_8
def dkwX0_count_6 : List UInt8 := [170, 0, 0, 0, 0, 64, 0, 0, 0, 0, 0, 0, 0, 5, 0, 0, 0, 38, 0, 0, 0, 43, 0, 0, 0, 51, 0, 0, 0, 56, 0, 0, 0, 58, 0, 0, 0, 61]
abbrev dktX0_count_6 : List UInt8 := dkwX0_count_6 ++ dktX0_count_7
def dkwX0_count_5 : List UInt8 := [132, 6, 1, 167, 255, 205, 27]
abbrev dktX0_count_5 : List UInt8 := dkwX0_count_5 ++ dktX0_count_6
def dkwX0_count_4 : List UInt8 := [180, 0, 216, 96, 54, 4, 21, 5, 42, 180, 0, 134, 180, 0, 20, 21, 6, 50, 180, 0, 77, 96, 54, 5]
abbrev dktX0_count_4 : List UInt8 := dkwX0_count_4 ++ dktX0_count_5
def dkwX0_count_3 : List UInt8 := [21, 6, 42, 180, 0, 134, 180, 0, 44, 162, 0, 45, 21, 4, 42, 180, 0, 134, 180, 0, 20, 21, 6, 50]
abbrev dktX0_count_3 : List UInt8 := dkwX0_count_3 ++ dktX0_count_4
def dkwX0_count_2 : List UInt8 := [153, 0, 11, 44, 192, 1, 82, 190, 167, 0, 5, 16, 252, 62, 3, 54, 4, 3, 54, 5, 3, 54, 6]
abbrev dktX0_count_2 : List UInt8 := dkwX0_count_2 ++ dktX0_count_3
def dkwX0_count_1 : List UInt8 := [167, 0, 35, 44, 193, 1, 81, 153, 0, 11, 44, 192, 1, 81, 190, 167, 0, 20, 44, 193, 1, 82]
abbrev dktX0_count_1 : List UInt8 := dkwX0_count_1 ++ dktX0_count_2
def dkwX0_count_0 : List UInt8 := [42, 180, 0, 157, 3, 50, 180, 1, 74, 77, 44, 193, 1, 80, 153, 0, 11, 44, 192, 1, 80, 190]
abbrev dktX0_count_0 : List UInt8 := dkwX0_count_0 ++ dktX0_count_1
theorem dksX0_count_0 : cX0_count.data.toList.drop 0 = dktX0_count_0 := by decide +kernel
theorem dksX0_count_1 : cX0_count.data.toList.drop 22 = dktX0_count_1 := dk_seg dksX0_count_0 22 rfl rfl
theorem dksX0_count_2 : cX0_count.data.toList.drop 44 = dktX0_count_2 := dk_seg dksX0_count_1 22 rfl rfl
theorem dksX0_count_3 : cX0_count.data.toList.drop 67 = dktX0_count_3 := dk_seg dksX0_count_2 23 rfl rfl
theorem dksX0_count_4 : cX0_count.data.toList.drop 91 = dktX0_count_4 := dk_seg dksX0_count_3 24 rfl rfl
theorem dksX0_count_5 : cX0_count.data.toList.drop 115 = dktX0_count_5 := dk_seg dksX0_count_4 24 rfl rfl
theorem dksX0_count_6 : cX0_count.data.toList.drop 122 = dktX0_count_6 := dk_seg dksX0_count_5 7 rfl rfl
theorem dksX0_count_7 : cX0_count.data.toList.drop 160 = dktX0_count_7 := dk_seg dksX0_count_6 38 rfl rfl
theorem dksX0_count_8 : cX0_count.data.toList.drop 183 = dktX0_count_8 := dk_seg dksX0_count_7 23 rfl rfl
theorem dX0_count_0 : decode cX0_count 0 = .ok (.aload_n 0, 1) := dk_42 (dk_at dksX0_count_0 0 rfl rfl)
theorem dX0_count_1 : decode cX0_count 1 = .ok (.getfield 157, 3) := dk_180 0 157 (dk_at dksX0_count_0 1 rfl rfl)
theorem dX0_count_4 : decode cX0_count 4 = .ok (.iconst 0, 1) := dk_3 (dk_at dksX0_count_0 4 rfl rfl)
theorem dX0_count_5 : decode cX0_count 5 = .ok (.aaload, 1) := dk_50 (dk_at dksX0_count_0 5 rfl rfl)
theorem dX0_count_6 : decode cX0_count 6 = .ok (.getfield 330, 3) := dk_180 1 74 (dk_at dksX0_count_0 6 rfl rfl)
theorem dX0_count_9 : decode cX0_count 9 = .ok (.astore_n 2, 1) := dk_77 (dk_at dksX0_count_0 9 rfl rfl)
theorem dX0_count_10 : decode cX0_count 10 = .ok (.aload_n 2, 1) := dk_44 (dk_at dksX0_count_0 10 rfl rfl)
theorem dX0_count_11 : decode cX0_count 11 = .ok (.instanceof 336, 3) := dk_193 1 80 (dk_at dksX0_count_0 11 rfl rfl)
theorem dX0_count_14 : decode cX0_count 14 = .ok (.ifCond .eq 11, 3) := dk_153 0 11 (dk_at dksX0_count_0 14 rfl rfl)
theorem dX0_count_17 : decode cX0_count 17 = .ok (.aload_n 2, 1) := dk_44 (dk_at dksX0_count_0 17 rfl rfl)
theorem dX0_count_18 : decode cX0_count 18 = .ok (.checkcast 336, 3) := dk_192 1 80 (dk_at dksX0_count_0 18 rfl rfl)
theorem dX0_count_21 : decode cX0_count 21 = .ok (.arraylength, 1) := dk_190 (dk_at dksX0_count_0 21 rfl rfl)
theorem dX0_count_22 : decode cX0_count 22 = .ok (.goto 35, 3) := dk_167 0 35 (dk_at dksX0_count_1 0 rfl rfl)
theorem dX0_count_25 : decode cX0_count 25 = .ok (.aload_n 2, 1) := dk_44 (dk_at dksX0_count_1 3 rfl rfl)
theorem dX0_count_26 : decode cX0_count 26 = .ok (.instanceof 337, 3) := dk_193 1 81 (dk_at dksX0_count_1 4 rfl rfl)
theorem dX0_count_29 : decode cX0_count 29 = .ok (.ifCond .eq 11, 3) := dk_153 0 11 (dk_at dksX0_count_1 7 rfl rfl)
theorem dX0_count_32 : decode cX0_count 32 = .ok (.aload_n 2, 1) := dk_44 (dk_at dksX0_count_1 10 rfl rfl)
theorem dX0_count_33 : decode cX0_count 33 = .ok (.checkcast 337, 3) := dk_192 1 81 (dk_at dksX0_count_1 11 rfl rfl)
theorem dX0_count_36 : decode cX0_count 36 = .ok (.arraylength, 1) := dk_190 (dk_at dksX0_count_1 14 rfl rfl)
theorem dX0_count_37 : decode cX0_count 37 = .ok (.goto 20, 3) := dk_167 0 20 (dk_at dksX0_count_1 15 rfl rfl)
theorem dX0_count_40 : decode cX0_count 40 = .ok (.aload_n 2, 1) := dk_44 (dk_at dksX0_count_1 18 rfl rfl)
theorem dX0_count_41 : decode cX0_count 41 = .ok (.instanceof 338, 3) := dk_193 1 82 (dk_at dksX0_count_1 19 rfl rfl)
theorem dX0_count_44 : decode cX0_count 44 = .ok (.ifCond .eq 11, 3) := dk_153 0 11 (dk_at dksX0_count_2 0 rfl rfl)
theorem dX0_count_47 : decode cX0_count 47 = .ok (.aload_n 2, 1) := dk_44 (dk_at dksX0_count_2 3 rfl rfl)
theorem dX0_count_48 : decode cX0_count 48 = .ok (.checkcast 338, 3) := dk_192 1 82 (dk_at dksX0_count_2 4 rfl rfl)
theorem dX0_count_51 : decode cX0_count 51 = .ok (.arraylength, 1) := dk_190 (dk_at dksX0_count_2 7 rfl rfl)
theorem dX0_count_52 : decode cX0_count 52 = .ok (.goto 5, 3) := dk_167 0 5 (dk_at dksX0_count_2 8 rfl rfl)
theorem dX0_count_55 : decode cX0_count 55 = .ok (.bipush (-4), 2) := dk_16 252 (dk_at dksX0_count_2 11 rfl rfl)
theorem dX0_count_57 : decode cX0_count 57 = .ok (.istore_n 3, 1) := dk_62 (dk_at dksX0_count_2 13 rfl rfl)
theorem dX0_count_58 : decode cX0_count 58 = .ok (.iconst 0, 1) := dk_3 (dk_at dksX0_count_2 14 rfl rfl)
theorem dX0_count_59 : decode cX0_count 59 = .ok (.istore 4, 2) := dk_54 4 (dk_at dksX0_count_2 15 rfl rfl)
theorem dX0_count_61 : decode cX0_count 61 = .ok (.iconst 0, 1) := dk_3 (dk_at dksX0_count_2 17 rfl rfl)
theorem dX0_count_62 : decode cX0_count 62 = .ok (.istore 5, 2) := dk_54 5 (dk_at dksX0_count_2 18 rfl rfl)
theorem dX0_count_64 : decode cX0_count 64 = .ok (.iconst 0, 1) := dk_3 (dk_at dksX0_count_2 20 rfl rfl)
theorem dX0_count_65 : decode cX0_count 65 = .ok (.istore 6, 2) := dk_54 6 (dk_at dksX0_count_2 21 rfl rfl)
theorem dX0_count_67 : decode cX0_count 67 = .ok (.iload 6, 2) := dk_21 6 (dk_at dksX0_count_3 0 rfl rfl)
theorem dX0_count_69 : decode cX0_count 69 = .ok (.aload_n 0, 1) := dk_42 (dk_at dksX0_count_3 2 rfl rfl)
theorem dX0_count_70 : decode cX0_count 70 = .ok (.getfield 134, 3) := dk_180 0 134 (dk_at dksX0_count_3 3 rfl rfl)
theorem dX0_count_73 : decode cX0_count 73 = .ok (.getfield 44, 3) := dk_180 0 44 (dk_at dksX0_count_3 6 rfl rfl)
theorem dX0_count_76 : decode cX0_count 76 = .ok (.if_icmp .ge 45, 3) := dk_162 0 45 (dk_at dksX0_count_3 9 rfl rfl)
theorem dX0_count_79 : decode cX0_count 79 = .ok (.iload 4, 2) := dk_21 4 (dk_at dksX0_count_3 12 rfl rfl)
theorem dX0_count_81 : decode cX0_count 81 = .ok (.aload_n 0, 1) := dk_42 (dk_at dksX0_count_3 14 rfl rfl)
theorem dX0_count_82 : decode cX0_count 82 = .ok (.getfield 134, 3) := dk_180 0 134 (dk_at dksX0_count_3 15 rfl rfl)
theorem dX0_count_85 : decode cX0_count 85 = .ok (.getfield 20, 3) := dk_180 0 20 (dk_at dksX0_count_3 18 rfl rfl)
theorem dX0_count_88 : decode cX0_count 88 = .ok (.iload 6, 2) := dk_21 6 (dk_at dksX0_count_3 21 rfl rfl)
theorem dX0_count_90 : decode cX0_count 90 = .ok (.aaload, 1) := dk_50 (dk_at dksX0_count_3 23 rfl rfl)
theorem dX0_count_91 : decode cX0_count 91 = .ok (.getfield 216, 3) := dk_180 0 216 (dk_at dksX0_count_4 0 rfl rfl)
theorem dX0_count_94 : decode cX0_count 94 = .ok (.iadd, 1) := dk_96 (dk_at dksX0_count_4 3 rfl rfl)
theorem dX0_count_95 : decode cX0_count 95 = .ok (.istore 4, 2) := dk_54 4 (dk_at dksX0_count_4 4 rfl rfl)
theorem dX0_count_97 : decode cX0_count 97 = .ok (.iload 5, 2) := dk_21 5 (dk_at dksX0_count_4 6 rfl rfl)
theorem dX0_count_99 : decode cX0_count 99 = .ok (.aload_n 0, 1) := dk_42 (dk_at dksX0_count_4 8 rfl rfl)
theorem dX0_count_100 : decode cX0_count 100 = .ok (.getfield 134, 3) := dk_180 0 134 (dk_at dksX0_count_4 9 rfl rfl)
theorem dX0_count_103 : decode cX0_count 103 = .ok (.getfield 20, 3) := dk_180 0 20 (dk_at dksX0_count_4 12 rfl rfl)
theorem dX0_count_106 : decode cX0_count 106 = .ok (.iload 6, 2) := dk_21 6 (dk_at dksX0_count_4 15 rfl rfl)
theorem dX0_count_108 : decode cX0_count 108 = .ok (.aaload, 1) := dk_50 (dk_at dksX0_count_4 17 rfl rfl)
theorem dX0_count_109 : decode cX0_count 109 = .ok (.getfield 77, 3) := dk_180 0 77 (dk_at dksX0_count_4 18 rfl rfl)
theorem dX0_count_112 : decode cX0_count 112 = .ok (.iadd, 1) := dk_96 (dk_at dksX0_count_4 21 rfl rfl)
theorem dX0_count_113 : decode cX0_count 113 = .ok (.istore 5, 2) := dk_54 5 (dk_at dksX0_count_4 22 rfl rfl)
theorem dX0_count_115 : decode cX0_count 115 = .ok (.iinc 6 1, 3) := dk_132 6 1 (dk_at dksX0_count_5 0 rfl rfl)
theorem dX0_count_118 : decode cX0_count 118 = .ok (.goto (-51), 3) := dk_167 255 205 (dk_at dksX0_count_5 3 rfl rfl)
theorem dX0_count_121 : decode cX0_count 121 = .ok (.iload_n 1, 1) := dk_27 (dk_at dksX0_count_5 6 rfl rfl)
theorem dX0_count_122 : decode cX0_count 122 = .ok (.tableswitch 64 0 5 #[38, 43, 51, 56, 58, 61], 38) := by decide +kernel
theorem dX0_count_160 : decode cX0_count 160 = .ok (.aload_n 0, 1) := dk_42 (dk_at dksX0_count_7 0 rfl rfl)
theorem dX0_count_161 : decode cX0_count 161 = .ok (.getfield 189, 3) := dk_180 0 189 (dk_at dksX0_count_7 1 rfl rfl)
theorem dX0_count_164 : decode cX0_count 164 = .ok (.ireturn, 1) := dk_172 (dk_at dksX0_count_7 4 rfl rfl)
theorem dX0_count_165 : decode cX0_count 165 = .ok (.aload_n 0, 1) := dk_42 (dk_at dksX0_count_7 5 rfl rfl)
theorem dX0_count_166 : decode cX0_count 166 = .ok (.getfield 192, 3) := dk_180 0 192 (dk_at dksX0_count_7 6 rfl rfl)
theorem dX0_count_169 : decode cX0_count 169 = .ok (.invokestatic 355, 3) := dk_184 1 99 (dk_at dksX0_count_7 9 rfl rfl)
theorem dX0_count_172 : decode cX0_count 172 = .ok (.ireturn, 1) := dk_172 (dk_at dksX0_count_7 12 rfl rfl)
theorem dX0_count_173 : decode cX0_count 173 = .ok (.aload_n 0, 1) := dk_42 (dk_at dksX0_count_7 13 rfl rfl)
theorem dX0_count_174 : decode cX0_count 174 = .ok (.getfield 168, 3) := dk_180 0 168 (dk_at dksX0_count_7 14 rfl rfl)
theorem dX0_count_177 : decode cX0_count 177 = .ok (.ireturn, 1) := dk_172 (dk_at dksX0_count_7 17 rfl rfl)
theorem dX0_count_178 : decode cX0_count 178 = .ok (.iload_n 3, 1) := dk_29 (dk_at dksX0_count_7 18 rfl rfl)
theorem dX0_count_179 : decode cX0_count 179 = .ok (.ireturn, 1) := dk_172 (dk_at dksX0_count_7 19 rfl rfl)
theorem dX0_count_180 : decode cX0_count 180 = .ok (.iload 4, 2) := dk_21 4 (dk_at dksX0_count_7 20 rfl rfl)
theorem dX0_count_182 : decode cX0_count 182 = .ok (.ireturn, 1) := dk_172 (dk_at dksX0_count_7 22 rfl rfl)
theorem dX0_count_183 : decode cX0_count 183 = .ok (.iload 5, 2) := dk_21 5 (dk_at dksX0_count_8 0 rfl rfl)
theorem dX0_count_185 : decode cX0_count 185 = .ok (.ireturn, 1) := dk_172 (dk_at dksX0_count_8 2 rfl rfl)
theorem dX0_count_186 : decode cX0_count 186 = .ok (.iconst (-1), 1) := dk_2 (dk_at dksX0_count_8 3 rfl rfl)
theorem dX0_count_187 : decode cX0_count 187 = .ok (.ireturn, 1) := dk_172 (dk_at dksX0_count_8 4 rfl rfl)
theorem q57 : (Jvm.Cond.initialized "FlyWheels") ∈ lw_all := lw_g (lw_at lw_m1 1 rfl) rfl
theorem q84 : (Jvm.Cond.instantiable "FlyWheels" (23 : Nat)) ∈ lw_all := lw_g (lw_at lw_m1 28 rfl) rfl
theorem q86 : (Jvm.Cond.instanceMethod ({ cls := "FlyWheels", name := "<init>", desc := "()V" } : Jvm.MethodName)) ∈ lw_all := lw_g (lw_at lw_m1 30 rfl) rfl
theorem q87 : (Jvm.Cond.code ({ cls := "FlyWheels", name := "<init>", desc := "()V" } : Jvm.MethodName) prog_1_method_12_code (2 : Nat) (Option.none : Option Jvm.ClassFile.FieldType)) ∈ lw_all := lw_g (lw_at lw_m1 31 rfl) rfl
theorem q88 : (Jvm.Cond.methodLink "FlyWheels" (118 : Nat) ({ cls := "java/lang/Object", name := "<init>", desc := "()V" } : Jvm.MethodName)) ∈ lw_all := lw_g (lw_at lw_m1 32 rfl) rfl
theorem q91 : (Jvm.Cond.classLink "FlyWheels" (39 : Nat) "FlyWheels$Plain") ∈ lw_all := lw_g (lw_at lw_m1 35 rfl) rfl
theorem q94 : (Jvm.Cond.methodLinkNest "FlyWheels" (123 : Nat) ({ cls := "FlyWheels$Plain", name := "<init>", desc := "()V" } : Jvm.MethodName) "FlyWheels") ∈ lw_tbl := lw_at lw_m1 38 rfl
theorem q99 : (Jvm.Cond.classLink "FlyWheels" (124 : Nat) "FlyWheels$Slip") ∈ lw_all := lw_g (lw_at lw_m1 43 rfl) rfl
theorem q101 : (Jvm.Cond.methodLinkNest "FlyWheels" (126 : Nat) ({ cls := "FlyWheels$Slip", name := "<init>", desc := "()V" } : Jvm.MethodName) "FlyWheels") ∈ lw_tbl := lw_at lw_m1 45 rfl
theorem q106 : (Jvm.Cond.classLink "FlyWheels" (127 : Nat) "FlyWheels$Take") ∈ lw_all := lw_g (lw_at lw_m1 50 rfl) rfl
theorem q108 : (Jvm.Cond.methodLinkNest "FlyWheels" (129 : Nat) ({ cls := "FlyWheels$Take", name := "<init>", desc := "()V" } : Jvm.MethodName) "FlyWheels") ∈ lw_tbl := lw_at lw_m1 52 rfl
theorem q113 : (Jvm.Cond.classLink "FlyWheels" (130 : Nat) "FlyWheels$Soft") ∈ lw_all := lw_g (lw_at lw_m1 57 rfl) rfl
theorem q115 : (Jvm.Cond.methodLinkNest "FlyWheels" (132 : Nat) ({ cls := "FlyWheels$Soft", name := "<init>", desc := "()V" } : Jvm.MethodName) "FlyWheels") ∈ lw_tbl := lw_at lw_m1 59 rfl
theorem q120 : (Jvm.Cond.classLink "FlyWheels" (21 : Nat) "FlyWheels$Shaft") ∈ lw_all := lw_g (lw_at lw_m1 64 rfl) rfl
theorem q122 : (Jvm.Cond.methodLinkNest "FlyWheels" (133 : Nat) ({ cls := "FlyWheels$Shaft", name := "<init>", desc := "()V" } : Jvm.MethodName) "FlyWheels") ∈ lw_tbl := lw_at lw_m1 66 rfl
theorem q135 : (Jvm.Cond.fieldLinkNest "FlyWheels" (26 : Nat) "FlyWheels$Wheel" "kind" "I" "FlyWheels") ∈ lw_tbl := lw_at lw_m1 79 rfl
theorem q138 : (Jvm.Cond.fieldLinkNest "FlyWheels" (216 : Nat) "FlyWheels$Wheel" "mass" "I" "FlyWheels") ∈ lw_tbl := lw_at lw_m1 82 rfl
theorem q141 : (Jvm.Cond.fieldLinkNest "FlyWheels" (77 : Nat) "FlyWheels$Wheel" "loss" "I" "FlyWheels") ∈ lw_tbl := lw_at lw_m1 85 rfl
theorem q144 : (Jvm.Cond.fieldLinkNest "FlyWheels" (31 : Nat) "FlyWheels$Wheel" "swings" "I" "FlyWheels") ∈ lw_tbl := lw_at lw_m1 88 rfl
theorem q156 : (Jvm.Cond.fieldLinkNest "FlyWheels" (209 : Nat) "FlyWheels$Shaft" "mass" "I" "FlyWheels") ∈ lw_tbl := lw_at lw_m1 100 rfl
theorem q158 : (Jvm.Cond.fieldLinkNest "FlyWheels" (50 : Nat) "FlyWheels$Shaft" "swings" "I" "FlyWheels") ∈ lw_tbl := lw_at lw_m1 102 rfl
theorem q160 : (Jvm.Cond.fieldLinkNest "FlyWheels" (44 : Nat) "FlyWheels$Shaft" "wheels" "I" "FlyWheels") ∈ lw_tbl := lw_at lw_m1 104 rfl
theorem q163 : (Jvm.Cond.fieldLinkNest "FlyWheels" (20 : Nat) "FlyWheels$Shaft" "wheel" "[LFlyWheels$Wheel;" "FlyWheels") ∈ lw_tbl := lw_at lw_m1 107 rfl
theorem q166 : (Jvm.Cond.fieldLinkNest "FlyWheels" (203 : Nat) "FlyWheels$Shaft" "acts" "I" "FlyWheels") ∈ lw_tbl := lw_at lw_m1 110 rfl
theorem q169 : (Jvm.Cond.fieldLinkNest "FlyWheels" (96 : Nat) "FlyWheels$Shaft" "act" "[S" "FlyWheels") ∈ lw_tbl := lw_at lw_m1 113 rfl
theorem q171 : (Jvm.Cond.fieldLinkNest "FlyWheels" (80 : Nat) "FlyWheels$Shaft" "tick" "I" "FlyWheels") ∈ lw_tbl := lw_at lw_m1 115 rfl
theorem q173 : (Jvm.Cond.fieldLinkNest "FlyWheels" (60 : Nat) "FlyWheels$Shaft" "done" "I" "FlyWheels") ∈ lw_tbl := lw_at lw_m1 117 rfl
theorem q175 : (Jvm.Cond.fieldLinkNest "FlyWheels" (63 : Nat) "FlyWheels$Shaft" "lack" "I" "FlyWheels") ∈ lw_tbl := lw_at lw_m1 119 rfl
theorem q177 : (Jvm.Cond.fieldLinkNest "FlyWheels" (93 : Nat) "FlyWheels$Shaft" "omitted" "I" "FlyWheels") ∈ lw_tbl := lw_at lw_m1 121 rfl
theorem q179 : (Jvm.Cond.fieldLinkNest "FlyWheels" (47 : Nat) "FlyWheels$Shaft" "off" "I" "FlyWheels") ∈ lw_tbl := lw_at lw_m1 123 rfl
theorem q205 : (Jvm.Cond.classLink "FlyWheels" (155 : Nat) "FlyWheels$Sheet") ∈ lw_all := lw_g (lw_at lw_m1 149 rfl) rfl
theorem q208 : (Jvm.Cond.methodLinkNest "FlyWheels" (161 : Nat) ({ cls := "FlyWheels$Sheet", name := "<init>", desc := "()V" } : Jvm.MethodName) "FlyWheels") ∈ lw_tbl := lw_at lw_m1 152 rfl
theorem q212 : (Jvm.Cond.fieldLinkNest "FlyWheels" (330 : Nat) "FlyWheels$Sheet" "cells" "Ljava/lang/Object;" "FlyWheels") ∈ lw_tbl := lw_at lw_m1 156 rfl
theorem q218 : (Jvm.Cond.fieldLink "FlyWheels" (16 : Nat) "FlyWheels" "kinds" "[LFlyWheels$Plain;") ∈ lw_all := lw_g (lw_at lw_m1 162 rfl) rfl
theorem q219 : (Jvm.Cond.fieldLink "FlyWheels" (134 : Nat) "FlyWheels" "now" "LFlyWheels$Shaft;") ∈ lw_all := lw_g (lw_at lw_m1 163 rfl) rfl
theorem q220 : (Jvm.Cond.fieldLink "FlyWheels" (111 : Nat) "FlyWheels" "tried" "LFlyWheels$Shaft;") ∈ lw_all := lw_g (lw_at lw_m1 164 rfl) rfl
theorem q221 : (Jvm.Cond.fieldLink "FlyWheels" (137 : Nat) "FlyWheels" "images" "[LFlyWheels$Shaft;") ∈ lw_all := lw_g (lw_at lw_m1 165 rfl) rfl
theorem q222 : (Jvm.Cond.fieldLink "FlyWheels" (192 : Nat) "FlyWheels" "kept" "I") ∈ lw_all := lw_g (lw_at lw_m1 166 rfl) rfl
theorem q223 : (Jvm.Cond.fieldLink "FlyWheels" (141 : Nat) "FlyWheels" "seen" "[I") ∈ lw_all := lw_g (lw_at lw_m1 167 rfl) rfl
theorem q224 : (Jvm.Cond.fieldLink "FlyWheels" (189 : Nat) "FlyWheels" "seenMany" "I") ∈ lw_all := lw_g (lw_at lw_m1 168 rfl) rfl
theorem q225 : (Jvm.Cond.fieldLink "FlyWheels" (1 : Nat) "FlyWheels" "doneThen" "I") ∈ lw_all := lw_g (lw_at lw_m1 169 rfl) rfl
theorem q226 : (Jvm.Cond.fieldLink "FlyWheels" (7 : Nat) "FlyWheels" "lackThen" "I") ∈ lw_all := lw_g (lw_at lw_m1 170 rfl) rfl
theorem q227 : (Jvm.Cond.fieldLink "FlyWheels" (10 : Nat) "FlyWheels" "lostThen" "I") ∈ lw_all := lw_g (lw_at lw_m1 171 rfl) rfl
theorem q228 : (Jvm.Cond.fieldLink "FlyWheels" (13 : Nat) "FlyWheels" "fastest" "I") ∈ lw_all := lw_g (lw_at lw_m1 172 rfl) rfl
theorem q230 : (Jvm.Cond.fieldLink "FlyWheels" (145 : Nat) "FlyWheels" "tape" "[B") ∈ lw_all := lw_g (lw_at lw_m1 174 rfl) rfl
theorem q231 : (Jvm.Cond.fieldLink "FlyWheels" (168 : Nat) "FlyWheels" "taped" "I") ∈ lw_all := lw_g (lw_at lw_m1 175 rfl) rfl
theorem q232 : (Jvm.Cond.fieldLink "FlyWheels" (171 : Nat) "FlyWheels" "fault" "I") ∈ lw_all := lw_g (lw_at lw_m1 176 rfl) rfl
theorem q233 : (Jvm.Cond.fieldLink "FlyWheels" (255 : Nat) "FlyWheels" "found" "I") ∈ lw_all := lw_g (lw_at lw_m1 177 rfl) rfl
theorem q234 : (Jvm.Cond.fieldLink "FlyWheels" (258 : Nat) "FlyWheels" "foundMuch" "I") ∈ lw_all := lw_g (lw_at lw_m1 178 rfl) rfl
theorem q235 : (Jvm.Cond.fieldLink "FlyWheels" (281 : Nat) "FlyWheels" "fullSum" "J") ∈ lw_all := lw_g (lw_at lw_m1 179 rfl) rfl
theorem q236 : (Jvm.Cond.fieldLink "FlyWheels" (285 : Nat) "FlyWheels" "doneSum" "J") ∈ lw_all := lw_g (lw_at lw_m1 180 rfl) rfl
theorem q237 : (Jvm.Cond.fieldLink "FlyWheels" (288 : Nat) "FlyWheels" "allWays" "J") ∈ lw_all := lw_g (lw_at lw_m1 181 rfl) rfl
theorem q238 : (Jvm.Cond.fieldLink "FlyWheels" (149 : Nat) "FlyWheels" "swung" "[I") ∈ lw_all := lw_g (lw_at lw_m1 182 rfl) rfl
theorem q239 : (Jvm.Cond.fieldLink "FlyWheels" (152 : Nat) "FlyWheels" "byLoss" "[I") ∈ lw_all := lw_g (lw_at lw_m1 183 rfl) rfl
theorem q240 : (Jvm.Cond.fieldLink "FlyWheels" (157 : Nat) "FlyWheels" "sheets" "[LFlyWheels$Sheet;") ∈ lw_all := lw_g (lw_at lw_m1 184 rfl) rfl
theorem q241 : (Jvm.Cond.fieldLink "FlyWheels" (352 : Nat) "FlyWheels" "torn" "I") ∈ lw_all := lw_g (lw_at lw_m1 185 rfl) rfl
theorem q242 : (Jvm.Cond.laysFinal "FlyWheels" "FlyWheels" "kinds" "[LFlyWheels$Plain;") ∈ lw_all := lw_g (lw_at lw_m1 186 rfl) rfl
theorem q243 : (Jvm.Cond.soleField "FlyWheels" "kinds") ∈ lw_all := lw_g (lw_at lw_m1 187 rfl) rfl
theorem q244 : (Jvm.Cond.laysFinal "FlyWheels" "FlyWheels" "now" "LFlyWheels$Shaft;") ∈ lw_all := lw_g (lw_at lw_m1 188 rfl) rfl
theorem q245 : (Jvm.Cond.soleField "FlyWheels" "now") ∈ lw_all := lw_g (lw_at lw_m1 189 rfl) rfl
theorem q246 : (Jvm.Cond.laysFinal "FlyWheels" "FlyWheels" "tried" "LFlyWheels$Shaft;") ∈ lw_all := lw_g (lw_at lw_m1 190 rfl) rfl
theorem q247 : (Jvm.Cond.soleField "FlyWheels" "tried") ∈ lw_all := lw_g (lw_at lw_m1 191 rfl) rfl
theorem q248 : (Jvm.Cond.laysFinal "FlyWheels" "FlyWheels" "images" "[LFlyWheels$Shaft;") ∈ lw_all := lw_g (lw_at lw_m1 192 rfl) rfl
theorem q249 : (Jvm.Cond.soleField "FlyWheels" "images") ∈ lw_all := lw_g (lw_at lw_m1 193 rfl) rfl
theorem q250 : (Jvm.Cond.lays "FlyWheels" "FlyWheels" "kept" "I") ∈ lw_all := lw_g (lw_at lw_m1 194 rfl) rfl
theorem q251 : (Jvm.Cond.soleField "FlyWheels" "kept") ∈ lw_all := lw_g (lw_at lw_m1 195 rfl) rfl
theorem q252 : (Jvm.Cond.laysFinal "FlyWheels" "FlyWheels" "seen" "[I") ∈ lw_all := lw_g (lw_at lw_m1 196 rfl) rfl
theorem q253 : (Jvm.Cond.soleField "FlyWheels" "seen") ∈ lw_all := lw_g (lw_at lw_m1 197 rfl) rfl
theorem q254 : (Jvm.Cond.lays "FlyWheels" "FlyWheels" "seenMany" "I") ∈ lw_all := lw_g (lw_at lw_m1 198 rfl) rfl
theorem q255 : (Jvm.Cond.soleField "FlyWheels" "seenMany") ∈ lw_all := lw_g (lw_at lw_m1 199 rfl) rfl
theorem q256 : (Jvm.Cond.lays "FlyWheels" "FlyWheels" "doneThen" "I") ∈ lw_all := lw_g (lw_at lw_m1 200 rfl) rfl
theorem q257 : (Jvm.Cond.soleField "FlyWheels" "doneThen") ∈ lw_all := lw_g (lw_at lw_m1 201 rfl) rfl
theorem q258 : (Jvm.Cond.lays "FlyWheels" "FlyWheels" "lackThen" "I") ∈ lw_all := lw_g (lw_at lw_m1 202 rfl) rfl
theorem q259 : (Jvm.Cond.soleField "FlyWheels" "lackThen") ∈ lw_all := lw_g (lw_at lw_m1 203 rfl) rfl
theorem q260 : (Jvm.Cond.lays "FlyWheels" "FlyWheels" "lostThen" "I") ∈ lw_all := lw_g (lw_at lw_m1 204 rfl) rfl
theorem q261 : (Jvm.Cond.soleField "FlyWheels" "lostThen") ∈ lw_all := lw_g (lw_at lw_m1 205 rfl) rfl
theorem q262 : (Jvm.Cond.lays "FlyWheels" "FlyWheels" "fastest" "I") ∈ lw_all := lw_g (lw_at lw_m1 206 rfl) rfl
theorem q263 : (Jvm.Cond.soleField "FlyWheels" "fastest") ∈ lw_all := lw_g (lw_at lw_m1 207 rfl) rfl
theorem q264 : (Jvm.Cond.laysFinal "FlyWheels" "FlyWheels" "tape" "[B") ∈ lw_all := lw_g (lw_at lw_m1 208 rfl) rfl
theorem q265 : (Jvm.Cond.soleField "FlyWheels" "tape") ∈ lw_all := lw_g (lw_at lw_m1 209 rfl) rfl
theorem q266 : (Jvm.Cond.lays "FlyWheels" "FlyWheels" "taped" "I") ∈ lw_all := lw_g (lw_at lw_m1 210 rfl) rfl
theorem q267 : (Jvm.Cond.soleField "FlyWheels" "taped") ∈ lw_all := lw_g (lw_at lw_m1 211 rfl) rfl
theorem q268 : (Jvm.Cond.lays "FlyWheels" "FlyWheels" "fault" "I") ∈ lw_all := lw_g (lw_at lw_m1 212 rfl) rfl
theorem q269 : (Jvm.Cond.soleField "FlyWheels" "fault") ∈ lw_all := lw_g (lw_at lw_m1 213 rfl) rfl
theorem q270 : (Jvm.Cond.lays "FlyWheels" "FlyWheels" "found" "I") ∈ lw_all := lw_g (lw_at lw_m1 214 rfl) rfl
theorem q271 : (Jvm.Cond.soleField "FlyWheels" "found") ∈ lw_all := lw_g (lw_at lw_m1 215 rfl) rfl
theorem q272 : (Jvm.Cond.lays "FlyWheels" "FlyWheels" "foundMuch" "I") ∈ lw_all := lw_g (lw_at lw_m1 216 rfl) rfl
theorem q273 : (Jvm.Cond.soleField "FlyWheels" "foundMuch") ∈ lw_all := lw_g (lw_at lw_m1 217 rfl) rfl
theorem q274 : (Jvm.Cond.lays "FlyWheels" "FlyWheels" "fullSum" "J") ∈ lw_all := lw_g (lw_at lw_m1 218 rfl) rfl
theorem q275 : (Jvm.Cond.soleField "FlyWheels" "fullSum") ∈ lw_all := lw_g (lw_at lw_m1 219 rfl) rfl
theorem q276 : (Jvm.Cond.lays "FlyWheels" "FlyWheels" "doneSum" "J") ∈ lw_all := lw_g (lw_at lw_m1 220 rfl) rfl
theorem q277 : (Jvm.Cond.soleField "FlyWheels" "doneSum") ∈ lw_all := lw_g (lw_at lw_m1 221 rfl) rfl
theorem q278 : (Jvm.Cond.lays "FlyWheels" "FlyWheels" "allWays" "J") ∈ lw_all := lw_g (lw_at lw_m1 222 rfl) rfl
theorem q279 : (Jvm.Cond.soleField "FlyWheels" "allWays") ∈ lw_all := lw_g (lw_at lw_m1 223 rfl) rfl
theorem q280 : (Jvm.Cond.laysFinal "FlyWheels" "FlyWheels" "swung" "[I") ∈ lw_all := lw_g (lw_at lw_m1 224 rfl) rfl
theorem q281 : (Jvm.Cond.soleField "FlyWheels" "swung") ∈ lw_all := lw_g (lw_at lw_m1 225 rfl) rfl
theorem q282 : (Jvm.Cond.laysFinal "FlyWheels" "FlyWheels" "byLoss" "[I") ∈ lw_all := lw_g (lw_at lw_m1 226 rfl) rfl
theorem q283 : (Jvm.Cond.soleField "FlyWheels" "byLoss") ∈ lw_all := lw_g (lw_at lw_m1 227 rfl) rfl
theorem q284 : (Jvm.Cond.laysFinal "FlyWheels" "FlyWheels" "sheets" "[LFlyWheels$Sheet;") ∈ lw_all := lw_g (lw_at lw_m1 228 rfl) rfl
theorem q285 : (Jvm.Cond.soleField "FlyWheels" "sheets") ∈ lw_all := lw_g (lw_at lw_m1 229 rfl) rfl
theorem q286 : (Jvm.Cond.lays "FlyWheels" "FlyWheels" "torn" "I") ∈ lw_all := lw_g (lw_at lw_m1 230 rfl) rfl
theorem q287 : (Jvm.Cond.soleField "FlyWheels" "torn") ∈ lw_all := lw_g (lw_at lw_m1 231 rfl) rfl
theorem q288 : (Jvm.Cond.superclass "FlyWheels" "java/lang/Object") ∈ lw_all := lw_g (lw_at lw_m1 232 rfl) rfl
theorem q290 : (Jvm.Cond.instanceMethod ({ cls := "FlyWheels", name := "feed", desc := "(I)I" } : Jvm.MethodName)) ∈ lw_all := lw_g (lw_at lw_m1 234 rfl) rfl
theorem q291 : (Jvm.Cond.selects "FlyWheels" ({ cls := "FlyWheels", name := "feed", desc := "(I)I" } : Jvm.MethodName) ({ cls := "FlyWheels", name := "feed", desc := "(I)I" } : Jvm.MethodName)) ∈ lw_all := lw_g (lw_at lw_m1 235 rfl) rfl
theorem q292 : (Jvm.Cond.code ({ cls := "FlyWheels", name := "feed", desc := "(I)I" } : Jvm.MethodName) prog_1_method_13_code (2 : Nat) (Option.some Jvm.ClassFile.FieldType.int)) ∈ lw_all := lw_g (lw_at lw_m1 236 rfl) rfl
theorem q293 : (Jvm.Cond.constantLong "FlyWheels" (162 : Nat) (127 : Int64)) ∈ lw_all := lw_g (lw_at lw_m1 237 rfl) rfl
theorem q294 : (Jvm.Cond.methodLink "FlyWheels" (164 : Nat) ({ cls := "FlyWheels", name := "in", desc := "(JJJ)Z" } : Jvm.MethodName)) ∈ lw_all := lw_g (lw_at lw_m1 238 rfl) rfl
theorem q295 : (Jvm.Cond.static ({ cls := "FlyWheels", name := "in", desc := "(JJJ)Z" } : Jvm.MethodName)) ∈ lw_all := lw_g (lw_at lw_m1 239 rfl) rfl
theorem q296 : (Jvm.Cond.code ({ cls := "FlyWheels", name := "in", desc := "(JJJ)Z" } : Jvm.MethodName) prog_1_method_1_code (6 : Nat) (Option.some Jvm.ClassFile.FieldType.boolean)) ∈ lw_all := lw_g (lw_at lw_m2 0 rfl) rfl
theorem q298 : (Jvm.Cond.instanceMethod ({ cls := "FlyWheels", name := "end", desc := "(I)I" } : Jvm.MethodName)) ∈ lw_all := lw_g (lw_at lw_m2 2 rfl) rfl
theorem q299 : (Jvm.Cond.selects "FlyWheels" ({ cls := "FlyWheels", name := "end", desc := "(I)I" } : Jvm.MethodName) ({ cls := "FlyWheels", name := "end", desc := "(I)I" } : Jvm.MethodName)) ∈ lw_all := lw_g (lw_at lw_m2 3 rfl) rfl
theorem q300 : (Jvm.Cond.code ({ cls := "FlyWheels", name := "end", desc := "(I)I" } : Jvm.MethodName) prog_1_method_14_code (3 : Nat) (Option.some Jvm.ClassFile.FieldType.int)) ∈ lw_all := lw_g (lw_at lw_m2 4 rfl) rfl
theorem q302 : (Jvm.Cond.instanceMethod ({ cls := "FlyWheels", name := "text", desc := "()I" } : Jvm.MethodName)) ∈ lw_all := lw_g (lw_at lw_m2 6 rfl) rfl
theorem q303 : (Jvm.Cond.selects "FlyWheels" ({ cls := "FlyWheels", name := "text", desc := "()I" } : Jvm.MethodName) ({ cls := "FlyWheels", name := "text", desc := "()I" } : Jvm.MethodName)) ∈ lw_all := lw_g (lw_at lw_m2 7 rfl) rfl
theorem q304 : (Jvm.Cond.codeWith ({ cls := "FlyWheels", name := "text", desc := "()I" } : Jvm.MethodName) prog_1_method_15_code (4 : Nat) (Option.some Jvm.ClassFile.FieldType.int) [((15 : Nat), (52 : Nat), (53 : Nat), (195 : Nat))]) ∈ lw_all := lw_g (lw_at lw_m2 8 rfl) rfl
theorem q305 : (Jvm.Cond.classLink "FlyWheels" (195 : Nat) "FlyWheels$Fault") ∈ lw_all := lw_g (lw_at lw_m2 9 rfl) rfl
theorem q306 : (Jvm.Cond.classLink "FlyWheels" (174 : Nat) "FlyWheels$Reader") ∈ lw_all := lw_g (lw_at lw_m2 10 rfl) rfl
theorem q308 : (Jvm.Cond.methodLink "FlyWheels" (176 : Nat) ({ cls := "FlyWheels$Reader", name := "<init>", desc := "(LFlyWheels;I)V" } : Jvm.MethodName)) ∈ lw_all := lw_g (lw_at lw_m2 12 rfl) rfl
theorem q390 : (Jvm.Cond.fieldLinkNest "FlyWheels" (197 : Nat) "FlyWheels$Fault" "code" "I" "FlyWheels") ∈ lw_tbl := lw_at lw_m2 94 rfl
theorem q392 : (Jvm.Cond.fieldLinkNest "FlyWheels" (200 : Nat) "FlyWheels$Fault" "place" "I" "FlyWheels") ∈ lw_tbl := lw_at lw_m2 96 rfl
theorem q412 : (Jvm.Cond.fieldLinkNest "FlyWheels" (182 : Nat) "FlyWheels$Reader" "made" "LFlyWheels$Shaft;" "FlyWheels") ∈ lw_tbl := lw_at lw_m2 116 rfl
theorem q436 : (Jvm.Cond.methodLink "FlyWheels" (179 : Nat) ({ cls := "FlyWheels$Reader", name := "lines", desc := "()I" } : Jvm.MethodName)) ∈ lw_all := lw_g (lw_at lw_m2 140 rfl) rfl
theorem q521 : (Jvm.Cond.methodLink "FlyWheels" (185 : Nat) ({ cls := "FlyWheels$Shaft", name := "as", desc := "(LFlyWheels$Shaft;)V" } : Jvm.MethodName)) ∈ lw_all := lw_g (lw_at lw_m2 225 rfl) rfl
theorem q533 : (Jvm.Cond.instanceMethod ({ cls := "FlyWheels", name := "fault", desc := "()I" } : Jvm.MethodName)) ∈ lw_all := lw_g (lw_at lw_m2 237 rfl) rfl
theorem q534 : (Jvm.Cond.selects "FlyWheels" ({ cls := "FlyWheels", name := "fault", desc := "()I" } : Jvm.MethodName) ({ cls := "FlyWheels", name := "fault", desc := "()I" } : Jvm.MethodName)) ∈ lw_all := lw_g (lw_at lw_m2 238 rfl) rfl
theorem q535 : (Jvm.Cond.code ({ cls := "FlyWheels", name := "fault", desc := "()I" } : Jvm.MethodName) prog_1_method_16_code (1 : Nat) (Option.some Jvm.ClassFile.FieldType.int)) ∈ lw_all := lw_g (lw_at lw_m2 239 rfl) rfl
theorem q537 : (Jvm.Cond.instanceMethod ({ cls := "FlyWheels", name := "rule", desc := "(I)I" } : Jvm.MethodName)) ∈ lw_all := lw_g (lw_at lw_m3 1 rfl) rfl
theorem q538 : (Jvm.Cond.selects "FlyWheels" ({ cls := "FlyWheels", name := "rule", desc := "(I)I" } : Jvm.MethodName) ({ cls := "FlyWheels", name := "rule", desc := "(I)I" } : Jvm.MethodName)) ∈ lw_all := lw_g (lw_at lw_m3 2 rfl) rfl
theorem q539 : (Jvm.Cond.code ({ cls := "FlyWheels", name := "rule", desc := "(I)I" } : Jvm.MethodName) prog_1_method_22_code (2 : Nat) (Option.some Jvm.ClassFile.FieldType.int)) ∈ lw_all := lw_g (lw_at lw_m3 3 rfl) rfl
theorem q540 : (Jvm.Cond.methodLink "FlyWheels" (83 : Nat) ({ cls := "FlyWheels$Shaft", name := "speed", desc := "()I" } : Jvm.MethodName)) ∈ lw_all := lw_g (lw_at lw_m3 4 rfl) rfl
theorem q544 : (Jvm.Cond.methodLink "FlyWheels" (90 : Nat) ({ cls := "FlyWheels$Shaft", name := "next", desc := "()I" } : Jvm.MethodName)) ∈ lw_all := lw_g (lw_at lw_m3 8 rfl) rfl
theorem q549 : (Jvm.Cond.instanceMethod ({ cls := "FlyWheels", name := "wheel", desc := "(II)I" } : Jvm.MethodName)) ∈ lw_all := lw_g (lw_at lw_m3 13 rfl) rfl
theorem q550 : (Jvm.Cond.selects "FlyWheels" ({ cls := "FlyWheels", name := "wheel", desc := "(II)I" } : Jvm.MethodName) ({ cls := "FlyWheels", name := "wheel", desc := "(II)I" } : Jvm.MethodName)) ∈ lw_all := lw_g (lw_at lw_m3 14 rfl) rfl
theorem q551 : (Jvm.Cond.code ({ cls := "FlyWheels", name := "wheel", desc := "(II)I" } : Jvm.MethodName) prog_1_method_23_code (4 : Nat) (Option.some Jvm.ClassFile.FieldType.int)) ∈ lw_all := lw_g (lw_at lw_m3 15 rfl) rfl
theorem q552 : (Jvm.Cond.methodLink "FlyWheels" (212 : Nat) ({ cls := "FlyWheels", name := "isWheel", desc := "(I)Z" } : Jvm.MethodName)) ∈ lw_all := lw_g (lw_at lw_m3 16 rfl) rfl
theorem q553 : (Jvm.Cond.privateMethod ({ cls := "FlyWheels", name := "isWheel", desc := "(I)Z" } : Jvm.MethodName)) ∈ lw_tbl := lw_at lw_m3 17 rfl
theorem q554 : (Jvm.Cond.instanceMethod ({ cls := "FlyWheels", name := "isWheel", desc := "(I)Z" } : Jvm.MethodName)) ∈ lw_all := lw_g (lw_at lw_m3 18 rfl) rfl
theorem q555 : (Jvm.Cond.code ({ cls := "FlyWheels", name := "isWheel", desc := "(I)Z" } : Jvm.MethodName) prog_1_method_17_code (2 : Nat) (Option.some Jvm.ClassFile.FieldType.boolean)) ∈ lw_all := lw_g (lw_at lw_m3 19 rfl) rfl
theorem q556 : (Jvm.Cond.methodLink "FlyWheels" (51 : Nat) ({ cls := "FlyWheels", name := "joinedBy", desc := "(LFlyWheels$Shaft;I)I" } : Jvm.MethodName)) ∈ lw_all := lw_g (lw_at lw_m3 20 rfl) rfl
theorem q557 : (Jvm.Cond.privateMethod ({ cls := "FlyWheels", name := "joinedBy", desc := "(LFlyWheels$Shaft;I)I" } : Jvm.MethodName)) ∈ lw_tbl := lw_at lw_m3 21 rfl
theorem q558 : (Jvm.Cond.instanceMethod ({ cls := "FlyWheels", name := "joinedBy", desc := "(LFlyWheels$Shaft;I)I" } : Jvm.MethodName)) ∈ lw_all := lw_g (lw_at lw_m3 22 rfl) rfl
theorem q559 : (Jvm.Cond.code ({ cls := "FlyWheels", name := "joinedBy", desc := "(LFlyWheels$Shaft;I)I" } : Jvm.MethodName) prog_1_method_4_code (3 : Nat) (Option.some Jvm.ClassFile.FieldType.int)) ∈ lw_all := lw_g (lw_at lw_m3 23 rfl) rfl
theorem q560 : (Jvm.Cond.methodLink "FlyWheels" (34 : Nat) ({ cls := "FlyWheels$Shaft", name := "evenOf", desc := "(I)I" } : Jvm.MethodName)) ∈ lw_all := lw_g (lw_at lw_m3 24 rfl) rfl
theorem q564 : (Jvm.Cond.methodLink "FlyWheels" (38 : Nat) ({ cls := "FlyWheels$Plain", name := "joined", desc := "(II)I" } : Jvm.MethodName)) ∈ lw_all := lw_g (lw_at lw_m3 28 rfl) rfl
theorem q588 : (Jvm.Cond.instanceMethod ({ cls := "FlyWheels", name := "act", desc := "(I)I" } : Jvm.MethodName)) ∈ lw_all := lw_g (lw_at lw_m3 52 rfl) rfl
theorem q589 : (Jvm.Cond.selects "FlyWheels" ({ cls := "FlyWheels", name := "act", desc := "(I)I" } : Jvm.MethodName) ({ cls := "FlyWheels", name := "act", desc := "(I)I" } : Jvm.MethodName)) ∈ lw_all := lw_g (lw_at lw_m3 53 rfl) rfl
theorem q590 : (Jvm.Cond.code ({ cls := "FlyWheels", name := "act", desc := "(I)I" } : Jvm.MethodName) prog_1_method_24_code (2 : Nat) (Option.some Jvm.ClassFile.FieldType.int)) ∈ lw_all := lw_g (lw_at lw_m3 54 rfl) rfl
theorem q591 : (Jvm.Cond.methodLink "FlyWheels" (217 : Nat) ({ cls := "FlyWheels", name := "isAct", desc := "(I)Z" } : Jvm.MethodName)) ∈ lw_all := lw_g (lw_at lw_m3 55 rfl) rfl
theorem q592 : (Jvm.Cond.privateMethod ({ cls := "FlyWheels", name := "isAct", desc := "(I)Z" } : Jvm.MethodName)) ∈ lw_tbl := lw_at lw_m3 56 rfl
theorem q593 : (Jvm.Cond.instanceMethod ({ cls := "FlyWheels", name := "isAct", desc := "(I)Z" } : Jvm.MethodName)) ∈ lw_all := lw_g (lw_at lw_m3 57 rfl) rfl
theorem q594 : (Jvm.Cond.code ({ cls := "FlyWheels", name := "isAct", desc := "(I)Z" } : Jvm.MethodName) prog_1_method_18_code (2 : Nat) (Option.some Jvm.ClassFile.FieldType.boolean)) ∈ lw_all := lw_g (lw_at lw_m3 58 rfl) rfl
theorem q596 : (Jvm.Cond.instanceMethod ({ cls := "FlyWheels", name := "alter", desc := "(III)I" } : Jvm.MethodName)) ∈ lw_all := lw_g (lw_at lw_m3 60 rfl) rfl
theorem q597 : (Jvm.Cond.selects "FlyWheels" ({ cls := "FlyWheels", name := "alter", desc := "(III)I" } : Jvm.MethodName) ({ cls := "FlyWheels", name := "alter", desc := "(III)I" } : Jvm.MethodName)) ∈ lw_all := lw_g (lw_at lw_m3 61 rfl) rfl
theorem q598 : (Jvm.Cond.code ({ cls := "FlyWheels", name := "alter", desc := "(III)I" } : Jvm.MethodName) prog_1_method_26_code (6 : Nat) (Option.some Jvm.ClassFile.FieldType.int)) ∈ lw_all := lw_g (lw_at lw_m3 62 rfl) rfl
theorem q599 : (Jvm.Cond.methodLink "FlyWheels" (228 : Nat) ({ cls := "FlyWheels", name := "canBe", desc := "(II)Z" } : Jvm.MethodName)) ∈ lw_all := lw_g (lw_at lw_m3 63 rfl) rfl
theorem q600 : (Jvm.Cond.static ({ cls := "FlyWheels", name := "canBe", desc := "(II)Z" } : Jvm.MethodName)) ∈ lw_all := lw_g (lw_at lw_m3 64 rfl) rfl
theorem q601 : (Jvm.Cond.code ({ cls := "FlyWheels", name := "canBe", desc := "(II)Z" } : Jvm.MethodName) prog_1_method_25_code (2 : Nat) (Option.some Jvm.ClassFile.FieldType.boolean)) ∈ lw_all := lw_g (lw_at lw_m3 65 rfl) rfl
theorem q602 : (Jvm.Cond.constantLong "FlyWheels" (220 : Nat) (3 : Int64)) ∈ lw_all := lw_g (lw_at lw_m3 66 rfl) rfl
theorem q603 : (Jvm.Cond.constantLong "FlyWheels" (222 : Nat) (20 : Int64)) ∈ lw_all := lw_g (lw_at lw_m3 67 rfl) rfl
theorem q604 : (Jvm.Cond.constantLong "FlyWheels" (224 : Nat) (9 : Int64)) ∈ lw_all := lw_g (lw_at lw_m3 68 rfl) rfl
theorem q605 : (Jvm.Cond.constantLong "FlyWheels" (226 : Nat) (9999 : Int64)) ∈ lw_all := lw_g (lw_at lw_m3 69 rfl) rfl
theorem q606 : (Jvm.Cond.methodLink "FlyWheels" (232 : Nat) ({ cls := "FlyWheels", name := "wheel", desc := "(II)I" } : Jvm.MethodName)) ∈ lw_all := lw_g (lw_at lw_m3 70 rfl) rfl
theorem q608 : (Jvm.Cond.instanceMethod ({ cls := "FlyWheels", name := "shaft", desc := "(I)I" } : Jvm.MethodName)) ∈ lw_all := lw_g (lw_at lw_m3 72 rfl) rfl
theorem q609 : (Jvm.Cond.selects "FlyWheels" ({ cls := "FlyWheels", name := "shaft", desc := "(I)I" } : Jvm.MethodName) ({ cls := "FlyWheels", name := "shaft", desc := "(I)I" } : Jvm.MethodName)) ∈ lw_all := lw_g (lw_at lw_m3 73 rfl) rfl
theorem q610 : (Jvm.Cond.code ({ cls := "FlyWheels", name := "shaft", desc := "(I)I" } : Jvm.MethodName) prog_1_method_27_code (3 : Nat) (Option.some Jvm.ClassFile.FieldType.int)) ∈ lw_all := lw_g (lw_at lw_m3 74 rfl) rfl
theorem q612 : (Jvm.Cond.instanceMethod ({ cls := "FlyWheels", name := "put", desc := "(III)I" } : Jvm.MethodName)) ∈ lw_all := lw_g (lw_at lw_m3 76 rfl) rfl
theorem q613 : (Jvm.Cond.selects "FlyWheels" ({ cls := "FlyWheels", name := "put", desc := "(III)I" } : Jvm.MethodName) ({ cls := "FlyWheels", name := "put", desc := "(III)I" } : Jvm.MethodName)) ∈ lw_all := lw_g (lw_at lw_m3 77 rfl) rfl
theorem q614 : (Jvm.Cond.code ({ cls := "FlyWheels", name := "put", desc := "(III)I" } : Jvm.MethodName) prog_1_method_28_code (4 : Nat) (Option.some Jvm.ClassFile.FieldType.int)) ∈ lw_all := lw_g (lw_at lw_m3 78 rfl) rfl
theorem q615 : (Jvm.Cond.methodLink "FlyWheels" (234 : Nat) ({ cls := "FlyWheels$Shaft", name := "puts", desc := "(III)V" } : Jvm.MethodName)) ∈ lw_all := lw_g (lw_at lw_m3 79 rfl) rfl
theorem q617 : (Jvm.Cond.instanceMethod ({ cls := "FlyWheels", name := "cut", desc := "(I)I" } : Jvm.MethodName)) ∈ lw_all := lw_g (lw_at lw_m3 81 rfl) rfl
theorem q618 : (Jvm.Cond.selects "FlyWheels" ({ cls := "FlyWheels", name := "cut", desc := "(I)I" } : Jvm.MethodName) ({ cls := "FlyWheels", name := "cut", desc := "(I)I" } : Jvm.MethodName)) ∈ lw_all := lw_g (lw_at lw_m3 82 rfl) rfl
theorem q619 : (Jvm.Cond.code ({ cls := "FlyWheels", name := "cut", desc := "(I)I" } : Jvm.MethodName) prog_1_method_29_code (3 : Nat) (Option.some Jvm.ClassFile.FieldType.int)) ∈ lw_all := lw_g (lw_at lw_m3 83 rfl) rfl
theorem q621 : (Jvm.Cond.instanceMethod ({ cls := "FlyWheels", name := "set", desc := "(II)I" } : Jvm.MethodName)) ∈ lw_all := lw_g (lw_at lw_m3 85 rfl) rfl
theorem q622 : (Jvm.Cond.selects "FlyWheels" ({ cls := "FlyWheels", name := "set", desc := "(II)I" } : Jvm.MethodName) ({ cls := "FlyWheels", name := "set", desc := "(II)I" } : Jvm.MethodName)) ∈ lw_all := lw_g (lw_at lw_m3 86 rfl) rfl
theorem q623 : (Jvm.Cond.code ({ cls := "FlyWheels", name := "set", desc := "(II)I" } : Jvm.MethodName) prog_1_method_30_code (4 : Nat) (Option.some Jvm.ClassFile.FieldType.int)) ∈ lw_all := lw_g (lw_at lw_m3 87 rfl) rfl
theorem q624 : (Jvm.Cond.methodLink "FlyWheels" (238 : Nat) ({ cls := "FlyWheels", name := "isTold", desc := "(I)Z" } : Jvm.MethodName)) ∈ lw_all := lw_g (lw_at lw_m3 88 rfl) rfl
theorem q625 : (Jvm.Cond.static ({ cls := "FlyWheels", name := "isTold", desc := "(I)Z" } : Jvm.MethodName)) ∈ lw_all := lw_g (lw_at lw_m3 89 rfl) rfl
theorem q626 : (Jvm.Cond.code ({ cls := "FlyWheels", name := "isTold", desc := "(I)Z" } : Jvm.MethodName) prog_1_method_19_code (1 : Nat) (Option.some Jvm.ClassFile.FieldType.boolean)) ∈ lw_all := lw_g (lw_at lw_m3 90 rfl) rfl
theorem q627 : (Jvm.Cond.constantLong "FlyWheels" (205 : Nat) (203 : Int64)) ∈ lw_all := lw_g (lw_at lw_m3 91 rfl) rfl
theorem q629 : (Jvm.Cond.instanceMethod ({ cls := "FlyWheels", name := "add", desc := "(I)I" } : Jvm.MethodName)) ∈ lw_all := lw_g (lw_at lw_m3 93 rfl) rfl
theorem q630 : (Jvm.Cond.selects "FlyWheels" ({ cls := "FlyWheels", name := "add", desc := "(I)I" } : Jvm.MethodName) ({ cls := "FlyWheels", name := "add", desc := "(I)I" } : Jvm.MethodName)) ∈ lw_all := lw_g (lw_at lw_m3 94 rfl) rfl
theorem q631 : (Jvm.Cond.code ({ cls := "FlyWheels", name := "add", desc := "(I)I" } : Jvm.MethodName) prog_1_method_31_code (2 : Nat) (Option.some Jvm.ClassFile.FieldType.int)) ∈ lw_all := lw_g (lw_at lw_m3 95 rfl) rfl
theorem q633 : (Jvm.Cond.instanceMethod ({ cls := "FlyWheels", name := "drop", desc := "(I)I" } : Jvm.MethodName)) ∈ lw_all := lw_g (lw_at lw_m3 97 rfl) rfl
theorem q634 : (Jvm.Cond.selects "FlyWheels" ({ cls := "FlyWheels", name := "drop", desc := "(I)I" } : Jvm.MethodName) ({ cls := "FlyWheels", name := "drop", desc := "(I)I" } : Jvm.MethodName)) ∈ lw_all := lw_g (lw_at lw_m3 98 rfl) rfl
theorem q635 : (Jvm.Cond.code ({ cls := "FlyWheels", name := "drop", desc := "(I)I" } : Jvm.MethodName) prog_1_method_32_code (3 : Nat) (Option.some Jvm.ClassFile.FieldType.int)) ∈ lw_all := lw_g (lw_at lw_m3 99 rfl) rfl
theorem q637 : (Jvm.Cond.instanceMethod ({ cls := "FlyWheels", name := "turn", desc := "(I)I" } : Jvm.MethodName)) ∈ lw_all := lw_g (lw_at lw_m3 101 rfl) rfl
theorem q638 : (Jvm.Cond.selects "FlyWheels" ({ cls := "FlyWheels", name := "turn", desc := "(I)I" } : Jvm.MethodName) ({ cls := "FlyWheels", name := "turn", desc := "(I)I" } : Jvm.MethodName)) ∈ lw_all := lw_g (lw_at lw_m3 102 rfl) rfl
theorem q639 : (Jvm.Cond.code ({ cls := "FlyWheels", name := "turn", desc := "(I)I" } : Jvm.MethodName) prog_1_method_33_code (2 : Nat) (Option.some Jvm.ClassFile.FieldType.int)) ∈ lw_all := lw_g (lw_at lw_m3 103 rfl) rfl
theorem q640 : (Jvm.Cond.methodLink "FlyWheels" (73 : Nat) ({ cls := "FlyWheels", name := "acts", desc := "(LFlyWheels$Shaft;IZ)V" } : Jvm.MethodName)) ∈ lw_all := lw_g (lw_at lw_m3 104 rfl) rfl
theorem q641 : (Jvm.Cond.privateMethod ({ cls := "FlyWheels", name := "acts", desc := "(LFlyWheels$Shaft;IZ)V" } : Jvm.MethodName)) ∈ lw_tbl := lw_at lw_m3 105 rfl
theorem q642 : (Jvm.Cond.instanceMethod ({ cls := "FlyWheels", name := "acts", desc := "(LFlyWheels$Shaft;IZ)V" } : Jvm.MethodName)) ∈ lw_all := lw_g (lw_at lw_m3 106 rfl) rfl
theorem q643 : (Jvm.Cond.code ({ cls := "FlyWheels", name := "acts", desc := "(LFlyWheels$Shaft;IZ)V" } : Jvm.MethodName) prog_1_method_7_code (4 : Nat) (Option.none : Option Jvm.ClassFile.FieldType)) ∈ lw_all := lw_g (lw_at lw_m3 107 rfl) rfl
theorem q644 : (Jvm.Cond.methodLink "FlyWheels" (66 : Nat) ({ cls := "FlyWheels", name := "joins", desc := "(LFlyWheels$Shaft;I)V" } : Jvm.MethodName)) ∈ lw_all := lw_g (lw_at lw_m3 108 rfl) rfl
theorem q645 : (Jvm.Cond.privateMethod ({ cls := "FlyWheels", name := "joins", desc := "(LFlyWheels$Shaft;I)V" } : Jvm.MethodName)) ∈ lw_tbl := lw_at lw_m3 109 rfl
theorem q646 : (Jvm.Cond.instanceMethod ({ cls := "FlyWheels", name := "joins", desc := "(LFlyWheels$Shaft;I)V" } : Jvm.MethodName)) ∈ lw_all := lw_g (lw_at lw_m3 110 rfl) rfl
theorem q647 : (Jvm.Cond.code ({ cls := "FlyWheels", name := "joins", desc := "(LFlyWheels$Shaft;I)V" } : Jvm.MethodName) prog_1_method_5_code (4 : Nat) (Option.none : Option Jvm.ClassFile.FieldType)) ∈ lw_all := lw_g (lw_at lw_m3 111 rfl) rfl
theorem q648 : (Jvm.Cond.methodLink "FlyWheels" (70 : Nat) ({ cls := "FlyWheels", name := "loads", desc := "(LFlyWheels$Shaft;I)V" } : Jvm.MethodName)) ∈ lw_all := lw_g (lw_at lw_m3 112 rfl) rfl
theorem q649 : (Jvm.Cond.privateMethod ({ cls := "FlyWheels", name := "loads", desc := "(LFlyWheels$Shaft;I)V" } : Jvm.MethodName)) ∈ lw_tbl := lw_at lw_m3 113 rfl
theorem q650 : (Jvm.Cond.instanceMethod ({ cls := "FlyWheels", name := "loads", desc := "(LFlyWheels$Shaft;I)V" } : Jvm.MethodName)) ∈ lw_all := lw_g (lw_at lw_m3 114 rfl) rfl
theorem q651 : (Jvm.Cond.code ({ cls := "FlyWheels", name := "loads", desc := "(LFlyWheels$Shaft;I)V" } : Jvm.MethodName) prog_1_method_6_code (4 : Nat) (Option.none : Option Jvm.ClassFile.FieldType)) ∈ lw_all := lw_g (lw_at lw_m3 115 rfl) rfl
theorem q652 : (Jvm.Cond.methodLink "FlyWheels" (55 : Nat) ({ cls := "java/lang/Math", name := "min", desc := "(II)I" } : Jvm.MethodName)) ∈ lw_all := lw_g (lw_at lw_m3 116 rfl) rfl
theorem q654 : (Jvm.Cond.instanceMethod ({ cls := "FlyWheels", name := "ticks", desc := "(I)I" } : Jvm.MethodName)) ∈ lw_all := lw_g (lw_at lw_m3 118 rfl) rfl
theorem q655 : (Jvm.Cond.selects "FlyWheels" ({ cls := "FlyWheels", name := "ticks", desc := "(I)I" } : Jvm.MethodName) ({ cls := "FlyWheels", name := "ticks", desc := "(I)I" } : Jvm.MethodName)) ∈ lw_all := lw_g (lw_at lw_m3 119 rfl) rfl
theorem q656 : (Jvm.Cond.code ({ cls := "FlyWheels", name := "ticks", desc := "(I)I" } : Jvm.MethodName) prog_1_method_34_code (2 : Nat) (Option.some Jvm.ClassFile.FieldType.int)) ∈ lw_all := lw_g (lw_at lw_m3 120 rfl) rfl
theorem q657 : (Jvm.Cond.constantLong "FlyWheels" (241 : Nat) (100 : Int64)) ∈ lw_all := lw_g (lw_at lw_m3 121 rfl) rfl
theorem q658 : (Jvm.Cond.methodLink "FlyWheels" (115 : Nat) ({ cls := "FlyWheels", name := "ticksGo", desc := "(LFlyWheels$Shaft;I)V" } : Jvm.MethodName)) ∈ lw_all := lw_g (lw_at lw_m3 122 rfl) rfl
theorem q659 : (Jvm.Cond.privateMethod ({ cls := "FlyWheels", name := "ticksGo", desc := "(LFlyWheels$Shaft;I)V" } : Jvm.MethodName)) ∈ lw_tbl := lw_at lw_m3 123 rfl
theorem q660 : (Jvm.Cond.instanceMethod ({ cls := "FlyWheels", name := "ticksGo", desc := "(LFlyWheels$Shaft;I)V" } : Jvm.MethodName)) ∈ lw_all := lw_g (lw_at lw_m3 124 rfl) rfl
theorem q661 : (Jvm.Cond.code ({ cls := "FlyWheels", name := "ticksGo", desc := "(LFlyWheels$Shaft;I)V" } : Jvm.MethodName) prog_1_method_10_code (4 : Nat) (Option.none : Option Jvm.ClassFile.FieldType)) ∈ lw_all := lw_g (lw_at lw_m3 125 rfl) rfl
theorem q662 : (Jvm.Cond.methodLink "FlyWheels" (103 : Nat) ({ cls := "FlyWheels", name := "startsCounting", desc := "()V" } : Jvm.MethodName)) ∈ lw_all := lw_g (lw_at lw_m3 126 rfl) rfl
theorem q663 : (Jvm.Cond.privateMethod ({ cls := "FlyWheels", name := "startsCounting", desc := "()V" } : Jvm.MethodName)) ∈ lw_tbl := lw_at lw_m3 127 rfl
theorem q664 : (Jvm.Cond.instanceMethod ({ cls := "FlyWheels", name := "startsCounting", desc := "()V" } : Jvm.MethodName)) ∈ lw_all := lw_g (lw_at lw_m3 128 rfl) rfl
theorem q665 : (Jvm.Cond.code ({ cls := "FlyWheels", name := "startsCounting", desc := "()V" } : Jvm.MethodName) prog_1_method_3_code (1 : Nat) (Option.none : Option Jvm.ClassFile.FieldType)) ∈ lw_all := lw_g (lw_at lw_m3 129 rfl) rfl
theorem q666 : (Jvm.Cond.methodLink "FlyWheels" (107 : Nat) ({ cls := "FlyWheels", name := "tickGoes", desc := "(LFlyWheels$Shaft;Z)V" } : Jvm.MethodName)) ∈ lw_all := lw_g (lw_at lw_m3 130 rfl) rfl
theorem q667 : (Jvm.Cond.privateMethod ({ cls := "FlyWheels", name := "tickGoes", desc := "(LFlyWheels$Shaft;Z)V" } : Jvm.MethodName)) ∈ lw_tbl := lw_at lw_m3 131 rfl
theorem q668 : (Jvm.Cond.instanceMethod ({ cls := "FlyWheels", name := "tickGoes", desc := "(LFlyWheels$Shaft;Z)V" } : Jvm.MethodName)) ∈ lw_all := lw_g (lw_at lw_m3 132 rfl) rfl
theorem q669 : (Jvm.Cond.code ({ cls := "FlyWheels", name := "tickGoes", desc := "(LFlyWheels$Shaft;Z)V" } : Jvm.MethodName) prog_1_method_9_code (4 : Nat) (Option.none : Option Jvm.ClassFile.FieldType)) ∈ lw_all := lw_g (lw_at lw_m3 133 rfl) rfl
theorem q670 : (Jvm.Cond.methodLink "FlyWheels" (100 : Nat) ({ cls := "FlyWheels", name := "tickGoesBy", desc := "(LFlyWheels$Shaft;IZ)V" } : Jvm.MethodName)) ∈ lw_all := lw_g (lw_at lw_m3 134 rfl) rfl
theorem q671 : (Jvm.Cond.privateMethod ({ cls := "FlyWheels", name := "tickGoesBy", desc := "(LFlyWheels$Shaft;IZ)V" } : Jvm.MethodName)) ∈ lw_tbl := lw_at lw_m3 135 rfl
theorem q672 : (Jvm.Cond.instanceMethod ({ cls := "FlyWheels", name := "tickGoesBy", desc := "(LFlyWheels$Shaft;IZ)V" } : Jvm.MethodName)) ∈ lw_all := lw_g (lw_at lw_m3 136 rfl) rfl
theorem q673 : (Jvm.Cond.code ({ cls := "FlyWheels", name := "tickGoesBy", desc := "(LFlyWheels$Shaft;IZ)V" } : Jvm.MethodName) prog_1_method_8_code (6 : Nat) (Option.none : Option Jvm.ClassFile.FieldType)) ∈ lw_all := lw_g (lw_at lw_m3 137 rfl) rfl
theorem q674 : (Jvm.Cond.methodLink "FlyWheels" (87 : Nat) ({ cls := "java/lang/Math", name := "max", desc := "(II)I" } : Jvm.MethodName)) ∈ lw_all := lw_g (lw_at lw_m3 138 rfl) rfl
theorem q676 : (Jvm.Cond.instanceMethod ({ cls := "FlyWheels", name := "runs", desc := "(II)I" } : Jvm.MethodName)) ∈ lw_all := lw_g (lw_at lw_m3 140 rfl) rfl
theorem q677 : (Jvm.Cond.selects "FlyWheels" ({ cls := "FlyWheels", name := "runs", desc := "(II)I" } : Jvm.MethodName) ({ cls := "FlyWheels", name := "runs", desc := "(II)I" } : Jvm.MethodName)) ∈ lw_all := lw_g (lw_at lw_m3 141 rfl) rfl
theorem q678 : (Jvm.Cond.code ({ cls := "FlyWheels", name := "runs", desc := "(II)I" } : Jvm.MethodName) prog_1_method_35_code (3 : Nat) (Option.some Jvm.ClassFile.FieldType.int)) ∈ lw_all := lw_g (lw_at lw_m3 142 rfl) rfl
theorem q679 : (Jvm.Cond.methodLink "FlyWheels" (243 : Nat) ({ cls := "FlyWheels", name := "isFar", desc := "(I)Z" } : Jvm.MethodName)) ∈ lw_all := lw_g (lw_at lw_m3 143 rfl) rfl
theorem q680 : (Jvm.Cond.static ({ cls := "FlyWheels", name := "isFar", desc := "(I)Z" } : Jvm.MethodName)) ∈ lw_all := lw_g (lw_at lw_m3 144 rfl) rfl
theorem q681 : (Jvm.Cond.code ({ cls := "FlyWheels", name := "isFar", desc := "(I)Z" } : Jvm.MethodName) prog_1_method_21_code (1 : Nat) (Option.some Jvm.ClassFile.FieldType.boolean)) ∈ lw_all := lw_g (lw_at lw_m3 145 rfl) rfl
theorem q682 : (Jvm.Cond.constantLong "FlyWheels" (207 : Nat) (200 : Int64)) ∈ lw_all := lw_g (lw_at lw_m3 146 rfl) rfl
theorem q683 : (Jvm.Cond.constantLong "FlyWheels" (246 : Nat) (4 : Int64)) ∈ lw_all := lw_g (lw_at lw_m3 147 rfl) rfl
theorem q684 : (Jvm.Cond.methodLink "FlyWheels" (248 : Nat) ({ cls := "FlyWheels$Shaft", name := "all", desc := "()I" } : Jvm.MethodName)) ∈ lw_all := lw_g (lw_at lw_m3 148 rfl) rfl
theorem q689 : (Jvm.Cond.instanceMethod ({ cls := "FlyWheels", name := "ahead", desc := "(II)I" } : Jvm.MethodName)) ∈ lw_all := lw_g (lw_at lw_m3 153 rfl) rfl
theorem q690 : (Jvm.Cond.selects "FlyWheels" ({ cls := "FlyWheels", name := "ahead", desc := "(II)I" } : Jvm.MethodName) ({ cls := "FlyWheels", name := "ahead", desc := "(II)I" } : Jvm.MethodName)) ∈ lw_all := lw_g (lw_at lw_m3 154 rfl) rfl
theorem q691 : (Jvm.Cond.code ({ cls := "FlyWheels", name := "ahead", desc := "(II)I" } : Jvm.MethodName) prog_1_method_36_code (3 : Nat) (Option.some Jvm.ClassFile.FieldType.int)) ∈ lw_all := lw_g (lw_at lw_m3 155 rfl) rfl
theorem q693 : (Jvm.Cond.instanceMethod ({ cls := "FlyWheels", name := "when", desc := "(I)I" } : Jvm.MethodName)) ∈ lw_all := lw_g (lw_at lw_m3 157 rfl) rfl
theorem q694 : (Jvm.Cond.selects "FlyWheels" ({ cls := "FlyWheels", name := "when", desc := "(I)I" } : Jvm.MethodName) ({ cls := "FlyWheels", name := "when", desc := "(I)I" } : Jvm.MethodName)) ∈ lw_all := lw_g (lw_at lw_m3 158 rfl) rfl
theorem q695 : (Jvm.Cond.code ({ cls := "FlyWheels", name := "when", desc := "(I)I" } : Jvm.MethodName) prog_1_method_37_code (3 : Nat) (Option.some Jvm.ClassFile.FieldType.int)) ∈ lw_all := lw_g (lw_at lw_m3 159 rfl) rfl
theorem q697 : (Jvm.Cond.instanceMethod ({ cls := "FlyWheels", name := "again", desc := "()I" } : Jvm.MethodName)) ∈ lw_all := lw_g (lw_at lw_m3 161 rfl) rfl
theorem q698 : (Jvm.Cond.selects "FlyWheels" ({ cls := "FlyWheels", name := "again", desc := "()I" } : Jvm.MethodName) ({ cls := "FlyWheels", name := "again", desc := "()I" } : Jvm.MethodName)) ∈ lw_all := lw_g (lw_at lw_m3 162 rfl) rfl
theorem q699 : (Jvm.Cond.code ({ cls := "FlyWheels", name := "again", desc := "()I" } : Jvm.MethodName) prog_1_method_38_code (2 : Nat) (Option.some Jvm.ClassFile.FieldType.int)) ∈ lw_all := lw_g (lw_at lw_m3 163 rfl) rfl
theorem q700 : (Jvm.Cond.methodLink "FlyWheels" (251 : Nat) ({ cls := "FlyWheels$Shaft", name := "isLike", desc := "(LFlyWheels$Shaft;)Z" } : Jvm.MethodName)) ∈ lw_all := lw_g (lw_at lw_m3 164 rfl) rfl
theorem q706 : (Jvm.Cond.instanceMethod ({ cls := "FlyWheels", name := "mass", desc := "(III)I" } : Jvm.MethodName)) ∈ lw_all := lw_g (lw_at lw_m3 170 rfl) rfl
theorem q707 : (Jvm.Cond.selects "FlyWheels" ({ cls := "FlyWheels", name := "mass", desc := "(III)I" } : Jvm.MethodName) ({ cls := "FlyWheels", name := "mass", desc := "(III)I" } : Jvm.MethodName)) ∈ lw_all := lw_g (lw_at lw_m3 171 rfl) rfl
theorem q708 : (Jvm.Cond.code ({ cls := "FlyWheels", name := "mass", desc := "(III)I" } : Jvm.MethodName) prog_1_method_43_code (5 : Nat) (Option.some Jvm.ClassFile.FieldType.int)) ∈ lw_all := lw_g (lw_at lw_m3 172 rfl) rfl
theorem q709 : (Jvm.Cond.methodLink "FlyWheels" (268 : Nat) ({ cls := "FlyWheels", name := "isPart", desc := "(I)Z" } : Jvm.MethodName)) ∈ lw_all := lw_g (lw_at lw_m3 173 rfl) rfl
theorem q710 : (Jvm.Cond.static ({ cls := "FlyWheels", name := "isPart", desc := "(I)Z" } : Jvm.MethodName)) ∈ lw_all := lw_g (lw_at lw_m3 174 rfl) rfl
theorem q711 : (Jvm.Cond.code ({ cls := "FlyWheels", name := "isPart", desc := "(I)Z" } : Jvm.MethodName) prog_1_method_20_code (1 : Nat) (Option.some Jvm.ClassFile.FieldType.boolean)) ∈ lw_all := lw_g (lw_at lw_m3 175 rfl) rfl
theorem q712 : (Jvm.Cond.methodLink "FlyWheels" (264 : Nat) ({ cls := "FlyWheels", name := "startsJudging", desc := "(I)V" } : Jvm.MethodName)) ∈ lw_all := lw_g (lw_at lw_m3 176 rfl) rfl
theorem q713 : (Jvm.Cond.privateMethod ({ cls := "FlyWheels", name := "startsJudging", desc := "(I)V" } : Jvm.MethodName)) ∈ lw_tbl := lw_at lw_m3 177 rfl
theorem q714 : (Jvm.Cond.instanceMethod ({ cls := "FlyWheels", name := "startsJudging", desc := "(I)V" } : Jvm.MethodName)) ∈ lw_all := lw_g (lw_at lw_m3 178 rfl) rfl
theorem q715 : (Jvm.Cond.code ({ cls := "FlyWheels", name := "startsJudging", desc := "(I)V" } : Jvm.MethodName) prog_1_method_39_code (2 : Nat) (Option.none : Option Jvm.ClassFile.FieldType)) ∈ lw_all := lw_g (lw_at lw_m3 179 rfl) rfl
theorem q716 : (Jvm.Cond.methodLink "FlyWheels" (261 : Nat) ({ cls := "FlyWheels", name := "doneByTried", desc := "(I)I" } : Jvm.MethodName)) ∈ lw_all := lw_g (lw_at lw_m3 180 rfl) rfl
theorem q717 : (Jvm.Cond.privateMethod ({ cls := "FlyWheels", name := "doneByTried", desc := "(I)I" } : Jvm.MethodName)) ∈ lw_tbl := lw_at lw_m3 181 rfl
theorem q718 : (Jvm.Cond.instanceMethod ({ cls := "FlyWheels", name := "doneByTried", desc := "(I)I" } : Jvm.MethodName)) ∈ lw_all := lw_g (lw_at lw_m3 182 rfl) rfl
theorem q719 : (Jvm.Cond.code ({ cls := "FlyWheels", name := "doneByTried", desc := "(I)I" } : Jvm.MethodName) prog_1_method_11_code (2 : Nat) (Option.some Jvm.ClassFile.FieldType.int)) ∈ lw_all := lw_g (lw_at lw_m3 183 rfl) rfl
theorem q720 : (Jvm.Cond.methodLink "FlyWheels" (271 : Nat) ({ cls := "FlyWheels", name := "judges", desc := "(II)V" } : Jvm.MethodName)) ∈ lw_all := lw_g (lw_at lw_m3 184 rfl) rfl
theorem q721 : (Jvm.Cond.privateMethod ({ cls := "FlyWheels", name := "judges", desc := "(II)V" } : Jvm.MethodName)) ∈ lw_tbl := lw_at lw_m3 185 rfl
theorem q722 : (Jvm.Cond.instanceMethod ({ cls := "FlyWheels", name := "judges", desc := "(II)V" } : Jvm.MethodName)) ∈ lw_all := lw_g (lw_at lw_m3 186 rfl) rfl
theorem q723 : (Jvm.Cond.code ({ cls := "FlyWheels", name := "judges", desc := "(II)V" } : Jvm.MethodName) prog_1_method_40_code (3 : Nat) (Option.none : Option Jvm.ClassFile.FieldType)) ∈ lw_all := lw_g (lw_at lw_m3 187 rfl) rfl
theorem q724 : (Jvm.Cond.methodLink "FlyWheels" (275 : Nat) ({ cls := "FlyWheels", name := "judged", desc := "(I)I" } : Jvm.MethodName)) ∈ lw_all := lw_g (lw_at lw_m3 188 rfl) rfl
theorem q725 : (Jvm.Cond.privateMethod ({ cls := "FlyWheels", name := "judged", desc := "(I)I" } : Jvm.MethodName)) ∈ lw_tbl := lw_at lw_m3 189 rfl
theorem q726 : (Jvm.Cond.instanceMethod ({ cls := "FlyWheels", name := "judged", desc := "(I)I" } : Jvm.MethodName)) ∈ lw_all := lw_g (lw_at lw_m3 190 rfl) rfl
theorem q727 : (Jvm.Cond.code ({ cls := "FlyWheels", name := "judged", desc := "(I)I" } : Jvm.MethodName) prog_1_method_41_code (2 : Nat) (Option.some Jvm.ClassFile.FieldType.int)) ∈ lw_all := lw_g (lw_at lw_m3 191 rfl) rfl
theorem q729 : (Jvm.Cond.instanceMethod ({ cls := "FlyWheels", name := "kind", desc := "(III)I" } : Jvm.MethodName)) ∈ lw_all := lw_g (lw_at lw_m3 193 rfl) rfl
theorem q730 : (Jvm.Cond.selects "FlyWheels" ({ cls := "FlyWheels", name := "kind", desc := "(III)I" } : Jvm.MethodName) ({ cls := "FlyWheels", name := "kind", desc := "(III)I" } : Jvm.MethodName)) ∈ lw_all := lw_g (lw_at lw_m3 194 rfl) rfl
theorem q731 : (Jvm.Cond.code ({ cls := "FlyWheels", name := "kind", desc := "(III)I" } : Jvm.MethodName) prog_1_method_44_code (5 : Nat) (Option.some Jvm.ClassFile.FieldType.int)) ∈ lw_all := lw_g (lw_at lw_m3 195 rfl) rfl
theorem q733 : (Jvm.Cond.instanceMethod ({ cls := "FlyWheels", name := "bears", desc := "(II)I" } : Jvm.MethodName)) ∈ lw_all := lw_g (lw_at lw_m3 197 rfl) rfl
theorem q734 : (Jvm.Cond.selects "FlyWheels" ({ cls := "FlyWheels", name := "bears", desc := "(II)I" } : Jvm.MethodName) ({ cls := "FlyWheels", name := "bears", desc := "(II)I" } : Jvm.MethodName)) ∈ lw_all := lw_g (lw_at lw_m3 198 rfl) rfl
theorem q735 : (Jvm.Cond.code ({ cls := "FlyWheels", name := "bears", desc := "(II)I" } : Jvm.MethodName) prog_1_method_45_code (4 : Nat) (Option.some Jvm.ClassFile.FieldType.int)) ∈ lw_all := lw_g (lw_at lw_m3 199 rfl) rfl
theorem q737 : (Jvm.Cond.instanceMethod ({ cls := "FlyWheels", name := "swap", desc := "(II)I" } : Jvm.MethodName)) ∈ lw_all := lw_g (lw_at lw_m3 201 rfl) rfl
theorem q738 : (Jvm.Cond.selects "FlyWheels" ({ cls := "FlyWheels", name := "swap", desc := "(II)I" } : Jvm.MethodName) ({ cls := "FlyWheels", name := "swap", desc := "(II)I" } : Jvm.MethodName)) ∈ lw_all := lw_g (lw_at lw_m3 202 rfl) rfl
theorem q739 : (Jvm.Cond.code ({ cls := "FlyWheels", name := "swap", desc := "(II)I" } : Jvm.MethodName) prog_1_method_46_code (5 : Nat) (Option.some Jvm.ClassFile.FieldType.int)) ∈ lw_all := lw_g (lw_at lw_m3 203 rfl) rfl
theorem q740 : (Jvm.Cond.methodLink "FlyWheels" (278 : Nat) ({ cls := "FlyWheels", name := "startsByNow", desc := "(I)V" } : Jvm.MethodName)) ∈ lw_all := lw_g (lw_at lw_m3 204 rfl) rfl
theorem q741 : (Jvm.Cond.privateMethod ({ cls := "FlyWheels", name := "startsByNow", desc := "(I)V" } : Jvm.MethodName)) ∈ lw_tbl := lw_at lw_m3 205 rfl
theorem q742 : (Jvm.Cond.instanceMethod ({ cls := "FlyWheels", name := "startsByNow", desc := "(I)V" } : Jvm.MethodName)) ∈ lw_all := lw_g (lw_at lw_m3 206 rfl) rfl
theorem q743 : (Jvm.Cond.code ({ cls := "FlyWheels", name := "startsByNow", desc := "(I)V" } : Jvm.MethodName) prog_1_method_42_code (2 : Nat) (Option.none : Option Jvm.ClassFile.FieldType)) ∈ lw_all := lw_g (lw_at lw_m3 207 rfl) rfl
theorem q745 : (Jvm.Cond.instanceMethod ({ cls := "FlyWheels", name := "omit", desc := "(II)I" } : Jvm.MethodName)) ∈ lw_all := lw_g (lw_at lw_m3 209 rfl) rfl
theorem q746 : (Jvm.Cond.selects "FlyWheels" ({ cls := "FlyWheels", name := "omit", desc := "(II)I" } : Jvm.MethodName) ({ cls := "FlyWheels", name := "omit", desc := "(II)I" } : Jvm.MethodName)) ∈ lw_all := lw_g (lw_at lw_m3 210 rfl) rfl
theorem q747 : (Jvm.Cond.code ({ cls := "FlyWheels", name := "omit", desc := "(II)I" } : Jvm.MethodName) prog_1_method_47_code (4 : Nat) (Option.some Jvm.ClassFile.FieldType.int)) ∈ lw_all := lw_g (lw_at lw_m3 211 rfl) rfl
theorem q749 : (Jvm.Cond.instanceMethod ({ cls := "FlyWheels", name := "off", desc := "(II)I" } : Jvm.MethodName)) ∈ lw_all := lw_g (lw_at lw_m3 213 rfl) rfl
theorem q750 : (Jvm.Cond.selects "FlyWheels" ({ cls := "FlyWheels", name := "off", desc := "(II)I" } : Jvm.MethodName) ({ cls := "FlyWheels", name := "off", desc := "(II)I" } : Jvm.MethodName)) ∈ lw_all := lw_g (lw_at lw_m3 214 rfl) rfl
theorem q751 : (Jvm.Cond.code ({ cls := "FlyWheels", name := "off", desc := "(II)I" } : Jvm.MethodName) prog_1_method_48_code (4 : Nat) (Option.some Jvm.ClassFile.FieldType.int)) ∈ lw_all := lw_g (lw_at lw_m3 215 rfl) rfl
theorem q753 : (Jvm.Cond.instanceMethod ({ cls := "FlyWheels", name := "luck", desc := "(III)J" } : Jvm.MethodName)) ∈ lw_all := lw_g (lw_at lw_m3 217 rfl) rfl
theorem q754 : (Jvm.Cond.selects "FlyWheels" ({ cls := "FlyWheels", name := "luck", desc := "(III)J" } : Jvm.MethodName) ({ cls := "FlyWheels", name := "luck", desc := "(III)J" } : Jvm.MethodName)) ∈ lw_all := lw_g (lw_at lw_m3 218 rfl) rfl
theorem q755 : (Jvm.Cond.code ({ cls := "FlyWheels", name := "luck", desc := "(III)J" } : Jvm.MethodName) prog_1_method_51_code (4 : Nat) (Option.some Jvm.ClassFile.FieldType.long)) ∈ lw_all := lw_g (lw_at lw_m3 219 rfl) rfl
theorem q756 : (Jvm.Cond.constantLong "FlyWheels" (294 : Nat) (10 : Int64)) ∈ lw_all := lw_g (lw_at lw_m3 220 rfl) rfl
theorem q757 : (Jvm.Cond.constantLong "FlyWheels" (296 : Nat) (8 : Int64)) ∈ lw_all := lw_g (lw_at lw_m3 221 rfl) rfl
theorem q758 : (Jvm.Cond.constantLong "FlyWheels" (298 : Nat) (-1 : Int64)) ∈ lw_all := lw_g (lw_at lw_m3 222 rfl) rfl
theorem q759 : (Jvm.Cond.methodLink "FlyWheels" (300 : Nat) ({ cls := "FlyWheels", name := "findOdds", desc := "(II)V" } : Jvm.MethodName)) ∈ lw_all := lw_g (lw_at lw_m3 223 rfl) rfl
theorem q760 : (Jvm.Cond.privateMethod ({ cls := "FlyWheels", name := "findOdds", desc := "(II)V" } : Jvm.MethodName)) ∈ lw_tbl := lw_at lw_m3 224 rfl
theorem q761 : (Jvm.Cond.instanceMethod ({ cls := "FlyWheels", name := "findOdds", desc := "(II)V" } : Jvm.MethodName)) ∈ lw_all := lw_g (lw_at lw_m3 225 rfl) rfl
theorem q762 : (Jvm.Cond.code ({ cls := "FlyWheels", name := "findOdds", desc := "(II)V" } : Jvm.MethodName) prog_1_method_50_code (7 : Nat) (Option.none : Option Jvm.ClassFile.FieldType)) ∈ lw_all := lw_g (lw_at lw_m3 226 rfl) rfl
theorem q763 : (Jvm.Cond.methodLink "FlyWheels" (291 : Nat) ({ cls := "FlyWheels", name := "has", desc := "(II)Z" } : Jvm.MethodName)) ∈ lw_all := lw_g (lw_at lw_m3 227 rfl) rfl
theorem q764 : (Jvm.Cond.static ({ cls := "FlyWheels", name := "has", desc := "(II)Z" } : Jvm.MethodName)) ∈ lw_all := lw_g (lw_at lw_m3 228 rfl) rfl
theorem q765 : (Jvm.Cond.code ({ cls := "FlyWheels", name := "has", desc := "(II)Z" } : Jvm.MethodName) prog_1_method_2_code (2 : Nat) (Option.some Jvm.ClassFile.FieldType.boolean)) ∈ lw_all := lw_g (lw_at lw_m3 229 rfl) rfl
theorem q766 : (Jvm.Cond.methodLink "FlyWheels" (303 : Nat) ({ cls := "FlyWheels", name := "lowest", desc := "(JJI)J" } : Jvm.MethodName)) ∈ lw_all := lw_g (lw_at lw_m3 230 rfl) rfl
theorem q767 : (Jvm.Cond.static ({ cls := "FlyWheels", name := "lowest", desc := "(JJI)J" } : Jvm.MethodName)) ∈ lw_all := lw_g (lw_at lw_m3 231 rfl) rfl
theorem q768 : (Jvm.Cond.code ({ cls := "FlyWheels", name := "lowest", desc := "(JJI)J" } : Jvm.MethodName) prog_1_method_49_code (11 : Nat) (Option.some Jvm.ClassFile.FieldType.long)) ∈ lw_all := lw_g (lw_at lw_m3 232 rfl) rfl
theorem q770 : (Jvm.Cond.instanceMethod ({ cls := "FlyWheels", name := "mean", desc := "(III)J" } : Jvm.MethodName)) ∈ lw_all := lw_g (lw_at lw_m3 234 rfl) rfl
theorem q771 : (Jvm.Cond.selects "FlyWheels" ({ cls := "FlyWheels", name := "mean", desc := "(III)J" } : Jvm.MethodName) ({ cls := "FlyWheels", name := "mean", desc := "(III)J" } : Jvm.MethodName)) ∈ lw_all := lw_g (lw_at lw_m3 235 rfl) rfl
theorem q772 : (Jvm.Cond.code ({ cls := "FlyWheels", name := "mean", desc := "(III)J" } : Jvm.MethodName) prog_1_method_52_code (4 : Nat) (Option.some Jvm.ClassFile.FieldType.long)) ∈ lw_all := lw_g (lw_at lw_m3 236 rfl) rfl
theorem q774 : (Jvm.Cond.instanceMethod ({ cls := "FlyWheels", name := "see", desc := "(III)I" } : Jvm.MethodName)) ∈ lw_all := lw_g (lw_at lw_m3 238 rfl) rfl
theorem q775 : (Jvm.Cond.selects "FlyWheels" ({ cls := "FlyWheels", name := "see", desc := "(III)I" } : Jvm.MethodName) ({ cls := "FlyWheels", name := "see", desc := "(III)I" } : Jvm.MethodName)) ∈ lw_all := lw_g (lw_at lw_m3 239 rfl) rfl
theorem q776 : (Jvm.Cond.code ({ cls := "FlyWheels", name := "see", desc := "(III)I" } : Jvm.MethodName) prog_1_method_53_code (4 : Nat) (Option.some Jvm.ClassFile.FieldType.int)) ∈ lw_all := lw_g (lw_at lw_m4 0 rfl) rfl
theorem q777 : (Jvm.Cond.constantLong "FlyWheels" (307 : Nat) (40 : Int64)) ∈ lw_all := lw_g (lw_at lw_m4 1 rfl) rfl
theorem q778 : (Jvm.Cond.constantLong "FlyWheels" (309 : Nat) (9999999 : Int64)) ∈ lw_all := lw_g (lw_at lw_m4 2 rfl) rfl
theorem q780 : (Jvm.Cond.instanceMethod ({ cls := "FlyWheels", name := "forget", desc := "(I)I" } : Jvm.MethodName)) ∈ lw_all := lw_g (lw_at lw_m4 4 rfl) rfl
theorem q781 : (Jvm.Cond.selects "FlyWheels" ({ cls := "FlyWheels", name := "forget", desc := "(I)I" } : Jvm.MethodName) ({ cls := "FlyWheels", name := "forget", desc := "(I)I" } : Jvm.MethodName)) ∈ lw_all := lw_g (lw_at lw_m4 5 rfl) rfl
theorem q782 : (Jvm.Cond.code ({ cls := "FlyWheels", name := "forget", desc := "(I)I" } : Jvm.MethodName) prog_1_method_54_code (3 : Nat) (Option.some Jvm.ClassFile.FieldType.int)) ∈ lw_all := lw_g (lw_at lw_m4 6 rfl) rfl
theorem q784 : (Jvm.Cond.instanceMethod ({ cls := "FlyWheels", name := "kinds", desc := "(I)I" } : Jvm.MethodName)) ∈ lw_all := lw_g (lw_at lw_m4 8 rfl) rfl
theorem q785 : (Jvm.Cond.selects "FlyWheels" ({ cls := "FlyWheels", name := "kinds", desc := "(I)I" } : Jvm.MethodName) ({ cls := "FlyWheels", name := "kinds", desc := "(I)I" } : Jvm.MethodName)) ∈ lw_all := lw_g (lw_at lw_m4 9 rfl) rfl
theorem q786 : (Jvm.Cond.code ({ cls := "FlyWheels", name := "kinds", desc := "(I)I" } : Jvm.MethodName) prog_1_method_56_code (4 : Nat) (Option.some Jvm.ClassFile.FieldType.int)) ∈ lw_all := lw_g (lw_at lw_m4 10 rfl) rfl
theorem q787 : (Jvm.Cond.methodLink "FlyWheels" (311 : Nat) ({ cls := "FlyWheels", name := "isSo", desc := "()Z" } : Jvm.MethodName)) ∈ lw_all := lw_g (lw_at lw_m4 11 rfl) rfl
theorem q788 : (Jvm.Cond.privateMethod ({ cls := "FlyWheels", name := "isSo", desc := "()Z" } : Jvm.MethodName)) ∈ lw_tbl := lw_at lw_m4 12 rfl
theorem q789 : (Jvm.Cond.instanceMethod ({ cls := "FlyWheels", name := "isSo", desc := "()Z" } : Jvm.MethodName)) ∈ lw_all := lw_g (lw_at lw_m4 13 rfl) rfl
theorem q790 : (Jvm.Cond.code ({ cls := "FlyWheels", name := "isSo", desc := "()Z" } : Jvm.MethodName) prog_1_method_55_code (4 : Nat) (Option.some Jvm.ClassFile.FieldType.boolean)) ∈ lw_all := lw_g (lw_at lw_m4 14 rfl) rfl
theorem q792 : (Jvm.Cond.instanceMethod ({ cls := "FlyWheels", name := "losses", desc := "(I)I" } : Jvm.MethodName)) ∈ lw_all := lw_g (lw_at lw_m4 16 rfl) rfl
theorem q793 : (Jvm.Cond.selects "FlyWheels" ({ cls := "FlyWheels", name := "losses", desc := "(I)I" } : Jvm.MethodName) ({ cls := "FlyWheels", name := "losses", desc := "(I)I" } : Jvm.MethodName)) ∈ lw_all := lw_g (lw_at lw_m4 17 rfl) rfl
theorem q794 : (Jvm.Cond.code ({ cls := "FlyWheels", name := "losses", desc := "(I)I" } : Jvm.MethodName) prog_1_method_58_code (4 : Nat) (Option.some Jvm.ClassFile.FieldType.int)) ∈ lw_all := lw_g (lw_at lw_m4 18 rfl) rfl
theorem q795 : (Jvm.Cond.methodLink "FlyWheels" (315 : Nat) ({ cls := "FlyWheels", name := "isLossSo", desc := "(II)Z" } : Jvm.MethodName)) ∈ lw_all := lw_g (lw_at lw_m4 19 rfl) rfl
theorem q796 : (Jvm.Cond.privateMethod ({ cls := "FlyWheels", name := "isLossSo", desc := "(II)Z" } : Jvm.MethodName)) ∈ lw_tbl := lw_at lw_m4 20 rfl
theorem q797 : (Jvm.Cond.instanceMethod ({ cls := "FlyWheels", name := "isLossSo", desc := "(II)Z" } : Jvm.MethodName)) ∈ lw_all := lw_g (lw_at lw_m4 21 rfl) rfl
theorem q798 : (Jvm.Cond.code ({ cls := "FlyWheels", name := "isLossSo", desc := "(II)Z" } : Jvm.MethodName) prog_1_method_57_code (3 : Nat) (Option.some Jvm.ClassFile.FieldType.boolean)) ∈ lw_all := lw_g (lw_at lw_m4 22 rfl) rfl
theorem q800 : (Jvm.Cond.instanceMethod ({ cls := "FlyWheels", name := "ask", desc := "(II)I" } : Jvm.MethodName)) ∈ lw_all := lw_g (lw_at lw_m4 24 rfl) rfl
theorem q801 : (Jvm.Cond.selects "FlyWheels" ({ cls := "FlyWheels", name := "ask", desc := "(II)I" } : Jvm.MethodName) ({ cls := "FlyWheels", name := "ask", desc := "(II)I" } : Jvm.MethodName)) ∈ lw_all := lw_g (lw_at lw_m4 25 rfl) rfl
theorem q802 : (Jvm.Cond.code ({ cls := "FlyWheels", name := "ask", desc := "(II)I" } : Jvm.MethodName) prog_1_method_61_code (5 : Nat) (Option.some Jvm.ClassFile.FieldType.int)) ∈ lw_all := lw_g (lw_at lw_m4 26 rfl) rfl
theorem q803 : (Jvm.Cond.methodLink "FlyWheels" (318 : Nat) ({ cls := "FlyWheels", name := "findLosses", desc := "(I)I" } : Jvm.MethodName)) ∈ lw_all := lw_g (lw_at lw_m4 27 rfl) rfl
theorem q804 : (Jvm.Cond.privateMethod ({ cls := "FlyWheels", name := "findLosses", desc := "(I)I" } : Jvm.MethodName)) ∈ lw_tbl := lw_at lw_m4 28 rfl
theorem q805 : (Jvm.Cond.instanceMethod ({ cls := "FlyWheels", name := "findLosses", desc := "(I)I" } : Jvm.MethodName)) ∈ lw_all := lw_g (lw_at lw_m4 29 rfl) rfl
theorem q806 : (Jvm.Cond.code ({ cls := "FlyWheels", name := "findLosses", desc := "(I)I" } : Jvm.MethodName) prog_1_method_59_code (5 : Nat) (Option.some Jvm.ClassFile.FieldType.int)) ∈ lw_all := lw_g (lw_at lw_m4 30 rfl) rfl
theorem q807 : (Jvm.Cond.methodLink "FlyWheels" (321 : Nat) ({ cls := "FlyWheels", name := "worstAt", desc := "(II)I" } : Jvm.MethodName)) ∈ lw_all := lw_g (lw_at lw_m4 31 rfl) rfl
theorem q808 : (Jvm.Cond.privateMethod ({ cls := "FlyWheels", name := "worstAt", desc := "(II)I" } : Jvm.MethodName)) ∈ lw_tbl := lw_at lw_m4 32 rfl
theorem q809 : (Jvm.Cond.instanceMethod ({ cls := "FlyWheels", name := "worstAt", desc := "(II)I" } : Jvm.MethodName)) ∈ lw_all := lw_g (lw_at lw_m4 33 rfl) rfl
theorem q810 : (Jvm.Cond.code ({ cls := "FlyWheels", name := "worstAt", desc := "(II)I" } : Jvm.MethodName) prog_1_method_60_code (7 : Nat) (Option.some Jvm.ClassFile.FieldType.int)) ∈ lw_all := lw_g (lw_at lw_m4 34 rfl) rfl
theorem q812 : (Jvm.Cond.instanceMethod ({ cls := "FlyWheels", name := "drift", desc := "(III)I" } : Jvm.MethodName)) ∈ lw_all := lw_g (lw_at lw_m4 36 rfl) rfl
theorem q813 : (Jvm.Cond.selects "FlyWheels" ({ cls := "FlyWheels", name := "drift", desc := "(III)I" } : Jvm.MethodName) ({ cls := "FlyWheels", name := "drift", desc := "(III)I" } : Jvm.MethodName)) ∈ lw_all := lw_g (lw_at lw_m4 37 rfl) rfl
theorem q814 : (Jvm.Cond.code ({ cls := "FlyWheels", name := "drift", desc := "(III)I" } : Jvm.MethodName) prog_1_method_62_code (6 : Nat) (Option.some Jvm.ClassFile.FieldType.int)) ∈ lw_all := lw_g (lw_at lw_m4 38 rfl) rfl
theorem q815 : (Jvm.Cond.constant "FlyWheels" (324 : Nat) (1103515245 : Int32)) ∈ lw_all := lw_g (lw_at lw_m4 39 rfl) rfl
theorem q817 : (Jvm.Cond.instanceMethod ({ cls := "FlyWheels", name := "keep", desc := "(I)I" } : Jvm.MethodName)) ∈ lw_all := lw_g (lw_at lw_m4 41 rfl) rfl
theorem q818 : (Jvm.Cond.selects "FlyWheels" ({ cls := "FlyWheels", name := "keep", desc := "(I)I" } : Jvm.MethodName) ({ cls := "FlyWheels", name := "keep", desc := "(I)I" } : Jvm.MethodName)) ∈ lw_all := lw_g (lw_at lw_m4 42 rfl) rfl
theorem q819 : (Jvm.Cond.code ({ cls := "FlyWheels", name := "keep", desc := "(I)I" } : Jvm.MethodName) prog_1_method_63_code (3 : Nat) (Option.some Jvm.ClassFile.FieldType.int)) ∈ lw_all := lw_g (lw_at lw_m4 43 rfl) rfl
theorem q821 : (Jvm.Cond.instanceMethod ({ cls := "FlyWheels", name := "back", desc := "(I)I" } : Jvm.MethodName)) ∈ lw_all := lw_g (lw_at lw_m4 45 rfl) rfl
theorem q822 : (Jvm.Cond.selects "FlyWheels" ({ cls := "FlyWheels", name := "back", desc := "(I)I" } : Jvm.MethodName) ({ cls := "FlyWheels", name := "back", desc := "(I)I" } : Jvm.MethodName)) ∈ lw_all := lw_g (lw_at lw_m4 46 rfl) rfl
theorem q823 : (Jvm.Cond.code ({ cls := "FlyWheels", name := "back", desc := "(I)I" } : Jvm.MethodName) prog_1_method_64_code (2 : Nat) (Option.some Jvm.ClassFile.FieldType.int)) ∈ lw_all := lw_g (lw_at lw_m4 47 rfl) rfl
theorem q825 : (Jvm.Cond.instanceMethod ({ cls := "FlyWheels", name := "sheet", desc := "(III)I" } : Jvm.MethodName)) ∈ lw_all := lw_g (lw_at lw_m4 49 rfl) rfl
theorem q826 : (Jvm.Cond.selects "FlyWheels" ({ cls := "FlyWheels", name := "sheet", desc := "(III)I" } : Jvm.MethodName) ({ cls := "FlyWheels", name := "sheet", desc := "(III)I" } : Jvm.MethodName)) ∈ lw_all := lw_g (lw_at lw_m4 50 rfl) rfl
theorem q827 : (Jvm.Cond.codeWith ({ cls := "FlyWheels", name := "sheet", desc := "(III)I" } : Jvm.MethodName) prog_1_method_66_code (5 : Nat) (Option.some Jvm.ClassFile.FieldType.int) [((16 : Nat), (50 : Nat), (51 : Nat), (334 : Nat))]) ∈ lw_all := lw_g (lw_at lw_m4 51 rfl) rfl
theorem q828 : (Jvm.Cond.classLink "FlyWheels" (334 : Nat) "java/lang/NegativeArraySizeException") ∈ lw_all := lw_g (lw_at lw_m4 52 rfl) rfl
theorem q857 : (Jvm.Cond.methodLink "FlyWheels" (327 : Nat) ({ cls := "FlyWheels", name := "isSheet", desc := "(II)Z" } : Jvm.MethodName)) ∈ lw_all := lw_g (lw_at lw_m4 81 rfl) rfl
theorem q858 : (Jvm.Cond.static ({ cls := "FlyWheels", name := "isSheet", desc := "(II)Z" } : Jvm.MethodName)) ∈ lw_all := lw_g (lw_at lw_m4 82 rfl) rfl
theorem q859 : (Jvm.Cond.code ({ cls := "FlyWheels", name := "isSheet", desc := "(II)Z" } : Jvm.MethodName) prog_1_method_65_code (2 : Nat) (Option.some Jvm.ClassFile.FieldType.boolean)) ∈ lw_all := lw_g (lw_at lw_m4 83 rfl) rfl
theorem q860 : (Jvm.Cond.constantLong "FlyWheels" (325 : Nat) (2 : Int64)) ∈ lw_all := lw_g (lw_at lw_m4 84 rfl) rfl
theorem q862 : (Jvm.Cond.instanceMethod ({ cls := "FlyWheels", name := "lay", desc := "(III)I" } : Jvm.MethodName)) ∈ lw_all := lw_g (lw_at lw_m4 86 rfl) rfl
theorem q863 : (Jvm.Cond.selects "FlyWheels" ({ cls := "FlyWheels", name := "lay", desc := "(III)I" } : Jvm.MethodName) ({ cls := "FlyWheels", name := "lay", desc := "(III)I" } : Jvm.MethodName)) ∈ lw_all := lw_g (lw_at lw_m4 87 rfl) rfl
theorem q864 : (Jvm.Cond.codeWith ({ cls := "FlyWheels", name := "lay", desc := "(III)I" } : Jvm.MethodName) prog_1_method_67_code (6 : Nat) (Option.some Jvm.ClassFile.FieldType.int) [((25 : Nat), (74 : Nat), (75 : Nat), (339 : Nat)), ((25 : Nat), (74 : Nat), (80 : Nat), (341 : Nat))]) ∈ lw_all := lw_g (lw_at lw_m4 88 rfl) rfl
theorem q865 : (Jvm.Cond.classLink "FlyWheels" (339 : Nat) "java/lang/NullPointerException") ∈ lw_all := lw_g (lw_at lw_m4 89 rfl) rfl
theorem q890 : (Jvm.Cond.classLink "FlyWheels" (341 : Nat) "java/lang/IndexOutOfBoundsException") ∈ lw_all := lw_g (lw_at lw_m4 114 rfl) rfl
theorem q909 : (Jvm.Cond.classLink "FlyWheels" (336 : Nat) "[B") ∈ lw_all := lw_g (lw_at lw_m4 133 rfl) rfl
theorem q910 : (Jvm.Cond.classLink "FlyWheels" (337 : Nat) "[S") ∈ lw_all := lw_g (lw_at lw_m4 134 rfl) rfl
theorem q911 : (Jvm.Cond.classLink "FlyWheels" (338 : Nat) "[I") ∈ lw_all := lw_g (lw_at lw_m4 135 rfl) rfl
theorem q913 : (Jvm.Cond.instanceMethod ({ cls := "FlyWheels", name := "read", desc := "(IIII)I" } : Jvm.MethodName)) ∈ lw_all := lw_g (lw_at lw_m4 137 rfl) rfl
theorem q914 : (Jvm.Cond.selects "FlyWheels" ({ cls := "FlyWheels", name := "read", desc := "(IIII)I" } : Jvm.MethodName) ({ cls := "FlyWheels", name := "read", desc := "(IIII)I" } : Jvm.MethodName)) ∈ lw_all := lw_g (lw_at lw_m4 138 rfl) rfl
theorem q915 : (Jvm.Cond.codeWith ({ cls := "FlyWheels", name := "read", desc := "(IIII)I" } : Jvm.MethodName) prog_1_method_69_code (9 : Nat) (Option.some Jvm.ClassFile.FieldType.int) [((38 : Nat), (76 : Nat), (86 : Nat), (339 : Nat)), ((77 : Nat), (83 : Nat), (86 : Nat), (339 : Nat)), ((38 : Nat), (76 : Nat), (94 : Nat), (350 : Nat)), ((77 : Nat), (83 : Nat), (94 : Nat), (350 : Nat)), ((38 : Nat), (76 : Nat), (102 : Nat), (341 : Nat)), ((77 : Nat), (83 : Nat), (102 : Nat), (341 : Nat))]) ∈ lw_all := lw_g (lw_at lw_m4 139 rfl) rfl
theorem q916 : (Jvm.Cond.classLink "FlyWheels" (350 : Nat) "java/lang/ClassCastException") ∈ lw_all := lw_g (lw_at lw_m4 140 rfl) rfl
theorem q930 : (Jvm.Cond.methodLink "FlyWheels" (343 : Nat) ({ cls := "FlyWheels", name := "takenOf", desc := "(III)I" } : Jvm.MethodName)) ∈ lw_all := lw_g (lw_at lw_m4 154 rfl) rfl
theorem q931 : (Jvm.Cond.privateMethod ({ cls := "FlyWheels", name := "takenOf", desc := "(III)I" } : Jvm.MethodName)) ∈ lw_tbl := lw_at lw_m4 155 rfl
theorem q932 : (Jvm.Cond.instanceMethod ({ cls := "FlyWheels", name := "takenOf", desc := "(III)I" } : Jvm.MethodName)) ∈ lw_all := lw_g (lw_at lw_m4 156 rfl) rfl
theorem q933 : (Jvm.Cond.code ({ cls := "FlyWheels", name := "takenOf", desc := "(III)I" } : Jvm.MethodName) prog_1_method_68_code (5 : Nat) (Option.some Jvm.ClassFile.FieldType.int)) ∈ lw_all := lw_g (lw_at lw_m4 157 rfl) rfl
theorem q934 : (Jvm.Cond.methodLink "FlyWheels" (347 : Nat) ({ cls := "FlyWheels", name := "add", desc := "(I)I" } : Jvm.MethodName)) ∈ lw_all := lw_g (lw_at lw_m4 158 rfl) rfl
theorem q936 : (Jvm.Cond.instanceMethod ({ cls := "FlyWheels", name := "torn", desc := "()I" } : Jvm.MethodName)) ∈ lw_all := lw_g (lw_at lw_m4 160 rfl) rfl
theorem q937 : (Jvm.Cond.selects "FlyWheels" ({ cls := "FlyWheels", name := "torn", desc := "()I" } : Jvm.MethodName) ({ cls := "FlyWheels", name := "torn", desc := "()I" } : Jvm.MethodName)) ∈ lw_all := lw_g (lw_at lw_m4 161 rfl) rfl
theorem q938 : (Jvm.Cond.code ({ cls := "FlyWheels", name := "torn", desc := "()I" } : Jvm.MethodName) prog_1_method_70_code (1 : Nat) (Option.some Jvm.ClassFile.FieldType.int)) ∈ lw_all := lw_g (lw_at lw_m4 162 rfl) rfl
theorem q940 : (Jvm.Cond.instanceMethod ({ cls := "FlyWheels", name := "count", desc := "(I)I" } : Jvm.MethodName)) ∈ lw_all := lw_g (lw_at lw_m4 164 rfl) rfl
theorem q941 : (Jvm.Cond.selects "FlyWheels" ({ cls := "FlyWheels", name := "count", desc := "(I)I" } : Jvm.MethodName) ({ cls := "FlyWheels", name := "count", desc := "(I)I" } : Jvm.MethodName)) ∈ lw_all := lw_g (lw_at lw_m4 165 rfl) rfl
theorem q942 : (Jvm.Cond.code ({ cls := "FlyWheels", name := "count", desc := "(I)I" } : Jvm.MethodName) prog_1_method_71_code (7 : Nat) (Option.some Jvm.ClassFile.FieldType.int)) ∈ lw_all := lw_g (lw_at lw_m4 166 rfl) rfl
theorem q943 : (Jvm.Cond.methodLink "FlyWheels" (355 : Nat) ({ cls := "java/lang/Integer", name := "bitCount", desc := "(I)I" } : Jvm.MethodName)) ∈ lw_all := lw_g (lw_at lw_m4 167 rfl) rfl
theorem in_X0 : ∀ w ∈ wsX00, w ∈ lw_all := lw_in wsX00 [242, 244, 246, 248, 250, 252, 254, 256, 258, 260, 262, 264, 266, 268, 270, 272, 274, 276, 278, 280, 282, 284, 286] (by decide +kernel) (by decide +kernel)
