/-! FlyWheelsModel -/
set_option maxRecDepth 100000
def RX8 : String := "FlyWheelsModel"
def TX8 : u_T := fun k => match k with
  | 0 => ("FlyWheelsModel", "state", "[I", true)
  | 1 => ("FlyWheelsModel", "readPage", "[I", true)
  | 2 => ("FlyWheelsModel", "isShaftTold", "Z", false)
  | 3 => ("FlyWheelsModel", "tape", "[I", true)
  | 4 => ("FlyWheelsModel", "taped", "I", false)
  | 5 => ("FlyWheelsModel", "fault", "I", false)
  | 6 => ("FlyWheelsModel", "broken", "I", false)
  | 7 => ("FlyWheelsModel", "brokenAt", "I", false)
  | 8 => ("FlyWheelsModel", "spot", "I", false)
  | 9 => ("FlyWheelsModel", "here", "I", false)
  | 10 => ("FlyWheelsModel", "token", "I", false)
  | 11 => ("FlyWheelsModel", "value", "I", false)
  | 12 => ("FlyWheelsModel", "ends", "[I", true)
  | 13 => ("FlyWheelsModel", "letters", "[I", true)
  | 14 => ("FlyWheelsModel", "freed", "I", false)
  | 15 => ("FlyWheelsModel", "omitted", "I", false)
  | 16 => ("FlyWheelsModel", "taken", "I", false)
  | 17 => ("FlyWheelsModel", "fastest", "I", false)
  | 18 => ("FlyWheelsModel", "seen", "[I", true)
  | 19 => ("FlyWheelsModel", "seenMany", "I", false)
  | 20 => ("FlyWheelsModel", "swingBy", "[I", true)
  | 21 => ("FlyWheelsModel", "isKept", "[Z", true)
  | 22 => ("FlyWheelsModel", "lanes", "[I", true)
  | 23 => ("FlyWheelsModel", "lengths", "[I", true)
  | 24 => ("FlyWheelsModel", "cells", "[I", true)
  | _ => ("FlyWheelsModel", "torn", "I", false)
def tyX8 : Nat → FieldType := fun k => match k with
  | 0 => .array .int
  | 1 => .array .int
  | 2 => .boolean
  | 3 => .array .int
  | 4 => .int
  | 5 => .int
  | 6 => .int
  | 7 => .int
  | 8 => .int
  | 9 => .int
  | 10 => .int
  | 11 => .int
  | 12 => .array .int
  | 13 => .array .int
  | 14 => .int
  | 15 => .int
  | 16 => .int
  | 17 => .int
  | 18 => .array .int
  | 19 => .int
  | 20 => .array .int
  | 21 => .array .boolean
  | 22 => .array .int
  | 23 => .array .int
  | 24 => .array .int
  | _ => .int
abbrev wsX80 : List Cond := u_ws RX8 TX8 26
set_option maxRecDepth 100000 in
theorem nmX8 : ∀ a, a < 26 → ∀ b, b < 26 → a ≠ b → (TX8 a).2.1 ≠ (TX8 b).2.1 := by decide +kernel
set_option maxRecDepth 100000 in
theorem tyX8_ok : ∀ k, k < 26 → parseFieldDescriptor (TX8 k).2.2.1 = some (tyX8 k) := by decide +kernel
abbrev cX8_init : ByteArray := prog_12_method_1_code
def yX8_init : MethodName := ⟨RX8, "<init>", "()V"⟩
def dkwX8_init_15 : List UInt8 := [181, 0, 42, 42, 7, 188, 10, 181, 0, 45, 42, 17, 0, 160, 188, 10, 181, 0, 48, 177]
abbrev dktX8_init_15 : List UInt8 := dkwX8_init_15 ++ []
def dkwX8_init_14 : List UInt8 := [42, 7, 188, 10, 89, 3, 16, 252, 79, 89, 4, 16, 252, 79, 89, 5, 16, 252, 79, 89, 6, 16, 252, 79]
abbrev dktX8_init_14 : List UInt8 := dkwX8_init_14 ++ dktX8_init_15
def dkwX8_init_13 : List UInt8 := [42, 16, 18, 188, 10, 181, 0, 32, 42, 17, 1, 154, 188, 10, 181, 0, 35, 42, 5, 188, 4, 181, 0, 38]
abbrev dktX8_init_13 : List UInt8 := dkwX8_init_13 ++ dktX8_init_14
def dkwX8_init_12 : List UInt8 := [16, 105, 79, 89, 16, 34, 16, 110, 79, 181, 0, 22, 42, 16, 252, 181, 0, 25, 42, 16, 252, 181, 0, 29]
abbrev dktX8_init_12 : List UInt8 := dkwX8_init_12 ++ dktX8_init_13
def dkwX8_init_11 : List UInt8 := [16, 97, 79, 89, 16, 30, 16, 100, 79, 89, 16, 31, 16, 106, 79, 89, 16, 32, 16, 111, 79, 89, 16, 33]
abbrev dktX8_init_11 : List UInt8 := dkwX8_init_11 ++ dktX8_init_12
def dkwX8_init_10 : List UInt8 := [16, 118, 79, 89, 16, 26, 16, 101, 79, 89, 16, 27, 16, 108, 79, 89, 16, 28, 16, 111, 79, 89, 16, 29]
abbrev dktX8_init_10 : List UInt8 := dkwX8_init_10 ++ dktX8_init_11
def dkwX8_init_9 : List UInt8 := [16, 116, 79, 89, 16, 22, 16, 100, 79, 89, 16, 23, 16, 114, 79, 89, 16, 24, 16, 105, 79, 89, 16, 25]
abbrev dktX8_init_9 : List UInt8 := dkwX8_init_9 ++ dktX8_init_10
def dkwX8_init_8 : List UInt8 := [16, 115, 79, 89, 16, 18, 16, 104, 79, 89, 16, 19, 16, 97, 79, 89, 16, 20, 16, 102, 79, 89, 16, 21]
abbrev dktX8_init_8 : List UInt8 := dkwX8_init_8 ++ dktX8_init_9
def dkwX8_init_7 : List UInt8 := [16, 115, 79, 89, 16, 14, 16, 111, 79, 89, 16, 15, 16, 102, 79, 89, 16, 16, 16, 116, 79, 89, 16, 17]
abbrev dktX8_init_7 : List UInt8 := dkwX8_init_7 ++ dktX8_init_8
def dkwX8_init_6 : List UInt8 := [16, 116, 79, 89, 16, 10, 16, 97, 79, 89, 16, 11, 16, 107, 79, 89, 16, 12, 16, 101, 79, 89, 16, 13]
abbrev dktX8_init_6 : List UInt8 := dkwX8_init_6 ++ dktX8_init_7
def dkwX8_init_5 : List UInt8 := [16, 115, 79, 89, 16, 6, 16, 108, 79, 89, 16, 7, 16, 105, 79, 89, 16, 8, 16, 112, 79, 89, 16, 9]
abbrev dktX8_init_5 : List UInt8 := dkwX8_init_5 ++ dktX8_init_6
def dkwX8_init_4 : List UInt8 := [79, 89, 4, 16, 108, 79, 89, 5, 16, 97, 79, 89, 6, 16, 105, 79, 89, 7, 16, 110, 79, 89, 8]
abbrev dktX8_init_4 : List UInt8 := dkwX8_init_4 ++ dktX8_init_5
def dkwX8_init_3 : List UInt8 := [89, 16, 7, 16, 31, 79, 89, 16, 8, 16, 35, 79, 181, 0, 19, 42, 16, 35, 188, 10, 89, 3, 16, 112]
abbrev dktX8_init_3 : List UInt8 := dkwX8_init_3 ++ dktX8_init_4
def dkwX8_init_2 : List UInt8 := [16, 9, 79, 89, 6, 16, 13, 79, 89, 7, 16, 17, 79, 89, 8, 16, 22, 79, 89, 16, 6, 16, 27, 79]
abbrev dktX8_init_2 : List UInt8 := dkwX8_init_2 ++ dktX8_init_3
def dkwX8_init_1 : List UInt8 := [17, 0, 160, 188, 10, 181, 0, 16, 42, 16, 9, 188, 10, 89, 3, 3, 79, 89, 4, 8, 79, 89, 5]
abbrev dktX8_init_1 : List UInt8 := dkwX8_init_1 ++ dktX8_init_2
def dkwX8_init_0 : List UInt8 := [42, 183, 0, 1, 42, 17, 0, 234, 188, 10, 181, 0, 7, 42, 16, 39, 188, 10, 181, 0, 13, 42]
abbrev dktX8_init_0 : List UInt8 := dkwX8_init_0 ++ dktX8_init_1
theorem dksX8_init_0 : cX8_init.data.toList.drop 0 = dktX8_init_0 := by decide +kernel
theorem dksX8_init_1 : cX8_init.data.toList.drop 22 = dktX8_init_1 := dk_seg dksX8_init_0 22 rfl rfl
theorem dksX8_init_2 : cX8_init.data.toList.drop 45 = dktX8_init_2 := dk_seg dksX8_init_1 23 rfl rfl
theorem dksX8_init_3 : cX8_init.data.toList.drop 69 = dktX8_init_3 := dk_seg dksX8_init_2 24 rfl rfl
theorem dksX8_init_4 : cX8_init.data.toList.drop 93 = dktX8_init_4 := dk_seg dksX8_init_3 24 rfl rfl
theorem dksX8_init_5 : cX8_init.data.toList.drop 116 = dktX8_init_5 := dk_seg dksX8_init_4 23 rfl rfl
theorem dksX8_init_6 : cX8_init.data.toList.drop 140 = dktX8_init_6 := dk_seg dksX8_init_5 24 rfl rfl
theorem dksX8_init_7 : cX8_init.data.toList.drop 164 = dktX8_init_7 := dk_seg dksX8_init_6 24 rfl rfl
theorem dksX8_init_8 : cX8_init.data.toList.drop 188 = dktX8_init_8 := dk_seg dksX8_init_7 24 rfl rfl
theorem dksX8_init_9 : cX8_init.data.toList.drop 212 = dktX8_init_9 := dk_seg dksX8_init_8 24 rfl rfl
theorem dksX8_init_10 : cX8_init.data.toList.drop 236 = dktX8_init_10 := dk_seg dksX8_init_9 24 rfl rfl
theorem dksX8_init_11 : cX8_init.data.toList.drop 260 = dktX8_init_11 := dk_seg dksX8_init_10 24 rfl rfl
theorem dksX8_init_12 : cX8_init.data.toList.drop 284 = dktX8_init_12 := dk_seg dksX8_init_11 24 rfl rfl
theorem dksX8_init_13 : cX8_init.data.toList.drop 308 = dktX8_init_13 := dk_seg dksX8_init_12 24 rfl rfl
theorem dksX8_init_14 : cX8_init.data.toList.drop 332 = dktX8_init_14 := dk_seg dksX8_init_13 24 rfl rfl
theorem dksX8_init_15 : cX8_init.data.toList.drop 356 = dktX8_init_15 := dk_seg dksX8_init_14 24 rfl rfl
theorem dX8_init_0 : decode cX8_init 0 = .ok (.aload_n 0, 1) := dk_42 (dk_at dksX8_init_0 0 rfl rfl)
theorem dX8_init_1 : decode cX8_init 1 = .ok (.invokespecial 1, 3) := dk_183 0 1 (dk_at dksX8_init_0 1 rfl rfl)
theorem dX8_init_4 : decode cX8_init 4 = .ok (.aload_n 0, 1) := dk_42 (dk_at dksX8_init_0 4 rfl rfl)
theorem dX8_init_5 : decode cX8_init 5 = .ok (.sipush 234, 3) := dk_17 0 234 (dk_at dksX8_init_0 5 rfl rfl)
theorem dX8_init_8 : decode cX8_init 8 = .ok (.newarray .int, 2) := dk_188_10 (dk_at dksX8_init_0 8 rfl rfl)
theorem dX8_init_10 : decode cX8_init 10 = .ok (.putfield 7, 3) := dk_181 0 7 (dk_at dksX8_init_0 10 rfl rfl)
theorem dX8_init_13 : decode cX8_init 13 = .ok (.aload_n 0, 1) := dk_42 (dk_at dksX8_init_0 13 rfl rfl)
theorem dX8_init_14 : decode cX8_init 14 = .ok (.bipush 39, 2) := dk_16 39 (dk_at dksX8_init_0 14 rfl rfl)
theorem dX8_init_16 : decode cX8_init 16 = .ok (.newarray .int, 2) := dk_188_10 (dk_at dksX8_init_0 16 rfl rfl)
theorem dX8_init_18 : decode cX8_init 18 = .ok (.putfield 13, 3) := dk_181 0 13 (dk_at dksX8_init_0 18 rfl rfl)
theorem dX8_init_21 : decode cX8_init 21 = .ok (.aload_n 0, 1) := dk_42 (dk_at dksX8_init_0 21 rfl rfl)
theorem dX8_init_22 : decode cX8_init 22 = .ok (.sipush 160, 3) := dk_17 0 160 (dk_at dksX8_init_1 0 rfl rfl)
theorem dX8_init_25 : decode cX8_init 25 = .ok (.newarray .int, 2) := dk_188_10 (dk_at dksX8_init_1 3 rfl rfl)
theorem dX8_init_27 : decode cX8_init 27 = .ok (.putfield 16, 3) := dk_181 0 16 (dk_at dksX8_init_1 5 rfl rfl)
theorem dX8_init_30 : decode cX8_init 30 = .ok (.aload_n 0, 1) := dk_42 (dk_at dksX8_init_1 8 rfl rfl)
theorem dX8_init_31 : decode cX8_init 31 = .ok (.bipush 9, 2) := dk_16 9 (dk_at dksX8_init_1 9 rfl rfl)
theorem dX8_init_33 : decode cX8_init 33 = .ok (.newarray .int, 2) := dk_188_10 (dk_at dksX8_init_1 11 rfl rfl)
theorem dX8_init_35 : decode cX8_init 35 = .ok (.dup, 1) := dk_89 (dk_at dksX8_init_1 13 rfl rfl)
theorem dX8_init_36 : decode cX8_init 36 = .ok (.iconst 0, 1) := dk_3 (dk_at dksX8_init_1 14 rfl rfl)
theorem dX8_init_37 : decode cX8_init 37 = .ok (.iconst 0, 1) := dk_3 (dk_at dksX8_init_1 15 rfl rfl)
theorem dX8_init_38 : decode cX8_init 38 = .ok (.iastore, 1) := dk_79 (dk_at dksX8_init_1 16 rfl rfl)
theorem dX8_init_39 : decode cX8_init 39 = .ok (.dup, 1) := dk_89 (dk_at dksX8_init_1 17 rfl rfl)
theorem dX8_init_40 : decode cX8_init 40 = .ok (.iconst 1, 1) := dk_4 (dk_at dksX8_init_1 18 rfl rfl)
theorem dX8_init_41 : decode cX8_init 41 = .ok (.iconst 5, 1) := dk_8 (dk_at dksX8_init_1 19 rfl rfl)
theorem dX8_init_42 : decode cX8_init 42 = .ok (.iastore, 1) := dk_79 (dk_at dksX8_init_1 20 rfl rfl)
theorem dX8_init_43 : decode cX8_init 43 = .ok (.dup, 1) := dk_89 (dk_at dksX8_init_1 21 rfl rfl)
theorem dX8_init_44 : decode cX8_init 44 = .ok (.iconst 2, 1) := dk_5 (dk_at dksX8_init_1 22 rfl rfl)
theorem dX8_init_45 : decode cX8_init 45 = .ok (.bipush 9, 2) := dk_16 9 (dk_at dksX8_init_2 0 rfl rfl)
theorem dX8_init_47 : decode cX8_init 47 = .ok (.iastore, 1) := dk_79 (dk_at dksX8_init_2 2 rfl rfl)
theorem dX8_init_48 : decode cX8_init 48 = .ok (.dup, 1) := dk_89 (dk_at dksX8_init_2 3 rfl rfl)
theorem dX8_init_49 : decode cX8_init 49 = .ok (.iconst 3, 1) := dk_6 (dk_at dksX8_init_2 4 rfl rfl)
theorem dX8_init_50 : decode cX8_init 50 = .ok (.bipush 13, 2) := dk_16 13 (dk_at dksX8_init_2 5 rfl rfl)
theorem dX8_init_52 : decode cX8_init 52 = .ok (.iastore, 1) := dk_79 (dk_at dksX8_init_2 7 rfl rfl)
theorem dX8_init_53 : decode cX8_init 53 = .ok (.dup, 1) := dk_89 (dk_at dksX8_init_2 8 rfl rfl)
theorem dX8_init_54 : decode cX8_init 54 = .ok (.iconst 4, 1) := dk_7 (dk_at dksX8_init_2 9 rfl rfl)
theorem dX8_init_55 : decode cX8_init 55 = .ok (.bipush 17, 2) := dk_16 17 (dk_at dksX8_init_2 10 rfl rfl)
theorem dX8_init_57 : decode cX8_init 57 = .ok (.iastore, 1) := dk_79 (dk_at dksX8_init_2 12 rfl rfl)
theorem dX8_init_58 : decode cX8_init 58 = .ok (.dup, 1) := dk_89 (dk_at dksX8_init_2 13 rfl rfl)
theorem dX8_init_59 : decode cX8_init 59 = .ok (.iconst 5, 1) := dk_8 (dk_at dksX8_init_2 14 rfl rfl)
theorem dX8_init_60 : decode cX8_init 60 = .ok (.bipush 22, 2) := dk_16 22 (dk_at dksX8_init_2 15 rfl rfl)
theorem dX8_init_62 : decode cX8_init 62 = .ok (.iastore, 1) := dk_79 (dk_at dksX8_init_2 17 rfl rfl)
theorem dX8_init_63 : decode cX8_init 63 = .ok (.dup, 1) := dk_89 (dk_at dksX8_init_2 18 rfl rfl)
theorem dX8_init_64 : decode cX8_init 64 = .ok (.bipush 6, 2) := dk_16 6 (dk_at dksX8_init_2 19 rfl rfl)
theorem dX8_init_66 : decode cX8_init 66 = .ok (.bipush 27, 2) := dk_16 27 (dk_at dksX8_init_2 21 rfl rfl)
theorem dX8_init_68 : decode cX8_init 68 = .ok (.iastore, 1) := dk_79 (dk_at dksX8_init_2 23 rfl rfl)
theorem dX8_init_69 : decode cX8_init 69 = .ok (.dup, 1) := dk_89 (dk_at dksX8_init_3 0 rfl rfl)
theorem dX8_init_70 : decode cX8_init 70 = .ok (.bipush 7, 2) := dk_16 7 (dk_at dksX8_init_3 1 rfl rfl)
theorem dX8_init_72 : decode cX8_init 72 = .ok (.bipush 31, 2) := dk_16 31 (dk_at dksX8_init_3 3 rfl rfl)
theorem dX8_init_74 : decode cX8_init 74 = .ok (.iastore, 1) := dk_79 (dk_at dksX8_init_3 5 rfl rfl)
theorem dX8_init_75 : decode cX8_init 75 = .ok (.dup, 1) := dk_89 (dk_at dksX8_init_3 6 rfl rfl)
theorem dX8_init_76 : decode cX8_init 76 = .ok (.bipush 8, 2) := dk_16 8 (dk_at dksX8_init_3 7 rfl rfl)
theorem dX8_init_78 : decode cX8_init 78 = .ok (.bipush 35, 2) := dk_16 35 (dk_at dksX8_init_3 9 rfl rfl)
theorem dX8_init_80 : decode cX8_init 80 = .ok (.iastore, 1) := dk_79 (dk_at dksX8_init_3 11 rfl rfl)
theorem dX8_init_81 : decode cX8_init 81 = .ok (.putfield 19, 3) := dk_181 0 19 (dk_at dksX8_init_3 12 rfl rfl)
theorem dX8_init_84 : decode cX8_init 84 = .ok (.aload_n 0, 1) := dk_42 (dk_at dksX8_init_3 15 rfl rfl)
theorem dX8_init_85 : decode cX8_init 85 = .ok (.bipush 35, 2) := dk_16 35 (dk_at dksX8_init_3 16 rfl rfl)
theorem dX8_init_87 : decode cX8_init 87 = .ok (.newarray .int, 2) := dk_188_10 (dk_at dksX8_init_3 18 rfl rfl)
theorem dX8_init_89 : decode cX8_init 89 = .ok (.dup, 1) := dk_89 (dk_at dksX8_init_3 20 rfl rfl)
theorem dX8_init_90 : decode cX8_init 90 = .ok (.iconst 0, 1) := dk_3 (dk_at dksX8_init_3 21 rfl rfl)
theorem dX8_init_91 : decode cX8_init 91 = .ok (.bipush 112, 2) := dk_16 112 (dk_at dksX8_init_3 22 rfl rfl)
theorem dX8_init_93 : decode cX8_init 93 = .ok (.iastore, 1) := dk_79 (dk_at dksX8_init_4 0 rfl rfl)
theorem dX8_init_94 : decode cX8_init 94 = .ok (.dup, 1) := dk_89 (dk_at dksX8_init_4 1 rfl rfl)
theorem dX8_init_95 : decode cX8_init 95 = .ok (.iconst 1, 1) := dk_4 (dk_at dksX8_init_4 2 rfl rfl)
theorem dX8_init_96 : decode cX8_init 96 = .ok (.bipush 108, 2) := dk_16 108 (dk_at dksX8_init_4 3 rfl rfl)
theorem dX8_init_98 : decode cX8_init 98 = .ok (.iastore, 1) := dk_79 (dk_at dksX8_init_4 5 rfl rfl)
theorem dX8_init_99 : decode cX8_init 99 = .ok (.dup, 1) := dk_89 (dk_at dksX8_init_4 6 rfl rfl)
theorem dX8_init_100 : decode cX8_init 100 = .ok (.iconst 2, 1) := dk_5 (dk_at dksX8_init_4 7 rfl rfl)
theorem dX8_init_101 : decode cX8_init 101 = .ok (.bipush 97, 2) := dk_16 97 (dk_at dksX8_init_4 8 rfl rfl)
theorem dX8_init_103 : decode cX8_init 103 = .ok (.iastore, 1) := dk_79 (dk_at dksX8_init_4 10 rfl rfl)
theorem dX8_init_104 : decode cX8_init 104 = .ok (.dup, 1) := dk_89 (dk_at dksX8_init_4 11 rfl rfl)
theorem dX8_init_105 : decode cX8_init 105 = .ok (.iconst 3, 1) := dk_6 (dk_at dksX8_init_4 12 rfl rfl)
theorem dX8_init_106 : decode cX8_init 106 = .ok (.bipush 105, 2) := dk_16 105 (dk_at dksX8_init_4 13 rfl rfl)
theorem dX8_init_108 : decode cX8_init 108 = .ok (.iastore, 1) := dk_79 (dk_at dksX8_init_4 15 rfl rfl)
theorem dX8_init_109 : decode cX8_init 109 = .ok (.dup, 1) := dk_89 (dk_at dksX8_init_4 16 rfl rfl)
theorem dX8_init_110 : decode cX8_init 110 = .ok (.iconst 4, 1) := dk_7 (dk_at dksX8_init_4 17 rfl rfl)
theorem dX8_init_111 : decode cX8_init 111 = .ok (.bipush 110, 2) := dk_16 110 (dk_at dksX8_init_4 18 rfl rfl)
theorem dX8_init_113 : decode cX8_init 113 = .ok (.iastore, 1) := dk_79 (dk_at dksX8_init_4 20 rfl rfl)
theorem dX8_init_114 : decode cX8_init 114 = .ok (.dup, 1) := dk_89 (dk_at dksX8_init_4 21 rfl rfl)
theorem dX8_init_115 : decode cX8_init 115 = .ok (.iconst 5, 1) := dk_8 (dk_at dksX8_init_4 22 rfl rfl)
theorem dX8_init_116 : decode cX8_init 116 = .ok (.bipush 115, 2) := dk_16 115 (dk_at dksX8_init_5 0 rfl rfl)
theorem dX8_init_118 : decode cX8_init 118 = .ok (.iastore, 1) := dk_79 (dk_at dksX8_init_5 2 rfl rfl)
theorem dX8_init_119 : decode cX8_init 119 = .ok (.dup, 1) := dk_89 (dk_at dksX8_init_5 3 rfl rfl)
theorem dX8_init_120 : decode cX8_init 120 = .ok (.bipush 6, 2) := dk_16 6 (dk_at dksX8_init_5 4 rfl rfl)
theorem dX8_init_122 : decode cX8_init 122 = .ok (.bipush 108, 2) := dk_16 108 (dk_at dksX8_init_5 6 rfl rfl)
theorem dX8_init_124 : decode cX8_init 124 = .ok (.iastore, 1) := dk_79 (dk_at dksX8_init_5 8 rfl rfl)
theorem dX8_init_125 : decode cX8_init 125 = .ok (.dup, 1) := dk_89 (dk_at dksX8_init_5 9 rfl rfl)
theorem dX8_init_126 : decode cX8_init 126 = .ok (.bipush 7, 2) := dk_16 7 (dk_at dksX8_init_5 10 rfl rfl)
theorem dX8_init_128 : decode cX8_init 128 = .ok (.bipush 105, 2) := dk_16 105 (dk_at dksX8_init_5 12 rfl rfl)
theorem dX8_init_130 : decode cX8_init 130 = .ok (.iastore, 1) := dk_79 (dk_at dksX8_init_5 14 rfl rfl)
theorem dX8_init_131 : decode cX8_init 131 = .ok (.dup, 1) := dk_89 (dk_at dksX8_init_5 15 rfl rfl)
theorem dX8_init_132 : decode cX8_init 132 = .ok (.bipush 8, 2) := dk_16 8 (dk_at dksX8_init_5 16 rfl rfl)
theorem dX8_init_134 : decode cX8_init 134 = .ok (.bipush 112, 2) := dk_16 112 (dk_at dksX8_init_5 18 rfl rfl)
theorem dX8_init_136 : decode cX8_init 136 = .ok (.iastore, 1) := dk_79 (dk_at dksX8_init_5 20 rfl rfl)
theorem dX8_init_137 : decode cX8_init 137 = .ok (.dup, 1) := dk_89 (dk_at dksX8_init_5 21 rfl rfl)
theorem dX8_init_138 : decode cX8_init 138 = .ok (.bipush 9, 2) := dk_16 9 (dk_at dksX8_init_5 22 rfl rfl)
theorem dX8_init_140 : decode cX8_init 140 = .ok (.bipush 116, 2) := dk_16 116 (dk_at dksX8_init_6 0 rfl rfl)
theorem dX8_init_142 : decode cX8_init 142 = .ok (.iastore, 1) := dk_79 (dk_at dksX8_init_6 2 rfl rfl)
theorem dX8_init_143 : decode cX8_init 143 = .ok (.dup, 1) := dk_89 (dk_at dksX8_init_6 3 rfl rfl)
theorem dX8_init_144 : decode cX8_init 144 = .ok (.bipush 10, 2) := dk_16 10 (dk_at dksX8_init_6 4 rfl rfl)
theorem dX8_init_146 : decode cX8_init 146 = .ok (.bipush 97, 2) := dk_16 97 (dk_at dksX8_init_6 6 rfl rfl)
theorem dX8_init_148 : decode cX8_init 148 = .ok (.iastore, 1) := dk_79 (dk_at dksX8_init_6 8 rfl rfl)
theorem dX8_init_149 : decode cX8_init 149 = .ok (.dup, 1) := dk_89 (dk_at dksX8_init_6 9 rfl rfl)
theorem dX8_init_150 : decode cX8_init 150 = .ok (.bipush 11, 2) := dk_16 11 (dk_at dksX8_init_6 10 rfl rfl)
theorem dX8_init_152 : decode cX8_init 152 = .ok (.bipush 107, 2) := dk_16 107 (dk_at dksX8_init_6 12 rfl rfl)
theorem dX8_init_154 : decode cX8_init 154 = .ok (.iastore, 1) := dk_79 (dk_at dksX8_init_6 14 rfl rfl)
theorem dX8_init_155 : decode cX8_init 155 = .ok (.dup, 1) := dk_89 (dk_at dksX8_init_6 15 rfl rfl)
theorem dX8_init_156 : decode cX8_init 156 = .ok (.bipush 12, 2) := dk_16 12 (dk_at dksX8_init_6 16 rfl rfl)
theorem dX8_init_158 : decode cX8_init 158 = .ok (.bipush 101, 2) := dk_16 101 (dk_at dksX8_init_6 18 rfl rfl)
theorem dX8_init_160 : decode cX8_init 160 = .ok (.iastore, 1) := dk_79 (dk_at dksX8_init_6 20 rfl rfl)
theorem dX8_init_161 : decode cX8_init 161 = .ok (.dup, 1) := dk_89 (dk_at dksX8_init_6 21 rfl rfl)
theorem dX8_init_162 : decode cX8_init 162 = .ok (.bipush 13, 2) := dk_16 13 (dk_at dksX8_init_6 22 rfl rfl)
theorem dX8_init_164 : decode cX8_init 164 = .ok (.bipush 115, 2) := dk_16 115 (dk_at dksX8_init_7 0 rfl rfl)
theorem dX8_init_166 : decode cX8_init 166 = .ok (.iastore, 1) := dk_79 (dk_at dksX8_init_7 2 rfl rfl)
theorem dX8_init_167 : decode cX8_init 167 = .ok (.dup, 1) := dk_89 (dk_at dksX8_init_7 3 rfl rfl)
theorem dX8_init_168 : decode cX8_init 168 = .ok (.bipush 14, 2) := dk_16 14 (dk_at dksX8_init_7 4 rfl rfl)
theorem dX8_init_170 : decode cX8_init 170 = .ok (.bipush 111, 2) := dk_16 111 (dk_at dksX8_init_7 6 rfl rfl)
theorem dX8_init_172 : decode cX8_init 172 = .ok (.iastore, 1) := dk_79 (dk_at dksX8_init_7 8 rfl rfl)
theorem dX8_init_173 : decode cX8_init 173 = .ok (.dup, 1) := dk_89 (dk_at dksX8_init_7 9 rfl rfl)
theorem dX8_init_174 : decode cX8_init 174 = .ok (.bipush 15, 2) := dk_16 15 (dk_at dksX8_init_7 10 rfl rfl)
theorem dX8_init_176 : decode cX8_init 176 = .ok (.bipush 102, 2) := dk_16 102 (dk_at dksX8_init_7 12 rfl rfl)
theorem dX8_init_178 : decode cX8_init 178 = .ok (.iastore, 1) := dk_79 (dk_at dksX8_init_7 14 rfl rfl)
theorem dX8_init_179 : decode cX8_init 179 = .ok (.dup, 1) := dk_89 (dk_at dksX8_init_7 15 rfl rfl)
theorem dX8_init_180 : decode cX8_init 180 = .ok (.bipush 16, 2) := dk_16 16 (dk_at dksX8_init_7 16 rfl rfl)
theorem dX8_init_182 : decode cX8_init 182 = .ok (.bipush 116, 2) := dk_16 116 (dk_at dksX8_init_7 18 rfl rfl)
theorem dX8_init_184 : decode cX8_init 184 = .ok (.iastore, 1) := dk_79 (dk_at dksX8_init_7 20 rfl rfl)
theorem dX8_init_185 : decode cX8_init 185 = .ok (.dup, 1) := dk_89 (dk_at dksX8_init_7 21 rfl rfl)
theorem dX8_init_186 : decode cX8_init 186 = .ok (.bipush 17, 2) := dk_16 17 (dk_at dksX8_init_7 22 rfl rfl)
theorem dX8_init_188 : decode cX8_init 188 = .ok (.bipush 115, 2) := dk_16 115 (dk_at dksX8_init_8 0 rfl rfl)
theorem dX8_init_190 : decode cX8_init 190 = .ok (.iastore, 1) := dk_79 (dk_at dksX8_init_8 2 rfl rfl)
theorem dX8_init_191 : decode cX8_init 191 = .ok (.dup, 1) := dk_89 (dk_at dksX8_init_8 3 rfl rfl)
theorem dX8_init_192 : decode cX8_init 192 = .ok (.bipush 18, 2) := dk_16 18 (dk_at dksX8_init_8 4 rfl rfl)
theorem dX8_init_194 : decode cX8_init 194 = .ok (.bipush 104, 2) := dk_16 104 (dk_at dksX8_init_8 6 rfl rfl)
theorem dX8_init_196 : decode cX8_init 196 = .ok (.iastore, 1) := dk_79 (dk_at dksX8_init_8 8 rfl rfl)
theorem dX8_init_197 : decode cX8_init 197 = .ok (.dup, 1) := dk_89 (dk_at dksX8_init_8 9 rfl rfl)
theorem dX8_init_198 : decode cX8_init 198 = .ok (.bipush 19, 2) := dk_16 19 (dk_at dksX8_init_8 10 rfl rfl)
theorem dX8_init_200 : decode cX8_init 200 = .ok (.bipush 97, 2) := dk_16 97 (dk_at dksX8_init_8 12 rfl rfl)
theorem dX8_init_202 : decode cX8_init 202 = .ok (.iastore, 1) := dk_79 (dk_at dksX8_init_8 14 rfl rfl)
theorem dX8_init_203 : decode cX8_init 203 = .ok (.dup, 1) := dk_89 (dk_at dksX8_init_8 15 rfl rfl)
theorem dX8_init_204 : decode cX8_init 204 = .ok (.bipush 20, 2) := dk_16 20 (dk_at dksX8_init_8 16 rfl rfl)
theorem dX8_init_206 : decode cX8_init 206 = .ok (.bipush 102, 2) := dk_16 102 (dk_at dksX8_init_8 18 rfl rfl)
theorem dX8_init_208 : decode cX8_init 208 = .ok (.iastore, 1) := dk_79 (dk_at dksX8_init_8 20 rfl rfl)
theorem dX8_init_209 : decode cX8_init 209 = .ok (.dup, 1) := dk_89 (dk_at dksX8_init_8 21 rfl rfl)
theorem dX8_init_210 : decode cX8_init 210 = .ok (.bipush 21, 2) := dk_16 21 (dk_at dksX8_init_8 22 rfl rfl)
theorem dX8_init_212 : decode cX8_init 212 = .ok (.bipush 116, 2) := dk_16 116 (dk_at dksX8_init_9 0 rfl rfl)
theorem dX8_init_214 : decode cX8_init 214 = .ok (.iastore, 1) := dk_79 (dk_at dksX8_init_9 2 rfl rfl)
theorem dX8_init_215 : decode cX8_init 215 = .ok (.dup, 1) := dk_89 (dk_at dksX8_init_9 3 rfl rfl)
theorem dX8_init_216 : decode cX8_init 216 = .ok (.bipush 22, 2) := dk_16 22 (dk_at dksX8_init_9 4 rfl rfl)
theorem dX8_init_218 : decode cX8_init 218 = .ok (.bipush 100, 2) := dk_16 100 (dk_at dksX8_init_9 6 rfl rfl)
theorem dX8_init_220 : decode cX8_init 220 = .ok (.iastore, 1) := dk_79 (dk_at dksX8_init_9 8 rfl rfl)
theorem dX8_init_221 : decode cX8_init 221 = .ok (.dup, 1) := dk_89 (dk_at dksX8_init_9 9 rfl rfl)
theorem dX8_init_222 : decode cX8_init 222 = .ok (.bipush 23, 2) := dk_16 23 (dk_at dksX8_init_9 10 rfl rfl)
theorem dX8_init_224 : decode cX8_init 224 = .ok (.bipush 114, 2) := dk_16 114 (dk_at dksX8_init_9 12 rfl rfl)
theorem dX8_init_226 : decode cX8_init 226 = .ok (.iastore, 1) := dk_79 (dk_at dksX8_init_9 14 rfl rfl)
theorem dX8_init_227 : decode cX8_init 227 = .ok (.dup, 1) := dk_89 (dk_at dksX8_init_9 15 rfl rfl)
theorem dX8_init_228 : decode cX8_init 228 = .ok (.bipush 24, 2) := dk_16 24 (dk_at dksX8_init_9 16 rfl rfl)
theorem dX8_init_230 : decode cX8_init 230 = .ok (.bipush 105, 2) := dk_16 105 (dk_at dksX8_init_9 18 rfl rfl)
theorem dX8_init_232 : decode cX8_init 232 = .ok (.iastore, 1) := dk_79 (dk_at dksX8_init_9 20 rfl rfl)
theorem dX8_init_233 : decode cX8_init 233 = .ok (.dup, 1) := dk_89 (dk_at dksX8_init_9 21 rfl rfl)
theorem dX8_init_234 : decode cX8_init 234 = .ok (.bipush 25, 2) := dk_16 25 (dk_at dksX8_init_9 22 rfl rfl)
theorem dX8_init_236 : decode cX8_init 236 = .ok (.bipush 118, 2) := dk_16 118 (dk_at dksX8_init_10 0 rfl rfl)
theorem dX8_init_238 : decode cX8_init 238 = .ok (.iastore, 1) := dk_79 (dk_at dksX8_init_10 2 rfl rfl)
theorem dX8_init_239 : decode cX8_init 239 = .ok (.dup, 1) := dk_89 (dk_at dksX8_init_10 3 rfl rfl)
theorem dX8_init_240 : decode cX8_init 240 = .ok (.bipush 26, 2) := dk_16 26 (dk_at dksX8_init_10 4 rfl rfl)
theorem dX8_init_242 : decode cX8_init 242 = .ok (.bipush 101, 2) := dk_16 101 (dk_at dksX8_init_10 6 rfl rfl)
theorem dX8_init_244 : decode cX8_init 244 = .ok (.iastore, 1) := dk_79 (dk_at dksX8_init_10 8 rfl rfl)
theorem dX8_init_245 : decode cX8_init 245 = .ok (.dup, 1) := dk_89 (dk_at dksX8_init_10 9 rfl rfl)
theorem dX8_init_246 : decode cX8_init 246 = .ok (.bipush 27, 2) := dk_16 27 (dk_at dksX8_init_10 10 rfl rfl)
theorem dX8_init_248 : decode cX8_init 248 = .ok (.bipush 108, 2) := dk_16 108 (dk_at dksX8_init_10 12 rfl rfl)
theorem dX8_init_250 : decode cX8_init 250 = .ok (.iastore, 1) := dk_79 (dk_at dksX8_init_10 14 rfl rfl)
theorem dX8_init_251 : decode cX8_init 251 = .ok (.dup, 1) := dk_89 (dk_at dksX8_init_10 15 rfl rfl)
theorem dX8_init_252 : decode cX8_init 252 = .ok (.bipush 28, 2) := dk_16 28 (dk_at dksX8_init_10 16 rfl rfl)
theorem dX8_init_254 : decode cX8_init 254 = .ok (.bipush 111, 2) := dk_16 111 (dk_at dksX8_init_10 18 rfl rfl)
theorem dX8_init_256 : decode cX8_init 256 = .ok (.iastore, 1) := dk_79 (dk_at dksX8_init_10 20 rfl rfl)
theorem dX8_init_257 : decode cX8_init 257 = .ok (.dup, 1) := dk_89 (dk_at dksX8_init_10 21 rfl rfl)
theorem dX8_init_258 : decode cX8_init 258 = .ok (.bipush 29, 2) := dk_16 29 (dk_at dksX8_init_10 22 rfl rfl)
theorem dX8_init_260 : decode cX8_init 260 = .ok (.bipush 97, 2) := dk_16 97 (dk_at dksX8_init_11 0 rfl rfl)
theorem dX8_init_262 : decode cX8_init 262 = .ok (.iastore, 1) := dk_79 (dk_at dksX8_init_11 2 rfl rfl)
theorem dX8_init_263 : decode cX8_init 263 = .ok (.dup, 1) := dk_89 (dk_at dksX8_init_11 3 rfl rfl)
theorem dX8_init_264 : decode cX8_init 264 = .ok (.bipush 30, 2) := dk_16 30 (dk_at dksX8_init_11 4 rfl rfl)
theorem dX8_init_266 : decode cX8_init 266 = .ok (.bipush 100, 2) := dk_16 100 (dk_at dksX8_init_11 6 rfl rfl)
theorem dX8_init_268 : decode cX8_init 268 = .ok (.iastore, 1) := dk_79 (dk_at dksX8_init_11 8 rfl rfl)
theorem dX8_init_269 : decode cX8_init 269 = .ok (.dup, 1) := dk_89 (dk_at dksX8_init_11 9 rfl rfl)
theorem dX8_init_270 : decode cX8_init 270 = .ok (.bipush 31, 2) := dk_16 31 (dk_at dksX8_init_11 10 rfl rfl)
theorem dX8_init_272 : decode cX8_init 272 = .ok (.bipush 106, 2) := dk_16 106 (dk_at dksX8_init_11 12 rfl rfl)
theorem dX8_init_274 : decode cX8_init 274 = .ok (.iastore, 1) := dk_79 (dk_at dksX8_init_11 14 rfl rfl)
theorem dX8_init_275 : decode cX8_init 275 = .ok (.dup, 1) := dk_89 (dk_at dksX8_init_11 15 rfl rfl)
theorem dX8_init_276 : decode cX8_init 276 = .ok (.bipush 32, 2) := dk_16 32 (dk_at dksX8_init_11 16 rfl rfl)
theorem dX8_init_278 : decode cX8_init 278 = .ok (.bipush 111, 2) := dk_16 111 (dk_at dksX8_init_11 18 rfl rfl)
theorem dX8_init_280 : decode cX8_init 280 = .ok (.iastore, 1) := dk_79 (dk_at dksX8_init_11 20 rfl rfl)
theorem dX8_init_281 : decode cX8_init 281 = .ok (.dup, 1) := dk_89 (dk_at dksX8_init_11 21 rfl rfl)
theorem dX8_init_282 : decode cX8_init 282 = .ok (.bipush 33, 2) := dk_16 33 (dk_at dksX8_init_11 22 rfl rfl)
theorem dX8_init_284 : decode cX8_init 284 = .ok (.bipush 105, 2) := dk_16 105 (dk_at dksX8_init_12 0 rfl rfl)
theorem dX8_init_286 : decode cX8_init 286 = .ok (.iastore, 1) := dk_79 (dk_at dksX8_init_12 2 rfl rfl)
theorem dX8_init_287 : decode cX8_init 287 = .ok (.dup, 1) := dk_89 (dk_at dksX8_init_12 3 rfl rfl)
theorem dX8_init_288 : decode cX8_init 288 = .ok (.bipush 34, 2) := dk_16 34 (dk_at dksX8_init_12 4 rfl rfl)
theorem dX8_init_290 : decode cX8_init 290 = .ok (.bipush 110, 2) := dk_16 110 (dk_at dksX8_init_12 6 rfl rfl)
theorem dX8_init_292 : decode cX8_init 292 = .ok (.iastore, 1) := dk_79 (dk_at dksX8_init_12 8 rfl rfl)
theorem dX8_init_293 : decode cX8_init 293 = .ok (.putfield 22, 3) := dk_181 0 22 (dk_at dksX8_init_12 9 rfl rfl)
theorem dX8_init_296 : decode cX8_init 296 = .ok (.aload_n 0, 1) := dk_42 (dk_at dksX8_init_12 12 rfl rfl)
theorem dX8_init_297 : decode cX8_init 297 = .ok (.bipush (-4), 2) := dk_16 252 (dk_at dksX8_init_12 13 rfl rfl)
theorem dX8_init_299 : decode cX8_init 299 = .ok (.putfield 25, 3) := dk_181 0 25 (dk_at dksX8_init_12 15 rfl rfl)
theorem dX8_init_302 : decode cX8_init 302 = .ok (.aload_n 0, 1) := dk_42 (dk_at dksX8_init_12 18 rfl rfl)
theorem dX8_init_303 : decode cX8_init 303 = .ok (.bipush (-4), 2) := dk_16 252 (dk_at dksX8_init_12 19 rfl rfl)
theorem dX8_init_305 : decode cX8_init 305 = .ok (.putfield 29, 3) := dk_181 0 29 (dk_at dksX8_init_12 21 rfl rfl)
theorem dX8_init_308 : decode cX8_init 308 = .ok (.aload_n 0, 1) := dk_42 (dk_at dksX8_init_13 0 rfl rfl)
theorem dX8_init_309 : decode cX8_init 309 = .ok (.bipush 18, 2) := dk_16 18 (dk_at dksX8_init_13 1 rfl rfl)
theorem dX8_init_311 : decode cX8_init 311 = .ok (.newarray .int, 2) := dk_188_10 (dk_at dksX8_init_13 3 rfl rfl)
theorem dX8_init_313 : decode cX8_init 313 = .ok (.putfield 32, 3) := dk_181 0 32 (dk_at dksX8_init_13 5 rfl rfl)
theorem dX8_init_316 : decode cX8_init 316 = .ok (.aload_n 0, 1) := dk_42 (dk_at dksX8_init_13 8 rfl rfl)
theorem dX8_init_317 : decode cX8_init 317 = .ok (.sipush 410, 3) := dk_17 1 154 (dk_at dksX8_init_13 9 rfl rfl)
theorem dX8_init_320 : decode cX8_init 320 = .ok (.newarray .int, 2) := dk_188_10 (dk_at dksX8_init_13 12 rfl rfl)
theorem dX8_init_322 : decode cX8_init 322 = .ok (.putfield 35, 3) := dk_181 0 35 (dk_at dksX8_init_13 14 rfl rfl)
theorem dX8_init_325 : decode cX8_init 325 = .ok (.aload_n 0, 1) := dk_42 (dk_at dksX8_init_13 17 rfl rfl)
theorem dX8_init_326 : decode cX8_init 326 = .ok (.iconst 2, 1) := dk_5 (dk_at dksX8_init_13 18 rfl rfl)
theorem dX8_init_327 : decode cX8_init 327 = .ok (.newarray .boolean, 2) := dk_188_4 (dk_at dksX8_init_13 19 rfl rfl)
theorem dX8_init_329 : decode cX8_init 329 = .ok (.putfield 38, 3) := dk_181 0 38 (dk_at dksX8_init_13 21 rfl rfl)
theorem dX8_init_332 : decode cX8_init 332 = .ok (.aload_n 0, 1) := dk_42 (dk_at dksX8_init_14 0 rfl rfl)
theorem dX8_init_333 : decode cX8_init 333 = .ok (.iconst 4, 1) := dk_7 (dk_at dksX8_init_14 1 rfl rfl)
theorem dX8_init_334 : decode cX8_init 334 = .ok (.newarray .int, 2) := dk_188_10 (dk_at dksX8_init_14 2 rfl rfl)
theorem dX8_init_336 : decode cX8_init 336 = .ok (.dup, 1) := dk_89 (dk_at dksX8_init_14 4 rfl rfl)
theorem dX8_init_337 : decode cX8_init 337 = .ok (.iconst 0, 1) := dk_3 (dk_at dksX8_init_14 5 rfl rfl)
theorem dX8_init_338 : decode cX8_init 338 = .ok (.bipush (-4), 2) := dk_16 252 (dk_at dksX8_init_14 6 rfl rfl)
theorem dX8_init_340 : decode cX8_init 340 = .ok (.iastore, 1) := dk_79 (dk_at dksX8_init_14 8 rfl rfl)
theorem dX8_init_341 : decode cX8_init 341 = .ok (.dup, 1) := dk_89 (dk_at dksX8_init_14 9 rfl rfl)
theorem dX8_init_342 : decode cX8_init 342 = .ok (.iconst 1, 1) := dk_4 (dk_at dksX8_init_14 10 rfl rfl)
theorem dX8_init_343 : decode cX8_init 343 = .ok (.bipush (-4), 2) := dk_16 252 (dk_at dksX8_init_14 11 rfl rfl)
theorem dX8_init_345 : decode cX8_init 345 = .ok (.iastore, 1) := dk_79 (dk_at dksX8_init_14 13 rfl rfl)
theorem dX8_init_346 : decode cX8_init 346 = .ok (.dup, 1) := dk_89 (dk_at dksX8_init_14 14 rfl rfl)
theorem dX8_init_347 : decode cX8_init 347 = .ok (.iconst 2, 1) := dk_5 (dk_at dksX8_init_14 15 rfl rfl)
theorem dX8_init_348 : decode cX8_init 348 = .ok (.bipush (-4), 2) := dk_16 252 (dk_at dksX8_init_14 16 rfl rfl)
theorem dX8_init_350 : decode cX8_init 350 = .ok (.iastore, 1) := dk_79 (dk_at dksX8_init_14 18 rfl rfl)
theorem dX8_init_351 : decode cX8_init 351 = .ok (.dup, 1) := dk_89 (dk_at dksX8_init_14 19 rfl rfl)
theorem dX8_init_352 : decode cX8_init 352 = .ok (.iconst 3, 1) := dk_6 (dk_at dksX8_init_14 20 rfl rfl)
theorem dX8_init_353 : decode cX8_init 353 = .ok (.bipush (-4), 2) := dk_16 252 (dk_at dksX8_init_14 21 rfl rfl)
theorem dX8_init_355 : decode cX8_init 355 = .ok (.iastore, 1) := dk_79 (dk_at dksX8_init_14 23 rfl rfl)
theorem dX8_init_356 : decode cX8_init 356 = .ok (.putfield 42, 3) := dk_181 0 42 (dk_at dksX8_init_15 0 rfl rfl)
theorem dX8_init_359 : decode cX8_init 359 = .ok (.aload_n 0, 1) := dk_42 (dk_at dksX8_init_15 3 rfl rfl)
theorem dX8_init_360 : decode cX8_init 360 = .ok (.iconst 4, 1) := dk_7 (dk_at dksX8_init_15 4 rfl rfl)
theorem dX8_init_361 : decode cX8_init 361 = .ok (.newarray .int, 2) := dk_188_10 (dk_at dksX8_init_15 5 rfl rfl)
theorem dX8_init_363 : decode cX8_init 363 = .ok (.putfield 45, 3) := dk_181 0 45 (dk_at dksX8_init_15 7 rfl rfl)
theorem dX8_init_366 : decode cX8_init 366 = .ok (.aload_n 0, 1) := dk_42 (dk_at dksX8_init_15 10 rfl rfl)
theorem dX8_init_367 : decode cX8_init 367 = .ok (.sipush 160, 3) := dk_17 0 160 (dk_at dksX8_init_15 11 rfl rfl)
theorem dX8_init_370 : decode cX8_init 370 = .ok (.newarray .int, 2) := dk_188_10 (dk_at dksX8_init_15 14 rfl rfl)
theorem dX8_init_372 : decode cX8_init 372 = .ok (.putfield 48, 3) := dk_181 0 48 (dk_at dksX8_init_15 16 rfl rfl)
theorem dX8_init_375 : decode cX8_init 375 = .ok (.return_, 1) := dk_177 (dk_at dksX8_init_15 19 rfl rfl)
abbrev cX8_feed : ByteArray := prog_12_method_4_code
def yX8_feed : MethodName := ⟨RX8, "feed", "(I)I"⟩
def dkwX8_feed_2 : List UInt8 := [180, 0, 57, 172]
abbrev dktX8_feed_2 : List UInt8 := dkwX8_feed_2 ++ []
def dkwX8_feed_1 : List UInt8 := [16, 253, 172, 42, 180, 0, 16, 42, 180, 0, 57, 27, 79, 42, 89, 180, 0, 57, 4, 96, 181, 0, 57, 42]
abbrev dktX8_feed_1 : List UInt8 := dkwX8_feed_1 ++ dktX8_feed_2
def dkwX8_feed_0 : List UInt8 := [27, 133, 9, 20, 0, 51, 184, 0, 53, 154, 0, 5, 2, 172, 42, 180, 0, 57, 17, 0, 160, 160, 0, 6]
abbrev dktX8_feed_0 : List UInt8 := dkwX8_feed_0 ++ dktX8_feed_1
theorem dksX8_feed_0 : cX8_feed.data.toList.drop 0 = dktX8_feed_0 := by decide +kernel
theorem dksX8_feed_1 : cX8_feed.data.toList.drop 24 = dktX8_feed_1 := dk_seg dksX8_feed_0 24 rfl rfl
theorem dksX8_feed_2 : cX8_feed.data.toList.drop 48 = dktX8_feed_2 := dk_seg dksX8_feed_1 24 rfl rfl
theorem dX8_feed_0 : decode cX8_feed 0 = .ok (.iload_n 1, 1) := dk_27 (dk_at dksX8_feed_0 0 rfl rfl)
theorem dX8_feed_1 : decode cX8_feed 1 = .ok (.i2l, 1) := dk_133 (dk_at dksX8_feed_0 1 rfl rfl)
theorem dX8_feed_2 : decode cX8_feed 2 = .ok (.lconst 0, 1) := dk_9 (dk_at dksX8_feed_0 2 rfl rfl)
theorem dX8_feed_3 : decode cX8_feed 3 = .ok (.ldc2_w 51, 3) := dk_20 0 51 (dk_at dksX8_feed_0 3 rfl rfl)
theorem dX8_feed_6 : decode cX8_feed 6 = .ok (.invokestatic 53, 3) := dk_184 0 53 (dk_at dksX8_feed_0 6 rfl rfl)
theorem dX8_feed_9 : decode cX8_feed 9 = .ok (.ifCond .ne 5, 3) := dk_154 0 5 (dk_at dksX8_feed_0 9 rfl rfl)
theorem dX8_feed_12 : decode cX8_feed 12 = .ok (.iconst (-1), 1) := dk_2 (dk_at dksX8_feed_0 12 rfl rfl)
theorem dX8_feed_13 : decode cX8_feed 13 = .ok (.ireturn, 1) := dk_172 (dk_at dksX8_feed_0 13 rfl rfl)
theorem dX8_feed_14 : decode cX8_feed 14 = .ok (.aload_n 0, 1) := dk_42 (dk_at dksX8_feed_0 14 rfl rfl)
theorem dX8_feed_15 : decode cX8_feed 15 = .ok (.getfield 57, 3) := dk_180 0 57 (dk_at dksX8_feed_0 15 rfl rfl)
theorem dX8_feed_18 : decode cX8_feed 18 = .ok (.sipush 160, 3) := dk_17 0 160 (dk_at dksX8_feed_0 18 rfl rfl)
theorem dX8_feed_21 : decode cX8_feed 21 = .ok (.if_icmp .ne 6, 3) := dk_160 0 6 (dk_at dksX8_feed_0 21 rfl rfl)
theorem dX8_feed_24 : decode cX8_feed 24 = .ok (.bipush (-3), 2) := dk_16 253 (dk_at dksX8_feed_1 0 rfl rfl)
theorem dX8_feed_26 : decode cX8_feed 26 = .ok (.ireturn, 1) := dk_172 (dk_at dksX8_feed_1 2 rfl rfl)
theorem dX8_feed_27 : decode cX8_feed 27 = .ok (.aload_n 0, 1) := dk_42 (dk_at dksX8_feed_1 3 rfl rfl)
theorem dX8_feed_28 : decode cX8_feed 28 = .ok (.getfield 16, 3) := dk_180 0 16 (dk_at dksX8_feed_1 4 rfl rfl)
theorem dX8_feed_31 : decode cX8_feed 31 = .ok (.aload_n 0, 1) := dk_42 (dk_at dksX8_feed_1 7 rfl rfl)
theorem dX8_feed_32 : decode cX8_feed 32 = .ok (.getfield 57, 3) := dk_180 0 57 (dk_at dksX8_feed_1 8 rfl rfl)
theorem dX8_feed_35 : decode cX8_feed 35 = .ok (.iload_n 1, 1) := dk_27 (dk_at dksX8_feed_1 11 rfl rfl)
theorem dX8_feed_36 : decode cX8_feed 36 = .ok (.iastore, 1) := dk_79 (dk_at dksX8_feed_1 12 rfl rfl)
theorem dX8_feed_37 : decode cX8_feed 37 = .ok (.aload_n 0, 1) := dk_42 (dk_at dksX8_feed_1 13 rfl rfl)
theorem dX8_feed_38 : decode cX8_feed 38 = .ok (.dup, 1) := dk_89 (dk_at dksX8_feed_1 14 rfl rfl)
theorem dX8_feed_39 : decode cX8_feed 39 = .ok (.getfield 57, 3) := dk_180 0 57 (dk_at dksX8_feed_1 15 rfl rfl)
theorem dX8_feed_42 : decode cX8_feed 42 = .ok (.iconst 1, 1) := dk_4 (dk_at dksX8_feed_1 18 rfl rfl)
theorem dX8_feed_43 : decode cX8_feed 43 = .ok (.iadd, 1) := dk_96 (dk_at dksX8_feed_1 19 rfl rfl)
theorem dX8_feed_44 : decode cX8_feed 44 = .ok (.putfield 57, 3) := dk_181 0 57 (dk_at dksX8_feed_1 20 rfl rfl)
theorem dX8_feed_47 : decode cX8_feed 47 = .ok (.aload_n 0, 1) := dk_42 (dk_at dksX8_feed_1 23 rfl rfl)
theorem dX8_feed_48 : decode cX8_feed 48 = .ok (.getfield 57, 3) := dk_180 0 57 (dk_at dksX8_feed_2 0 rfl rfl)
theorem dX8_feed_51 : decode cX8_feed 51 = .ok (.ireturn, 1) := dk_172 (dk_at dksX8_feed_2 3 rfl rfl)
abbrev cX8_in : ByteArray := prog_12_method_3_code
def yX8_in : MethodName := ⟨RX8, "in", "(JJJ)Z"⟩
def dkwX8_in_0 : List UInt8 := [30, 32, 148, 155, 0, 14, 30, 22, 4, 148, 157, 0, 7, 4, 167, 0, 4, 3, 172]
abbrev dktX8_in_0 : List UInt8 := dkwX8_in_0 ++ []
theorem dksX8_in_0 : cX8_in.data.toList.drop 0 = dktX8_in_0 := by decide +kernel
theorem dX8_in_0 : decode cX8_in 0 = .ok (.lload_n 0, 1) := dk_30 (dk_at dksX8_in_0 0 rfl rfl)
theorem dX8_in_1 : decode cX8_in 1 = .ok (.lload_n 2, 1) := dk_32 (dk_at dksX8_in_0 1 rfl rfl)
theorem dX8_in_2 : decode cX8_in 2 = .ok (.lcmp, 1) := dk_148 (dk_at dksX8_in_0 2 rfl rfl)
theorem dX8_in_3 : decode cX8_in 3 = .ok (.ifCond .lt 14, 3) := dk_155 0 14 (dk_at dksX8_in_0 3 rfl rfl)
theorem dX8_in_6 : decode cX8_in 6 = .ok (.lload_n 0, 1) := dk_30 (dk_at dksX8_in_0 6 rfl rfl)
theorem dX8_in_7 : decode cX8_in 7 = .ok (.lload 4, 2) := dk_22 4 (dk_at dksX8_in_0 7 rfl rfl)
theorem dX8_in_9 : decode cX8_in 9 = .ok (.lcmp, 1) := dk_148 (dk_at dksX8_in_0 9 rfl rfl)
theorem dX8_in_10 : decode cX8_in 10 = .ok (.ifCond .gt 7, 3) := dk_157 0 7 (dk_at dksX8_in_0 10 rfl rfl)
theorem dX8_in_13 : decode cX8_in 13 = .ok (.iconst 1, 1) := dk_4 (dk_at dksX8_in_0 13 rfl rfl)
theorem dX8_in_14 : decode cX8_in 14 = .ok (.goto 4, 3) := dk_167 0 4 (dk_at dksX8_in_0 14 rfl rfl)
theorem dX8_in_17 : decode cX8_in 17 = .ok (.iconst 0, 1) := dk_3 (dk_at dksX8_in_0 17 rfl rfl)
theorem dX8_in_18 : decode cX8_in 18 = .ok (.ireturn, 1) := dk_172 (dk_at dksX8_in_0 18 rfl rfl)
abbrev cX8_end : ByteArray := prog_12_method_5_code
def yX8_end : MethodName := ⟨RX8, "end", "(I)I"⟩
def dkwX8_end_1 : List UInt8 := [181, 0, 57, 28, 172]
abbrev dktX8_end_1 : List UInt8 := dkwX8_end_1 ++ []
def dkwX8_end_0 : List UInt8 := [27, 133, 9, 42, 180, 0, 57, 133, 184, 0, 53, 154, 0, 5, 2, 172, 42, 180, 0, 57, 61, 42, 27]
abbrev dktX8_end_0 : List UInt8 := dkwX8_end_0 ++ dktX8_end_1
theorem dksX8_end_0 : cX8_end.data.toList.drop 0 = dktX8_end_0 := by decide +kernel
theorem dksX8_end_1 : cX8_end.data.toList.drop 23 = dktX8_end_1 := dk_seg dksX8_end_0 23 rfl rfl
theorem dX8_end_0 : decode cX8_end 0 = .ok (.iload_n 1, 1) := dk_27 (dk_at dksX8_end_0 0 rfl rfl)
theorem dX8_end_1 : decode cX8_end 1 = .ok (.i2l, 1) := dk_133 (dk_at dksX8_end_0 1 rfl rfl)
theorem dX8_end_2 : decode cX8_end 2 = .ok (.lconst 0, 1) := dk_9 (dk_at dksX8_end_0 2 rfl rfl)
theorem dX8_end_3 : decode cX8_end 3 = .ok (.aload_n 0, 1) := dk_42 (dk_at dksX8_end_0 3 rfl rfl)
theorem dX8_end_4 : decode cX8_end 4 = .ok (.getfield 57, 3) := dk_180 0 57 (dk_at dksX8_end_0 4 rfl rfl)
theorem dX8_end_7 : decode cX8_end 7 = .ok (.i2l, 1) := dk_133 (dk_at dksX8_end_0 7 rfl rfl)
theorem dX8_end_8 : decode cX8_end 8 = .ok (.invokestatic 53, 3) := dk_184 0 53 (dk_at dksX8_end_0 8 rfl rfl)
theorem dX8_end_11 : decode cX8_end 11 = .ok (.ifCond .ne 5, 3) := dk_154 0 5 (dk_at dksX8_end_0 11 rfl rfl)
theorem dX8_end_14 : decode cX8_end 14 = .ok (.iconst (-1), 1) := dk_2 (dk_at dksX8_end_0 14 rfl rfl)
theorem dX8_end_15 : decode cX8_end 15 = .ok (.ireturn, 1) := dk_172 (dk_at dksX8_end_0 15 rfl rfl)
theorem dX8_end_16 : decode cX8_end 16 = .ok (.aload_n 0, 1) := dk_42 (dk_at dksX8_end_0 16 rfl rfl)
theorem dX8_end_17 : decode cX8_end 17 = .ok (.getfield 57, 3) := dk_180 0 57 (dk_at dksX8_end_0 17 rfl rfl)
theorem dX8_end_20 : decode cX8_end 20 = .ok (.istore_n 2, 1) := dk_61 (dk_at dksX8_end_0 20 rfl rfl)
theorem dX8_end_21 : decode cX8_end 21 = .ok (.aload_n 0, 1) := dk_42 (dk_at dksX8_end_0 21 rfl rfl)
theorem dX8_end_22 : decode cX8_end 22 = .ok (.iload_n 1, 1) := dk_27 (dk_at dksX8_end_0 22 rfl rfl)
theorem dX8_end_23 : decode cX8_end 23 = .ok (.putfield 57, 3) := dk_181 0 57 (dk_at dksX8_end_1 0 rfl rfl)
theorem dX8_end_26 : decode cX8_end 26 = .ok (.iload_n 2, 1) := dk_28 (dk_at dksX8_end_1 3 rfl rfl)
theorem dX8_end_27 : decode cX8_end 27 = .ok (.ireturn, 1) := dk_172 (dk_at dksX8_end_1 4 rfl rfl)
abbrev cX8_text : ByteArray := prog_12_method_13_code
def yX8_text : MethodName := ⟨RX8, "text", "()I"⟩
def dkwX8_text_6 : List UInt8 := [84, 27, 172]
abbrev dktX8_text_6 : List UInt8 := dkwX8_text_6 ++ []
def dkwX8_text_5 : List UInt8 := [132, 2, 1, 167, 255, 235, 42, 3, 181, 0, 120, 42, 180, 0, 38, 3, 3, 84, 42, 180, 0, 38, 4, 3]
abbrev dktX8_text_5 : List UInt8 := dkwX8_text_5 ++ dktX8_text_6
def dkwX8_text_4 : List UInt8 := [100, 172, 3, 61, 28, 16, 39, 162, 0, 21, 42, 180, 0, 7, 28, 42, 180, 0, 13, 28, 46, 79]
abbrev dktX8_text_4 : List UInt8 := dkwX8_text_4 ++ dktX8_text_5
def dkwX8_text_3 : List UInt8 := [181, 0, 57, 42, 42, 180, 0, 60, 181, 0, 117, 42, 180, 0, 60, 158, 0, 11, 16, 246, 42, 180, 0, 66]
abbrev dktX8_text_3 : List UInt8 := dkwX8_text_3 ++ dktX8_text_4
def dkwX8_text_2 : List UInt8 := [154, 0, 20, 42, 180, 0, 69, 153, 0, 13, 42, 182, 0, 114, 132, 1, 1, 167, 255, 235, 42, 3]
abbrev dktX8_text_2 : List UInt8 := dkwX8_text_2 ++ dktX8_text_3
def dkwX8_text_1 : List UInt8 := [162, 0, 16, 42, 180, 0, 13, 28, 3, 79, 132, 2, 1, 167, 255, 240, 42, 182, 0, 94, 42, 180, 0, 60]
abbrev dktX8_text_1 : List UInt8 := dkwX8_text_1 ++ dktX8_text_2
def dkwX8_text_0 : List UInt8 := [42, 3, 181, 0, 60, 42, 3, 181, 0, 72, 42, 3, 181, 0, 107, 3, 60, 3, 61, 28, 16, 39]
abbrev dktX8_text_0 : List UInt8 := dkwX8_text_0 ++ dktX8_text_1
theorem dksX8_text_0 : cX8_text.data.toList.drop 0 = dktX8_text_0 := by decide +kernel
theorem dksX8_text_1 : cX8_text.data.toList.drop 22 = dktX8_text_1 := dk_seg dksX8_text_0 22 rfl rfl
theorem dksX8_text_2 : cX8_text.data.toList.drop 46 = dktX8_text_2 := dk_seg dksX8_text_1 24 rfl rfl
theorem dksX8_text_3 : cX8_text.data.toList.drop 68 = dktX8_text_3 := dk_seg dksX8_text_2 22 rfl rfl
theorem dksX8_text_4 : cX8_text.data.toList.drop 92 = dktX8_text_4 := dk_seg dksX8_text_3 24 rfl rfl
theorem dksX8_text_5 : cX8_text.data.toList.drop 114 = dktX8_text_5 := dk_seg dksX8_text_4 22 rfl rfl
theorem dksX8_text_6 : cX8_text.data.toList.drop 138 = dktX8_text_6 := dk_seg dksX8_text_5 24 rfl rfl
theorem dX8_text_0 : decode cX8_text 0 = .ok (.aload_n 0, 1) := dk_42 (dk_at dksX8_text_0 0 rfl rfl)
theorem dX8_text_1 : decode cX8_text 1 = .ok (.iconst 0, 1) := dk_3 (dk_at dksX8_text_0 1 rfl rfl)
theorem dX8_text_2 : decode cX8_text 2 = .ok (.putfield 60, 3) := dk_181 0 60 (dk_at dksX8_text_0 2 rfl rfl)
theorem dX8_text_5 : decode cX8_text 5 = .ok (.aload_n 0, 1) := dk_42 (dk_at dksX8_text_0 5 rfl rfl)
theorem dX8_text_6 : decode cX8_text 6 = .ok (.iconst 0, 1) := dk_3 (dk_at dksX8_text_0 6 rfl rfl)
theorem dX8_text_7 : decode cX8_text 7 = .ok (.putfield 72, 3) := dk_181 0 72 (dk_at dksX8_text_0 7 rfl rfl)
theorem dX8_text_10 : decode cX8_text 10 = .ok (.aload_n 0, 1) := dk_42 (dk_at dksX8_text_0 10 rfl rfl)
theorem dX8_text_11 : decode cX8_text 11 = .ok (.iconst 0, 1) := dk_3 (dk_at dksX8_text_0 11 rfl rfl)
theorem dX8_text_12 : decode cX8_text 12 = .ok (.putfield 107, 3) := dk_181 0 107 (dk_at dksX8_text_0 12 rfl rfl)
theorem dX8_text_15 : decode cX8_text 15 = .ok (.iconst 0, 1) := dk_3 (dk_at dksX8_text_0 15 rfl rfl)
theorem dX8_text_16 : decode cX8_text 16 = .ok (.istore_n 1, 1) := dk_60 (dk_at dksX8_text_0 16 rfl rfl)
theorem dX8_text_17 : decode cX8_text 17 = .ok (.iconst 0, 1) := dk_3 (dk_at dksX8_text_0 17 rfl rfl)
theorem dX8_text_18 : decode cX8_text 18 = .ok (.istore_n 2, 1) := dk_61 (dk_at dksX8_text_0 18 rfl rfl)
theorem dX8_text_19 : decode cX8_text 19 = .ok (.iload_n 2, 1) := dk_28 (dk_at dksX8_text_0 19 rfl rfl)
theorem dX8_text_20 : decode cX8_text 20 = .ok (.bipush 39, 2) := dk_16 39 (dk_at dksX8_text_0 20 rfl rfl)
theorem dX8_text_22 : decode cX8_text 22 = .ok (.if_icmp .ge 16, 3) := dk_162 0 16 (dk_at dksX8_text_1 0 rfl rfl)
theorem dX8_text_25 : decode cX8_text 25 = .ok (.aload_n 0, 1) := dk_42 (dk_at dksX8_text_1 3 rfl rfl)
theorem dX8_text_26 : decode cX8_text 26 = .ok (.getfield 13, 3) := dk_180 0 13 (dk_at dksX8_text_1 4 rfl rfl)
theorem dX8_text_29 : decode cX8_text 29 = .ok (.iload_n 2, 1) := dk_28 (dk_at dksX8_text_1 7 rfl rfl)
theorem dX8_text_30 : decode cX8_text 30 = .ok (.iconst 0, 1) := dk_3 (dk_at dksX8_text_1 8 rfl rfl)
theorem dX8_text_31 : decode cX8_text 31 = .ok (.iastore, 1) := dk_79 (dk_at dksX8_text_1 9 rfl rfl)
theorem dX8_text_32 : decode cX8_text 32 = .ok (.iinc 2 1, 3) := dk_132 2 1 (dk_at dksX8_text_1 10 rfl rfl)
theorem dX8_text_35 : decode cX8_text 35 = .ok (.goto (-16), 3) := dk_167 255 240 (dk_at dksX8_text_1 13 rfl rfl)
theorem dX8_text_38 : decode cX8_text 38 = .ok (.aload_n 0, 1) := dk_42 (dk_at dksX8_text_1 16 rfl rfl)
theorem dX8_text_39 : decode cX8_text 39 = .ok (.invokevirtual 94, 3) := dk_182 0 94 (dk_at dksX8_text_1 17 rfl rfl)
theorem dX8_text_42 : decode cX8_text 42 = .ok (.aload_n 0, 1) := dk_42 (dk_at dksX8_text_1 20 rfl rfl)
theorem dX8_text_43 : decode cX8_text 43 = .ok (.getfield 60, 3) := dk_180 0 60 (dk_at dksX8_text_1 21 rfl rfl)
theorem dX8_text_46 : decode cX8_text 46 = .ok (.ifCond .ne 20, 3) := dk_154 0 20 (dk_at dksX8_text_2 0 rfl rfl)
theorem dX8_text_49 : decode cX8_text 49 = .ok (.aload_n 0, 1) := dk_42 (dk_at dksX8_text_2 3 rfl rfl)
theorem dX8_text_50 : decode cX8_text 50 = .ok (.getfield 69, 3) := dk_180 0 69 (dk_at dksX8_text_2 4 rfl rfl)
theorem dX8_text_53 : decode cX8_text 53 = .ok (.ifCond .eq 13, 3) := dk_153 0 13 (dk_at dksX8_text_2 7 rfl rfl)
theorem dX8_text_56 : decode cX8_text 56 = .ok (.aload_n 0, 1) := dk_42 (dk_at dksX8_text_2 10 rfl rfl)
theorem dX8_text_57 : decode cX8_text 57 = .ok (.invokevirtual 114, 3) := dk_182 0 114 (dk_at dksX8_text_2 11 rfl rfl)
theorem dX8_text_60 : decode cX8_text 60 = .ok (.iinc 1 1, 3) := dk_132 1 1 (dk_at dksX8_text_2 14 rfl rfl)
theorem dX8_text_63 : decode cX8_text 63 = .ok (.goto (-21), 3) := dk_167 255 235 (dk_at dksX8_text_2 17 rfl rfl)
theorem dX8_text_66 : decode cX8_text 66 = .ok (.aload_n 0, 1) := dk_42 (dk_at dksX8_text_2 20 rfl rfl)
theorem dX8_text_67 : decode cX8_text 67 = .ok (.iconst 0, 1) := dk_3 (dk_at dksX8_text_2 21 rfl rfl)
theorem dX8_text_68 : decode cX8_text 68 = .ok (.putfield 57, 3) := dk_181 0 57 (dk_at dksX8_text_3 0 rfl rfl)
theorem dX8_text_71 : decode cX8_text 71 = .ok (.aload_n 0, 1) := dk_42 (dk_at dksX8_text_3 3 rfl rfl)
theorem dX8_text_72 : decode cX8_text 72 = .ok (.aload_n 0, 1) := dk_42 (dk_at dksX8_text_3 4 rfl rfl)
theorem dX8_text_73 : decode cX8_text 73 = .ok (.getfield 60, 3) := dk_180 0 60 (dk_at dksX8_text_3 5 rfl rfl)
theorem dX8_text_76 : decode cX8_text 76 = .ok (.putfield 117, 3) := dk_181 0 117 (dk_at dksX8_text_3 8 rfl rfl)
theorem dX8_text_79 : decode cX8_text 79 = .ok (.aload_n 0, 1) := dk_42 (dk_at dksX8_text_3 11 rfl rfl)
theorem dX8_text_80 : decode cX8_text 80 = .ok (.getfield 60, 3) := dk_180 0 60 (dk_at dksX8_text_3 12 rfl rfl)
theorem dX8_text_83 : decode cX8_text 83 = .ok (.ifCond .le 11, 3) := dk_158 0 11 (dk_at dksX8_text_3 15 rfl rfl)
theorem dX8_text_86 : decode cX8_text 86 = .ok (.bipush (-10), 2) := dk_16 246 (dk_at dksX8_text_3 18 rfl rfl)
theorem dX8_text_88 : decode cX8_text 88 = .ok (.aload_n 0, 1) := dk_42 (dk_at dksX8_text_3 20 rfl rfl)
theorem dX8_text_89 : decode cX8_text 89 = .ok (.getfield 66, 3) := dk_180 0 66 (dk_at dksX8_text_3 21 rfl rfl)
theorem dX8_text_92 : decode cX8_text 92 = .ok (.isub, 1) := dk_100 (dk_at dksX8_text_4 0 rfl rfl)
theorem dX8_text_93 : decode cX8_text 93 = .ok (.ireturn, 1) := dk_172 (dk_at dksX8_text_4 1 rfl rfl)
theorem dX8_text_94 : decode cX8_text 94 = .ok (.iconst 0, 1) := dk_3 (dk_at dksX8_text_4 2 rfl rfl)
theorem dX8_text_95 : decode cX8_text 95 = .ok (.istore_n 2, 1) := dk_61 (dk_at dksX8_text_4 3 rfl rfl)
theorem dX8_text_96 : decode cX8_text 96 = .ok (.iload_n 2, 1) := dk_28 (dk_at dksX8_text_4 4 rfl rfl)
theorem dX8_text_97 : decode cX8_text 97 = .ok (.bipush 39, 2) := dk_16 39 (dk_at dksX8_text_4 5 rfl rfl)
theorem dX8_text_99 : decode cX8_text 99 = .ok (.if_icmp .ge 21, 3) := dk_162 0 21 (dk_at dksX8_text_4 7 rfl rfl)
theorem dX8_text_102 : decode cX8_text 102 = .ok (.aload_n 0, 1) := dk_42 (dk_at dksX8_text_4 10 rfl rfl)
theorem dX8_text_103 : decode cX8_text 103 = .ok (.getfield 7, 3) := dk_180 0 7 (dk_at dksX8_text_4 11 rfl rfl)
theorem dX8_text_106 : decode cX8_text 106 = .ok (.iload_n 2, 1) := dk_28 (dk_at dksX8_text_4 14 rfl rfl)
theorem dX8_text_107 : decode cX8_text 107 = .ok (.aload_n 0, 1) := dk_42 (dk_at dksX8_text_4 15 rfl rfl)
theorem dX8_text_108 : decode cX8_text 108 = .ok (.getfield 13, 3) := dk_180 0 13 (dk_at dksX8_text_4 16 rfl rfl)
theorem dX8_text_111 : decode cX8_text 111 = .ok (.iload_n 2, 1) := dk_28 (dk_at dksX8_text_4 19 rfl rfl)
theorem dX8_text_112 : decode cX8_text 112 = .ok (.iaload, 1) := dk_46 (dk_at dksX8_text_4 20 rfl rfl)
theorem dX8_text_113 : decode cX8_text 113 = .ok (.iastore, 1) := dk_79 (dk_at dksX8_text_4 21 rfl rfl)
theorem dX8_text_114 : decode cX8_text 114 = .ok (.iinc 2 1, 3) := dk_132 2 1 (dk_at dksX8_text_5 0 rfl rfl)
theorem dX8_text_117 : decode cX8_text 117 = .ok (.goto (-21), 3) := dk_167 255 235 (dk_at dksX8_text_5 3 rfl rfl)
theorem dX8_text_120 : decode cX8_text 120 = .ok (.aload_n 0, 1) := dk_42 (dk_at dksX8_text_5 6 rfl rfl)
theorem dX8_text_121 : decode cX8_text 121 = .ok (.iconst 0, 1) := dk_3 (dk_at dksX8_text_5 7 rfl rfl)
theorem dX8_text_122 : decode cX8_text 122 = .ok (.putfield 120, 3) := dk_181 0 120 (dk_at dksX8_text_5 8 rfl rfl)
theorem dX8_text_125 : decode cX8_text 125 = .ok (.aload_n 0, 1) := dk_42 (dk_at dksX8_text_5 11 rfl rfl)
theorem dX8_text_126 : decode cX8_text 126 = .ok (.getfield 38, 3) := dk_180 0 38 (dk_at dksX8_text_5 12 rfl rfl)
theorem dX8_text_129 : decode cX8_text 129 = .ok (.iconst 0, 1) := dk_3 (dk_at dksX8_text_5 15 rfl rfl)
theorem dX8_text_130 : decode cX8_text 130 = .ok (.iconst 0, 1) := dk_3 (dk_at dksX8_text_5 16 rfl rfl)
theorem dX8_text_131 : decode cX8_text 131 = .ok (.bastore, 1) := dk_84 (dk_at dksX8_text_5 17 rfl rfl)
theorem dX8_text_132 : decode cX8_text 132 = .ok (.aload_n 0, 1) := dk_42 (dk_at dksX8_text_5 18 rfl rfl)
theorem dX8_text_133 : decode cX8_text 133 = .ok (.getfield 38, 3) := dk_180 0 38 (dk_at dksX8_text_5 19 rfl rfl)
theorem dX8_text_136 : decode cX8_text 136 = .ok (.iconst 1, 1) := dk_4 (dk_at dksX8_text_5 22 rfl rfl)
theorem dX8_text_137 : decode cX8_text 137 = .ok (.iconst 0, 1) := dk_3 (dk_at dksX8_text_5 23 rfl rfl)
theorem dX8_text_138 : decode cX8_text 138 = .ok (.bastore, 1) := dk_84 (dk_at dksX8_text_6 0 rfl rfl)
theorem dX8_text_139 : decode cX8_text 139 = .ok (.iload_n 1, 1) := dk_27 (dk_at dksX8_text_6 1 rfl rfl)
theorem dX8_text_140 : decode cX8_text 140 = .ok (.ireturn, 1) := dk_172 (dk_at dksX8_text_6 2 rfl rfl)
abbrev cX8_readsOn : ByteArray := prog_12_method_9_code
def yX8_readsOn : MethodName := ⟨RX8, "readsOn", "()V"⟩
def dkwX8_readsOn_11 : List UInt8 := [96, 181, 0, 72, 27, 16, 59, 159, 0, 8, 42, 4, 182, 0, 90, 177]
abbrev dktX8_readsOn_11 : List UInt8 := dkwX8_readsOn_11 ++ []
def dkwX8_readsOn_10 : List UInt8 := [100, 5, 164, 0, 37, 42, 4, 182, 0, 90, 167, 0, 29, 42, 6, 181, 0, 69, 42, 89, 180, 0, 72, 4]
abbrev dktX8_readsOn_10 : List UInt8 := dkwX8_readsOn_10 ++ dktX8_readsOn_11
def dkwX8_readsOn_9 : List UInt8 := [180, 0, 72, 4, 96, 181, 0, 72, 167, 255, 182, 42, 5, 181, 0, 69, 42, 180, 0, 72, 42, 180, 0, 63]
abbrev dktX8_readsOn_9 : List UInt8 := dkwX8_readsOn_9 ++ dktX8_readsOn_10
def dkwX8_readsOn_8 : List UInt8 := [180, 0, 72, 182, 0, 75, 96, 16, 48, 100, 167, 0, 7, 42, 180, 0, 79, 181, 0, 79, 42, 89]
abbrev dktX8_readsOn_8 : List UInt8 := dkwX8_readsOn_8 ++ dktX8_readsOn_9
def dkwX8_readsOn_7 : List UInt8 := [42, 42, 180, 0, 72, 42, 180, 0, 63, 100, 5, 162, 0, 25, 16, 10, 42, 180, 0, 79, 104, 42, 42]
abbrev dktX8_readsOn_7 : List UInt8 := dkwX8_readsOn_7 ++ dktX8_readsOn_8
def dkwX8_readsOn_6 : List UInt8 := [153, 0, 106, 42, 42, 180, 0, 72, 182, 0, 75, 133, 20, 0, 86, 20, 0, 88, 184, 0, 53, 153, 0, 59]
abbrev dktX8_readsOn_6 : List UInt8 := dkwX8_readsOn_6 ++ dktX8_readsOn_7
def dkwX8_readsOn_5 : List UInt8 := [167, 255, 225, 42, 4, 181, 0, 69, 167, 0, 146, 27, 133, 20, 0, 86, 20, 0, 88, 184, 0, 53]
abbrev dktX8_readsOn_5 : List UInt8 := dkwX8_readsOn_5 ++ dktX8_readsOn_6
def dkwX8_readsOn_4 : List UInt8 := [20, 0, 82, 20, 0, 84, 184, 0, 53, 153, 0, 16, 42, 89, 180, 0, 72, 4, 96, 181, 0, 72]
abbrev dktX8_readsOn_4 : List UInt8 := dkwX8_readsOn_4 ++ dktX8_readsOn_5
def dkwX8_readsOn_3 : List UInt8 := [133, 20, 0, 82, 20, 0, 84, 184, 0, 53, 153, 0, 45, 42, 42, 180, 0, 72, 182, 0, 75, 133]
abbrev dktX8_readsOn_3 : List UInt8 := dkwX8_readsOn_3 ++ dktX8_readsOn_4
def dkwX8_readsOn_2 : List UInt8 := [182, 0, 75, 60, 42, 3, 181, 0, 79, 27, 16, 252, 160, 0, 11, 42, 3, 181, 0, 69, 167, 0, 202, 27]
abbrev dktX8_readsOn_2 : List UInt8 := dkwX8_readsOn_2 ++ dktX8_readsOn_3
def dkwX8_readsOn_1 : List UInt8 := [180, 0, 72, 4, 96, 181, 0, 72, 167, 255, 233, 42, 42, 180, 0, 72, 181, 0, 63, 42, 42, 180, 0, 72]
abbrev dktX8_readsOn_1 : List UInt8 := dkwX8_readsOn_1 ++ dktX8_readsOn_2
def dkwX8_readsOn_0 : List UInt8 := [42, 180, 0, 60, 158, 0, 4, 177, 42, 42, 180, 0, 72, 182, 0, 75, 16, 32, 160, 0, 16, 42, 89]
abbrev dktX8_readsOn_0 : List UInt8 := dkwX8_readsOn_0 ++ dktX8_readsOn_1
theorem dksX8_readsOn_0 : cX8_readsOn.data.toList.drop 0 = dktX8_readsOn_0 := by decide +kernel
theorem dksX8_readsOn_1 : cX8_readsOn.data.toList.drop 23 = dktX8_readsOn_1 := dk_seg dksX8_readsOn_0 23 rfl rfl
theorem dksX8_readsOn_2 : cX8_readsOn.data.toList.drop 47 = dktX8_readsOn_2 := dk_seg dksX8_readsOn_1 24 rfl rfl
theorem dksX8_readsOn_3 : cX8_readsOn.data.toList.drop 71 = dktX8_readsOn_3 := dk_seg dksX8_readsOn_2 24 rfl rfl
theorem dksX8_readsOn_4 : cX8_readsOn.data.toList.drop 93 = dktX8_readsOn_4 := dk_seg dksX8_readsOn_3 22 rfl rfl
theorem dksX8_readsOn_5 : cX8_readsOn.data.toList.drop 115 = dktX8_readsOn_5 := dk_seg dksX8_readsOn_4 22 rfl rfl
theorem dksX8_readsOn_6 : cX8_readsOn.data.toList.drop 137 = dktX8_readsOn_6 := dk_seg dksX8_readsOn_5 22 rfl rfl
theorem dksX8_readsOn_7 : cX8_readsOn.data.toList.drop 161 = dktX8_readsOn_7 := dk_seg dksX8_readsOn_6 24 rfl rfl
theorem dksX8_readsOn_8 : cX8_readsOn.data.toList.drop 184 = dktX8_readsOn_8 := dk_seg dksX8_readsOn_7 23 rfl rfl
theorem dksX8_readsOn_9 : cX8_readsOn.data.toList.drop 206 = dktX8_readsOn_9 := dk_seg dksX8_readsOn_8 22 rfl rfl
theorem dksX8_readsOn_10 : cX8_readsOn.data.toList.drop 230 = dktX8_readsOn_10 := dk_seg dksX8_readsOn_9 24 rfl rfl
theorem dksX8_readsOn_11 : cX8_readsOn.data.toList.drop 254 = dktX8_readsOn_11 := dk_seg dksX8_readsOn_10 24 rfl rfl
theorem dX8_readsOn_0 : decode cX8_readsOn 0 = .ok (.aload_n 0, 1) := dk_42 (dk_at dksX8_readsOn_0 0 rfl rfl)
theorem dX8_readsOn_1 : decode cX8_readsOn 1 = .ok (.getfield 60, 3) := dk_180 0 60 (dk_at dksX8_readsOn_0 1 rfl rfl)
theorem dX8_readsOn_4 : decode cX8_readsOn 4 = .ok (.ifCond .le 4, 3) := dk_158 0 4 (dk_at dksX8_readsOn_0 4 rfl rfl)
theorem dX8_readsOn_7 : decode cX8_readsOn 7 = .ok (.return_, 1) := dk_177 (dk_at dksX8_readsOn_0 7 rfl rfl)
theorem dX8_readsOn_8 : decode cX8_readsOn 8 = .ok (.aload_n 0, 1) := dk_42 (dk_at dksX8_readsOn_0 8 rfl rfl)
theorem dX8_readsOn_9 : decode cX8_readsOn 9 = .ok (.aload_n 0, 1) := dk_42 (dk_at dksX8_readsOn_0 9 rfl rfl)
theorem dX8_readsOn_10 : decode cX8_readsOn 10 = .ok (.getfield 72, 3) := dk_180 0 72 (dk_at dksX8_readsOn_0 10 rfl rfl)
theorem dX8_readsOn_13 : decode cX8_readsOn 13 = .ok (.invokevirtual 75, 3) := dk_182 0 75 (dk_at dksX8_readsOn_0 13 rfl rfl)
theorem dX8_readsOn_16 : decode cX8_readsOn 16 = .ok (.bipush 32, 2) := dk_16 32 (dk_at dksX8_readsOn_0 16 rfl rfl)
theorem dX8_readsOn_18 : decode cX8_readsOn 18 = .ok (.if_icmp .ne 16, 3) := dk_160 0 16 (dk_at dksX8_readsOn_0 18 rfl rfl)
theorem dX8_readsOn_21 : decode cX8_readsOn 21 = .ok (.aload_n 0, 1) := dk_42 (dk_at dksX8_readsOn_0 21 rfl rfl)
theorem dX8_readsOn_22 : decode cX8_readsOn 22 = .ok (.dup, 1) := dk_89 (dk_at dksX8_readsOn_0 22 rfl rfl)
theorem dX8_readsOn_23 : decode cX8_readsOn 23 = .ok (.getfield 72, 3) := dk_180 0 72 (dk_at dksX8_readsOn_1 0 rfl rfl)
theorem dX8_readsOn_26 : decode cX8_readsOn 26 = .ok (.iconst 1, 1) := dk_4 (dk_at dksX8_readsOn_1 3 rfl rfl)
theorem dX8_readsOn_27 : decode cX8_readsOn 27 = .ok (.iadd, 1) := dk_96 (dk_at dksX8_readsOn_1 4 rfl rfl)
theorem dX8_readsOn_28 : decode cX8_readsOn 28 = .ok (.putfield 72, 3) := dk_181 0 72 (dk_at dksX8_readsOn_1 5 rfl rfl)
theorem dX8_readsOn_31 : decode cX8_readsOn 31 = .ok (.goto (-23), 3) := dk_167 255 233 (dk_at dksX8_readsOn_1 8 rfl rfl)
theorem dX8_readsOn_34 : decode cX8_readsOn 34 = .ok (.aload_n 0, 1) := dk_42 (dk_at dksX8_readsOn_1 11 rfl rfl)
theorem dX8_readsOn_35 : decode cX8_readsOn 35 = .ok (.aload_n 0, 1) := dk_42 (dk_at dksX8_readsOn_1 12 rfl rfl)
theorem dX8_readsOn_36 : decode cX8_readsOn 36 = .ok (.getfield 72, 3) := dk_180 0 72 (dk_at dksX8_readsOn_1 13 rfl rfl)
theorem dX8_readsOn_39 : decode cX8_readsOn 39 = .ok (.putfield 63, 3) := dk_181 0 63 (dk_at dksX8_readsOn_1 16 rfl rfl)
theorem dX8_readsOn_42 : decode cX8_readsOn 42 = .ok (.aload_n 0, 1) := dk_42 (dk_at dksX8_readsOn_1 19 rfl rfl)
theorem dX8_readsOn_43 : decode cX8_readsOn 43 = .ok (.aload_n 0, 1) := dk_42 (dk_at dksX8_readsOn_1 20 rfl rfl)
theorem dX8_readsOn_44 : decode cX8_readsOn 44 = .ok (.getfield 72, 3) := dk_180 0 72 (dk_at dksX8_readsOn_1 21 rfl rfl)
theorem dX8_readsOn_47 : decode cX8_readsOn 47 = .ok (.invokevirtual 75, 3) := dk_182 0 75 (dk_at dksX8_readsOn_2 0 rfl rfl)
theorem dX8_readsOn_50 : decode cX8_readsOn 50 = .ok (.istore_n 1, 1) := dk_60 (dk_at dksX8_readsOn_2 3 rfl rfl)
theorem dX8_readsOn_51 : decode cX8_readsOn 51 = .ok (.aload_n 0, 1) := dk_42 (dk_at dksX8_readsOn_2 4 rfl rfl)
theorem dX8_readsOn_52 : decode cX8_readsOn 52 = .ok (.iconst 0, 1) := dk_3 (dk_at dksX8_readsOn_2 5 rfl rfl)
theorem dX8_readsOn_53 : decode cX8_readsOn 53 = .ok (.putfield 79, 3) := dk_181 0 79 (dk_at dksX8_readsOn_2 6 rfl rfl)
theorem dX8_readsOn_56 : decode cX8_readsOn 56 = .ok (.iload_n 1, 1) := dk_27 (dk_at dksX8_readsOn_2 9 rfl rfl)
theorem dX8_readsOn_57 : decode cX8_readsOn 57 = .ok (.bipush (-4), 2) := dk_16 252 (dk_at dksX8_readsOn_2 10 rfl rfl)
theorem dX8_readsOn_59 : decode cX8_readsOn 59 = .ok (.if_icmp .ne 11, 3) := dk_160 0 11 (dk_at dksX8_readsOn_2 12 rfl rfl)
theorem dX8_readsOn_62 : decode cX8_readsOn 62 = .ok (.aload_n 0, 1) := dk_42 (dk_at dksX8_readsOn_2 15 rfl rfl)
theorem dX8_readsOn_63 : decode cX8_readsOn 63 = .ok (.iconst 0, 1) := dk_3 (dk_at dksX8_readsOn_2 16 rfl rfl)
theorem dX8_readsOn_64 : decode cX8_readsOn 64 = .ok (.putfield 69, 3) := dk_181 0 69 (dk_at dksX8_readsOn_2 17 rfl rfl)
theorem dX8_readsOn_67 : decode cX8_readsOn 67 = .ok (.goto 202, 3) := dk_167 0 202 (dk_at dksX8_readsOn_2 20 rfl rfl)
theorem dX8_readsOn_70 : decode cX8_readsOn 70 = .ok (.iload_n 1, 1) := dk_27 (dk_at dksX8_readsOn_2 23 rfl rfl)
theorem dX8_readsOn_71 : decode cX8_readsOn 71 = .ok (.i2l, 1) := dk_133 (dk_at dksX8_readsOn_3 0 rfl rfl)
theorem dX8_readsOn_72 : decode cX8_readsOn 72 = .ok (.ldc2_w 82, 3) := dk_20 0 82 (dk_at dksX8_readsOn_3 1 rfl rfl)
theorem dX8_readsOn_75 : decode cX8_readsOn 75 = .ok (.ldc2_w 84, 3) := dk_20 0 84 (dk_at dksX8_readsOn_3 4 rfl rfl)
theorem dX8_readsOn_78 : decode cX8_readsOn 78 = .ok (.invokestatic 53, 3) := dk_184 0 53 (dk_at dksX8_readsOn_3 7 rfl rfl)
theorem dX8_readsOn_81 : decode cX8_readsOn 81 = .ok (.ifCond .eq 45, 3) := dk_153 0 45 (dk_at dksX8_readsOn_3 10 rfl rfl)
theorem dX8_readsOn_84 : decode cX8_readsOn 84 = .ok (.aload_n 0, 1) := dk_42 (dk_at dksX8_readsOn_3 13 rfl rfl)
theorem dX8_readsOn_85 : decode cX8_readsOn 85 = .ok (.aload_n 0, 1) := dk_42 (dk_at dksX8_readsOn_3 14 rfl rfl)
theorem dX8_readsOn_86 : decode cX8_readsOn 86 = .ok (.getfield 72, 3) := dk_180 0 72 (dk_at dksX8_readsOn_3 15 rfl rfl)
theorem dX8_readsOn_89 : decode cX8_readsOn 89 = .ok (.invokevirtual 75, 3) := dk_182 0 75 (dk_at dksX8_readsOn_3 18 rfl rfl)
theorem dX8_readsOn_92 : decode cX8_readsOn 92 = .ok (.i2l, 1) := dk_133 (dk_at dksX8_readsOn_3 21 rfl rfl)
theorem dX8_readsOn_93 : decode cX8_readsOn 93 = .ok (.ldc2_w 82, 3) := dk_20 0 82 (dk_at dksX8_readsOn_4 0 rfl rfl)
theorem dX8_readsOn_96 : decode cX8_readsOn 96 = .ok (.ldc2_w 84, 3) := dk_20 0 84 (dk_at dksX8_readsOn_4 3 rfl rfl)
theorem dX8_readsOn_99 : decode cX8_readsOn 99 = .ok (.invokestatic 53, 3) := dk_184 0 53 (dk_at dksX8_readsOn_4 6 rfl rfl)
theorem dX8_readsOn_102 : decode cX8_readsOn 102 = .ok (.ifCond .eq 16, 3) := dk_153 0 16 (dk_at dksX8_readsOn_4 9 rfl rfl)
theorem dX8_readsOn_105 : decode cX8_readsOn 105 = .ok (.aload_n 0, 1) := dk_42 (dk_at dksX8_readsOn_4 12 rfl rfl)
theorem dX8_readsOn_106 : decode cX8_readsOn 106 = .ok (.dup, 1) := dk_89 (dk_at dksX8_readsOn_4 13 rfl rfl)
theorem dX8_readsOn_107 : decode cX8_readsOn 107 = .ok (.getfield 72, 3) := dk_180 0 72 (dk_at dksX8_readsOn_4 14 rfl rfl)
theorem dX8_readsOn_110 : decode cX8_readsOn 110 = .ok (.iconst 1, 1) := dk_4 (dk_at dksX8_readsOn_4 17 rfl rfl)
theorem dX8_readsOn_111 : decode cX8_readsOn 111 = .ok (.iadd, 1) := dk_96 (dk_at dksX8_readsOn_4 18 rfl rfl)
theorem dX8_readsOn_112 : decode cX8_readsOn 112 = .ok (.putfield 72, 3) := dk_181 0 72 (dk_at dksX8_readsOn_4 19 rfl rfl)
theorem dX8_readsOn_115 : decode cX8_readsOn 115 = .ok (.goto (-31), 3) := dk_167 255 225 (dk_at dksX8_readsOn_5 0 rfl rfl)
theorem dX8_readsOn_118 : decode cX8_readsOn 118 = .ok (.aload_n 0, 1) := dk_42 (dk_at dksX8_readsOn_5 3 rfl rfl)
theorem dX8_readsOn_119 : decode cX8_readsOn 119 = .ok (.iconst 1, 1) := dk_4 (dk_at dksX8_readsOn_5 4 rfl rfl)
theorem dX8_readsOn_120 : decode cX8_readsOn 120 = .ok (.putfield 69, 3) := dk_181 0 69 (dk_at dksX8_readsOn_5 5 rfl rfl)
theorem dX8_readsOn_123 : decode cX8_readsOn 123 = .ok (.goto 146, 3) := dk_167 0 146 (dk_at dksX8_readsOn_5 8 rfl rfl)
theorem dX8_readsOn_126 : decode cX8_readsOn 126 = .ok (.iload_n 1, 1) := dk_27 (dk_at dksX8_readsOn_5 11 rfl rfl)
theorem dX8_readsOn_127 : decode cX8_readsOn 127 = .ok (.i2l, 1) := dk_133 (dk_at dksX8_readsOn_5 12 rfl rfl)
theorem dX8_readsOn_128 : decode cX8_readsOn 128 = .ok (.ldc2_w 86, 3) := dk_20 0 86 (dk_at dksX8_readsOn_5 13 rfl rfl)
theorem dX8_readsOn_131 : decode cX8_readsOn 131 = .ok (.ldc2_w 88, 3) := dk_20 0 88 (dk_at dksX8_readsOn_5 16 rfl rfl)
theorem dX8_readsOn_134 : decode cX8_readsOn 134 = .ok (.invokestatic 53, 3) := dk_184 0 53 (dk_at dksX8_readsOn_5 19 rfl rfl)
theorem dX8_readsOn_137 : decode cX8_readsOn 137 = .ok (.ifCond .eq 106, 3) := dk_153 0 106 (dk_at dksX8_readsOn_6 0 rfl rfl)
theorem dX8_readsOn_140 : decode cX8_readsOn 140 = .ok (.aload_n 0, 1) := dk_42 (dk_at dksX8_readsOn_6 3 rfl rfl)
theorem dX8_readsOn_141 : decode cX8_readsOn 141 = .ok (.aload_n 0, 1) := dk_42 (dk_at dksX8_readsOn_6 4 rfl rfl)
theorem dX8_readsOn_142 : decode cX8_readsOn 142 = .ok (.getfield 72, 3) := dk_180 0 72 (dk_at dksX8_readsOn_6 5 rfl rfl)
theorem dX8_readsOn_145 : decode cX8_readsOn 145 = .ok (.invokevirtual 75, 3) := dk_182 0 75 (dk_at dksX8_readsOn_6 8 rfl rfl)
theorem dX8_readsOn_148 : decode cX8_readsOn 148 = .ok (.i2l, 1) := dk_133 (dk_at dksX8_readsOn_6 11 rfl rfl)
theorem dX8_readsOn_149 : decode cX8_readsOn 149 = .ok (.ldc2_w 86, 3) := dk_20 0 86 (dk_at dksX8_readsOn_6 12 rfl rfl)
theorem dX8_readsOn_152 : decode cX8_readsOn 152 = .ok (.ldc2_w 88, 3) := dk_20 0 88 (dk_at dksX8_readsOn_6 15 rfl rfl)
theorem dX8_readsOn_155 : decode cX8_readsOn 155 = .ok (.invokestatic 53, 3) := dk_184 0 53 (dk_at dksX8_readsOn_6 18 rfl rfl)
theorem dX8_readsOn_158 : decode cX8_readsOn 158 = .ok (.ifCond .eq 59, 3) := dk_153 0 59 (dk_at dksX8_readsOn_6 21 rfl rfl)
theorem dX8_readsOn_161 : decode cX8_readsOn 161 = .ok (.aload_n 0, 1) := dk_42 (dk_at dksX8_readsOn_7 0 rfl rfl)
theorem dX8_readsOn_162 : decode cX8_readsOn 162 = .ok (.aload_n 0, 1) := dk_42 (dk_at dksX8_readsOn_7 1 rfl rfl)
theorem dX8_readsOn_163 : decode cX8_readsOn 163 = .ok (.getfield 72, 3) := dk_180 0 72 (dk_at dksX8_readsOn_7 2 rfl rfl)
theorem dX8_readsOn_166 : decode cX8_readsOn 166 = .ok (.aload_n 0, 1) := dk_42 (dk_at dksX8_readsOn_7 5 rfl rfl)
theorem dX8_readsOn_167 : decode cX8_readsOn 167 = .ok (.getfield 63, 3) := dk_180 0 63 (dk_at dksX8_readsOn_7 6 rfl rfl)
theorem dX8_readsOn_170 : decode cX8_readsOn 170 = .ok (.isub, 1) := dk_100 (dk_at dksX8_readsOn_7 9 rfl rfl)
theorem dX8_readsOn_171 : decode cX8_readsOn 171 = .ok (.iconst 2, 1) := dk_5 (dk_at dksX8_readsOn_7 10 rfl rfl)
theorem dX8_readsOn_172 : decode cX8_readsOn 172 = .ok (.if_icmp .ge 25, 3) := dk_162 0 25 (dk_at dksX8_readsOn_7 11 rfl rfl)
theorem dX8_readsOn_175 : decode cX8_readsOn 175 = .ok (.bipush 10, 2) := dk_16 10 (dk_at dksX8_readsOn_7 14 rfl rfl)
theorem dX8_readsOn_177 : decode cX8_readsOn 177 = .ok (.aload_n 0, 1) := dk_42 (dk_at dksX8_readsOn_7 16 rfl rfl)
theorem dX8_readsOn_178 : decode cX8_readsOn 178 = .ok (.getfield 79, 3) := dk_180 0 79 (dk_at dksX8_readsOn_7 17 rfl rfl)
theorem dX8_readsOn_181 : decode cX8_readsOn 181 = .ok (.imul, 1) := dk_104 (dk_at dksX8_readsOn_7 20 rfl rfl)
theorem dX8_readsOn_182 : decode cX8_readsOn 182 = .ok (.aload_n 0, 1) := dk_42 (dk_at dksX8_readsOn_7 21 rfl rfl)
theorem dX8_readsOn_183 : decode cX8_readsOn 183 = .ok (.aload_n 0, 1) := dk_42 (dk_at dksX8_readsOn_7 22 rfl rfl)
theorem dX8_readsOn_184 : decode cX8_readsOn 184 = .ok (.getfield 72, 3) := dk_180 0 72 (dk_at dksX8_readsOn_8 0 rfl rfl)
theorem dX8_readsOn_187 : decode cX8_readsOn 187 = .ok (.invokevirtual 75, 3) := dk_182 0 75 (dk_at dksX8_readsOn_8 3 rfl rfl)
theorem dX8_readsOn_190 : decode cX8_readsOn 190 = .ok (.iadd, 1) := dk_96 (dk_at dksX8_readsOn_8 6 rfl rfl)
theorem dX8_readsOn_191 : decode cX8_readsOn 191 = .ok (.bipush 48, 2) := dk_16 48 (dk_at dksX8_readsOn_8 7 rfl rfl)
theorem dX8_readsOn_193 : decode cX8_readsOn 193 = .ok (.isub, 1) := dk_100 (dk_at dksX8_readsOn_8 9 rfl rfl)
theorem dX8_readsOn_194 : decode cX8_readsOn 194 = .ok (.goto 7, 3) := dk_167 0 7 (dk_at dksX8_readsOn_8 10 rfl rfl)
theorem dX8_readsOn_197 : decode cX8_readsOn 197 = .ok (.aload_n 0, 1) := dk_42 (dk_at dksX8_readsOn_8 13 rfl rfl)
theorem dX8_readsOn_198 : decode cX8_readsOn 198 = .ok (.getfield 79, 3) := dk_180 0 79 (dk_at dksX8_readsOn_8 14 rfl rfl)
theorem dX8_readsOn_201 : decode cX8_readsOn 201 = .ok (.putfield 79, 3) := dk_181 0 79 (dk_at dksX8_readsOn_8 17 rfl rfl)
theorem dX8_readsOn_204 : decode cX8_readsOn 204 = .ok (.aload_n 0, 1) := dk_42 (dk_at dksX8_readsOn_8 20 rfl rfl)
theorem dX8_readsOn_205 : decode cX8_readsOn 205 = .ok (.dup, 1) := dk_89 (dk_at dksX8_readsOn_8 21 rfl rfl)
theorem dX8_readsOn_206 : decode cX8_readsOn 206 = .ok (.getfield 72, 3) := dk_180 0 72 (dk_at dksX8_readsOn_9 0 rfl rfl)
theorem dX8_readsOn_209 : decode cX8_readsOn 209 = .ok (.iconst 1, 1) := dk_4 (dk_at dksX8_readsOn_9 3 rfl rfl)
theorem dX8_readsOn_210 : decode cX8_readsOn 210 = .ok (.iadd, 1) := dk_96 (dk_at dksX8_readsOn_9 4 rfl rfl)
theorem dX8_readsOn_211 : decode cX8_readsOn 211 = .ok (.putfield 72, 3) := dk_181 0 72 (dk_at dksX8_readsOn_9 5 rfl rfl)
theorem dX8_readsOn_214 : decode cX8_readsOn 214 = .ok (.goto (-74), 3) := dk_167 255 182 (dk_at dksX8_readsOn_9 8 rfl rfl)
theorem dX8_readsOn_217 : decode cX8_readsOn 217 = .ok (.aload_n 0, 1) := dk_42 (dk_at dksX8_readsOn_9 11 rfl rfl)
theorem dX8_readsOn_218 : decode cX8_readsOn 218 = .ok (.iconst 2, 1) := dk_5 (dk_at dksX8_readsOn_9 12 rfl rfl)
theorem dX8_readsOn_219 : decode cX8_readsOn 219 = .ok (.putfield 69, 3) := dk_181 0 69 (dk_at dksX8_readsOn_9 13 rfl rfl)
theorem dX8_readsOn_222 : decode cX8_readsOn 222 = .ok (.aload_n 0, 1) := dk_42 (dk_at dksX8_readsOn_9 16 rfl rfl)
theorem dX8_readsOn_223 : decode cX8_readsOn 223 = .ok (.getfield 72, 3) := dk_180 0 72 (dk_at dksX8_readsOn_9 17 rfl rfl)
theorem dX8_readsOn_226 : decode cX8_readsOn 226 = .ok (.aload_n 0, 1) := dk_42 (dk_at dksX8_readsOn_9 20 rfl rfl)
theorem dX8_readsOn_227 : decode cX8_readsOn 227 = .ok (.getfield 63, 3) := dk_180 0 63 (dk_at dksX8_readsOn_9 21 rfl rfl)
theorem dX8_readsOn_230 : decode cX8_readsOn 230 = .ok (.isub, 1) := dk_100 (dk_at dksX8_readsOn_10 0 rfl rfl)
theorem dX8_readsOn_231 : decode cX8_readsOn 231 = .ok (.iconst 2, 1) := dk_5 (dk_at dksX8_readsOn_10 1 rfl rfl)
theorem dX8_readsOn_232 : decode cX8_readsOn 232 = .ok (.if_icmp .le 37, 3) := dk_164 0 37 (dk_at dksX8_readsOn_10 2 rfl rfl)
theorem dX8_readsOn_235 : decode cX8_readsOn 235 = .ok (.aload_n 0, 1) := dk_42 (dk_at dksX8_readsOn_10 5 rfl rfl)
theorem dX8_readsOn_236 : decode cX8_readsOn 236 = .ok (.iconst 1, 1) := dk_4 (dk_at dksX8_readsOn_10 6 rfl rfl)
theorem dX8_readsOn_237 : decode cX8_readsOn 237 = .ok (.invokevirtual 90, 3) := dk_182 0 90 (dk_at dksX8_readsOn_10 7 rfl rfl)
theorem dX8_readsOn_240 : decode cX8_readsOn 240 = .ok (.goto 29, 3) := dk_167 0 29 (dk_at dksX8_readsOn_10 10 rfl rfl)
theorem dX8_readsOn_243 : decode cX8_readsOn 243 = .ok (.aload_n 0, 1) := dk_42 (dk_at dksX8_readsOn_10 13 rfl rfl)
theorem dX8_readsOn_244 : decode cX8_readsOn 244 = .ok (.iconst 3, 1) := dk_6 (dk_at dksX8_readsOn_10 14 rfl rfl)
theorem dX8_readsOn_245 : decode cX8_readsOn 245 = .ok (.putfield 69, 3) := dk_181 0 69 (dk_at dksX8_readsOn_10 15 rfl rfl)
theorem dX8_readsOn_248 : decode cX8_readsOn 248 = .ok (.aload_n 0, 1) := dk_42 (dk_at dksX8_readsOn_10 18 rfl rfl)
theorem dX8_readsOn_249 : decode cX8_readsOn 249 = .ok (.dup, 1) := dk_89 (dk_at dksX8_readsOn_10 19 rfl rfl)
theorem dX8_readsOn_250 : decode cX8_readsOn 250 = .ok (.getfield 72, 3) := dk_180 0 72 (dk_at dksX8_readsOn_10 20 rfl rfl)
theorem dX8_readsOn_253 : decode cX8_readsOn 253 = .ok (.iconst 1, 1) := dk_4 (dk_at dksX8_readsOn_10 23 rfl rfl)
theorem dX8_readsOn_254 : decode cX8_readsOn 254 = .ok (.iadd, 1) := dk_96 (dk_at dksX8_readsOn_11 0 rfl rfl)
theorem dX8_readsOn_255 : decode cX8_readsOn 255 = .ok (.putfield 72, 3) := dk_181 0 72 (dk_at dksX8_readsOn_11 1 rfl rfl)
theorem dX8_readsOn_258 : decode cX8_readsOn 258 = .ok (.iload_n 1, 1) := dk_27 (dk_at dksX8_readsOn_11 4 rfl rfl)
theorem dX8_readsOn_259 : decode cX8_readsOn 259 = .ok (.bipush 59, 2) := dk_16 59 (dk_at dksX8_readsOn_11 5 rfl rfl)
theorem dX8_readsOn_261 : decode cX8_readsOn 261 = .ok (.if_icmp .eq 8, 3) := dk_159 0 8 (dk_at dksX8_readsOn_11 7 rfl rfl)
theorem dX8_readsOn_264 : decode cX8_readsOn 264 = .ok (.aload_n 0, 1) := dk_42 (dk_at dksX8_readsOn_11 10 rfl rfl)
theorem dX8_readsOn_265 : decode cX8_readsOn 265 = .ok (.iconst 1, 1) := dk_4 (dk_at dksX8_readsOn_11 11 rfl rfl)
theorem dX8_readsOn_266 : decode cX8_readsOn 266 = .ok (.invokevirtual 90, 3) := dk_182 0 90 (dk_at dksX8_readsOn_11 12 rfl rfl)
theorem dX8_readsOn_269 : decode cX8_readsOn 269 = .ok (.return_, 1) := dk_177 (dk_at dksX8_readsOn_11 15 rfl rfl)
abbrev cX8_byteAt : ByteArray := prog_12_method_6_code
def yX8_byteAt : MethodName := ⟨RX8, "byteAt", "(I)I"⟩
def dkwX8_byteAt_0 : List UInt8 := [27, 42, 180, 0, 57, 162, 0, 12, 42, 180, 0, 16, 27, 46, 167, 0, 5, 16, 252, 172]
abbrev dktX8_byteAt_0 : List UInt8 := dkwX8_byteAt_0 ++ []
theorem dksX8_byteAt_0 : cX8_byteAt.data.toList.drop 0 = dktX8_byteAt_0 := by decide +kernel
theorem dX8_byteAt_0 : decode cX8_byteAt 0 = .ok (.iload_n 1, 1) := dk_27 (dk_at dksX8_byteAt_0 0 rfl rfl)
theorem dX8_byteAt_1 : decode cX8_byteAt 1 = .ok (.aload_n 0, 1) := dk_42 (dk_at dksX8_byteAt_0 1 rfl rfl)
theorem dX8_byteAt_2 : decode cX8_byteAt 2 = .ok (.getfield 57, 3) := dk_180 0 57 (dk_at dksX8_byteAt_0 2 rfl rfl)
theorem dX8_byteAt_5 : decode cX8_byteAt 5 = .ok (.if_icmp .ge 12, 3) := dk_162 0 12 (dk_at dksX8_byteAt_0 5 rfl rfl)
theorem dX8_byteAt_8 : decode cX8_byteAt 8 = .ok (.aload_n 0, 1) := dk_42 (dk_at dksX8_byteAt_0 8 rfl rfl)
theorem dX8_byteAt_9 : decode cX8_byteAt 9 = .ok (.getfield 16, 3) := dk_180 0 16 (dk_at dksX8_byteAt_0 9 rfl rfl)
theorem dX8_byteAt_12 : decode cX8_byteAt 12 = .ok (.iload_n 1, 1) := dk_27 (dk_at dksX8_byteAt_0 12 rfl rfl)
theorem dX8_byteAt_13 : decode cX8_byteAt 13 = .ok (.iaload, 1) := dk_46 (dk_at dksX8_byteAt_0 13 rfl rfl)
theorem dX8_byteAt_14 : decode cX8_byteAt 14 = .ok (.goto 5, 3) := dk_167 0 5 (dk_at dksX8_byteAt_0 14 rfl rfl)
theorem dX8_byteAt_17 : decode cX8_byteAt 17 = .ok (.bipush (-4), 2) := dk_16 252 (dk_at dksX8_byteAt_0 17 rfl rfl)
theorem dX8_byteAt_19 : decode cX8_byteAt 19 = .ok (.ireturn, 1) := dk_172 (dk_at dksX8_byteAt_0 19 rfl rfl)
abbrev cX8_fails : ByteArray := prog_12_method_7_code
def yX8_fails : MethodName := ⟨RX8, "fails", "(I)V"⟩
def dkwX8_fails_0 : List UInt8 := [42, 180, 0, 60, 154, 0, 16, 42, 27, 181, 0, 60, 42, 42, 180, 0, 63, 181, 0, 66, 177]
abbrev dktX8_fails_0 : List UInt8 := dkwX8_fails_0 ++ []
theorem dksX8_fails_0 : cX8_fails.data.toList.drop 0 = dktX8_fails_0 := by decide +kernel
theorem dX8_fails_0 : decode cX8_fails 0 = .ok (.aload_n 0, 1) := dk_42 (dk_at dksX8_fails_0 0 rfl rfl)
theorem dX8_fails_1 : decode cX8_fails 1 = .ok (.getfield 60, 3) := dk_180 0 60 (dk_at dksX8_fails_0 1 rfl rfl)
theorem dX8_fails_4 : decode cX8_fails 4 = .ok (.ifCond .ne 16, 3) := dk_154 0 16 (dk_at dksX8_fails_0 4 rfl rfl)
theorem dX8_fails_7 : decode cX8_fails 7 = .ok (.aload_n 0, 1) := dk_42 (dk_at dksX8_fails_0 7 rfl rfl)
theorem dX8_fails_8 : decode cX8_fails 8 = .ok (.iload_n 1, 1) := dk_27 (dk_at dksX8_fails_0 8 rfl rfl)
theorem dX8_fails_9 : decode cX8_fails 9 = .ok (.putfield 60, 3) := dk_181 0 60 (dk_at dksX8_fails_0 9 rfl rfl)
theorem dX8_fails_12 : decode cX8_fails 12 = .ok (.aload_n 0, 1) := dk_42 (dk_at dksX8_fails_0 12 rfl rfl)
theorem dX8_fails_13 : decode cX8_fails 13 = .ok (.aload_n 0, 1) := dk_42 (dk_at dksX8_fails_0 13 rfl rfl)
theorem dX8_fails_14 : decode cX8_fails 14 = .ok (.getfield 63, 3) := dk_180 0 63 (dk_at dksX8_fails_0 14 rfl rfl)
theorem dX8_fails_17 : decode cX8_fails 17 = .ok (.putfield 66, 3) := dk_181 0 66 (dk_at dksX8_fails_0 17 rfl rfl)
theorem dX8_fails_20 : decode cX8_fails 20 = .ok (.return_, 1) := dk_177 (dk_at dksX8_fails_0 20 rfl rfl)
abbrev cX8_readLine : ByteArray := prog_12_method_12_code
def yX8_readLine : MethodName := ⟨RX8, "readLine", "()V"⟩
def dkwX8_readLine_6 : List UInt8 := [177]
abbrev dktX8_readLine_6 : List UInt8 := dkwX8_readLine_6 ++ []
def dkwX8_readLine_5 : List UInt8 := [42, 180, 0, 60, 154, 0, 16, 42, 180, 0, 69, 6, 159, 0, 8, 42, 5, 182, 0, 90, 42, 182, 0, 94]
abbrev dktX8_readLine_5 : List UInt8 := dkwX8_readLine_5 ++ dktX8_readLine_6
def dkwX8_readLine_4 : List UInt8 := [167, 0, 4, 3, 181, 0, 107, 42, 182, 0, 94, 42, 180, 0, 60, 158, 0, 4, 177, 42, 27, 182, 0, 111]
abbrev dktX8_readLine_4 : List UInt8 := dkwX8_readLine_4 ++ dktX8_readLine_5
def dkwX8_readLine_3 : List UInt8 := [153, 0, 8, 42, 7, 182, 0, 90, 42, 42, 180, 0, 107, 154, 0, 8, 27, 7, 160, 0, 7, 4]
abbrev dktX8_readLine_3 : List UInt8 := dkwX8_readLine_3 ++ dktX8_readLine_4
def dkwX8_readLine_2 : List UInt8 := [16, 33, 46, 16, 16, 160, 0, 8, 42, 8, 182, 0, 90, 27, 7, 160, 0, 15, 42, 180, 0, 107]
abbrev dktX8_readLine_2 : List UInt8 := dkwX8_readLine_2 ++ dktX8_readLine_3
def dkwX8_readLine_1 : List UInt8 := [6, 163, 0, 14, 42, 180, 0, 13, 16, 16, 46, 7, 159, 0, 20, 27, 8, 161, 0, 20, 42, 180, 0, 13]
abbrev dktX8_readLine_1 : List UInt8 := dkwX8_readLine_1 ++ dktX8_readLine_2
def dkwX8_readLine_0 : List UInt8 := [42, 182, 0, 101, 60, 27, 133, 9, 20, 0, 105, 184, 0, 53, 154, 0, 9, 42, 5, 182, 0, 90, 177, 27]
abbrev dktX8_readLine_0 : List UInt8 := dkwX8_readLine_0 ++ dktX8_readLine_1
theorem dksX8_readLine_0 : cX8_readLine.data.toList.drop 0 = dktX8_readLine_0 := by decide +kernel
theorem dksX8_readLine_1 : cX8_readLine.data.toList.drop 24 = dktX8_readLine_1 := dk_seg dksX8_readLine_0 24 rfl rfl
theorem dksX8_readLine_2 : cX8_readLine.data.toList.drop 48 = dktX8_readLine_2 := dk_seg dksX8_readLine_1 24 rfl rfl
theorem dksX8_readLine_3 : cX8_readLine.data.toList.drop 70 = dktX8_readLine_3 := dk_seg dksX8_readLine_2 22 rfl rfl
theorem dksX8_readLine_4 : cX8_readLine.data.toList.drop 92 = dktX8_readLine_4 := dk_seg dksX8_readLine_3 22 rfl rfl
theorem dksX8_readLine_5 : cX8_readLine.data.toList.drop 116 = dktX8_readLine_5 := dk_seg dksX8_readLine_4 24 rfl rfl
theorem dksX8_readLine_6 : cX8_readLine.data.toList.drop 140 = dktX8_readLine_6 := dk_seg dksX8_readLine_5 24 rfl rfl
theorem dX8_readLine_0 : decode cX8_readLine 0 = .ok (.aload_n 0, 1) := dk_42 (dk_at dksX8_readLine_0 0 rfl rfl)
theorem dX8_readLine_1 : decode cX8_readLine 1 = .ok (.invokevirtual 101, 3) := dk_182 0 101 (dk_at dksX8_readLine_0 1 rfl rfl)
theorem dX8_readLine_4 : decode cX8_readLine 4 = .ok (.istore_n 1, 1) := dk_60 (dk_at dksX8_readLine_0 4 rfl rfl)
theorem dX8_readLine_5 : decode cX8_readLine 5 = .ok (.iload_n 1, 1) := dk_27 (dk_at dksX8_readLine_0 5 rfl rfl)
theorem dX8_readLine_6 : decode cX8_readLine 6 = .ok (.i2l, 1) := dk_133 (dk_at dksX8_readLine_0 6 rfl rfl)
theorem dX8_readLine_7 : decode cX8_readLine 7 = .ok (.lconst 0, 1) := dk_9 (dk_at dksX8_readLine_0 7 rfl rfl)
theorem dX8_readLine_8 : decode cX8_readLine 8 = .ok (.ldc2_w 105, 3) := dk_20 0 105 (dk_at dksX8_readLine_0 8 rfl rfl)
theorem dX8_readLine_11 : decode cX8_readLine 11 = .ok (.invokestatic 53, 3) := dk_184 0 53 (dk_at dksX8_readLine_0 11 rfl rfl)
theorem dX8_readLine_14 : decode cX8_readLine 14 = .ok (.ifCond .ne 9, 3) := dk_154 0 9 (dk_at dksX8_readLine_0 14 rfl rfl)
theorem dX8_readLine_17 : decode cX8_readLine 17 = .ok (.aload_n 0, 1) := dk_42 (dk_at dksX8_readLine_0 17 rfl rfl)
theorem dX8_readLine_18 : decode cX8_readLine 18 = .ok (.iconst 2, 1) := dk_5 (dk_at dksX8_readLine_0 18 rfl rfl)
theorem dX8_readLine_19 : decode cX8_readLine 19 = .ok (.invokevirtual 90, 3) := dk_182 0 90 (dk_at dksX8_readLine_0 19 rfl rfl)
theorem dX8_readLine_22 : decode cX8_readLine 22 = .ok (.return_, 1) := dk_177 (dk_at dksX8_readLine_0 22 rfl rfl)
theorem dX8_readLine_23 : decode cX8_readLine 23 = .ok (.iload_n 1, 1) := dk_27 (dk_at dksX8_readLine_0 23 rfl rfl)
theorem dX8_readLine_24 : decode cX8_readLine 24 = .ok (.iconst 3, 1) := dk_6 (dk_at dksX8_readLine_1 0 rfl rfl)
theorem dX8_readLine_25 : decode cX8_readLine 25 = .ok (.if_icmp .gt 14, 3) := dk_163 0 14 (dk_at dksX8_readLine_1 1 rfl rfl)
theorem dX8_readLine_28 : decode cX8_readLine 28 = .ok (.aload_n 0, 1) := dk_42 (dk_at dksX8_readLine_1 4 rfl rfl)
theorem dX8_readLine_29 : decode cX8_readLine 29 = .ok (.getfield 13, 3) := dk_180 0 13 (dk_at dksX8_readLine_1 5 rfl rfl)
theorem dX8_readLine_32 : decode cX8_readLine 32 = .ok (.bipush 16, 2) := dk_16 16 (dk_at dksX8_readLine_1 8 rfl rfl)
theorem dX8_readLine_34 : decode cX8_readLine 34 = .ok (.iaload, 1) := dk_46 (dk_at dksX8_readLine_1 10 rfl rfl)
theorem dX8_readLine_35 : decode cX8_readLine 35 = .ok (.iconst 4, 1) := dk_7 (dk_at dksX8_readLine_1 11 rfl rfl)
theorem dX8_readLine_36 : decode cX8_readLine 36 = .ok (.if_icmp .eq 20, 3) := dk_159 0 20 (dk_at dksX8_readLine_1 12 rfl rfl)
theorem dX8_readLine_39 : decode cX8_readLine 39 = .ok (.iload_n 1, 1) := dk_27 (dk_at dksX8_readLine_1 15 rfl rfl)
theorem dX8_readLine_40 : decode cX8_readLine 40 = .ok (.iconst 5, 1) := dk_8 (dk_at dksX8_readLine_1 16 rfl rfl)
theorem dX8_readLine_41 : decode cX8_readLine 41 = .ok (.if_icmp .lt 20, 3) := dk_161 0 20 (dk_at dksX8_readLine_1 17 rfl rfl)
theorem dX8_readLine_44 : decode cX8_readLine 44 = .ok (.aload_n 0, 1) := dk_42 (dk_at dksX8_readLine_1 20 rfl rfl)
theorem dX8_readLine_45 : decode cX8_readLine 45 = .ok (.getfield 13, 3) := dk_180 0 13 (dk_at dksX8_readLine_1 21 rfl rfl)
theorem dX8_readLine_48 : decode cX8_readLine 48 = .ok (.bipush 33, 2) := dk_16 33 (dk_at dksX8_readLine_2 0 rfl rfl)
theorem dX8_readLine_50 : decode cX8_readLine 50 = .ok (.iaload, 1) := dk_46 (dk_at dksX8_readLine_2 2 rfl rfl)
theorem dX8_readLine_51 : decode cX8_readLine 51 = .ok (.bipush 16, 2) := dk_16 16 (dk_at dksX8_readLine_2 3 rfl rfl)
theorem dX8_readLine_53 : decode cX8_readLine 53 = .ok (.if_icmp .ne 8, 3) := dk_160 0 8 (dk_at dksX8_readLine_2 5 rfl rfl)
theorem dX8_readLine_56 : decode cX8_readLine 56 = .ok (.aload_n 0, 1) := dk_42 (dk_at dksX8_readLine_2 8 rfl rfl)
theorem dX8_readLine_57 : decode cX8_readLine 57 = .ok (.iconst 5, 1) := dk_8 (dk_at dksX8_readLine_2 9 rfl rfl)
theorem dX8_readLine_58 : decode cX8_readLine 58 = .ok (.invokevirtual 90, 3) := dk_182 0 90 (dk_at dksX8_readLine_2 10 rfl rfl)
theorem dX8_readLine_61 : decode cX8_readLine 61 = .ok (.iload_n 1, 1) := dk_27 (dk_at dksX8_readLine_2 13 rfl rfl)
theorem dX8_readLine_62 : decode cX8_readLine 62 = .ok (.iconst 4, 1) := dk_7 (dk_at dksX8_readLine_2 14 rfl rfl)
theorem dX8_readLine_63 : decode cX8_readLine 63 = .ok (.if_icmp .ne 15, 3) := dk_160 0 15 (dk_at dksX8_readLine_2 15 rfl rfl)
theorem dX8_readLine_66 : decode cX8_readLine 66 = .ok (.aload_n 0, 1) := dk_42 (dk_at dksX8_readLine_2 18 rfl rfl)
theorem dX8_readLine_67 : decode cX8_readLine 67 = .ok (.getfield 107, 3) := dk_180 0 107 (dk_at dksX8_readLine_2 19 rfl rfl)
theorem dX8_readLine_70 : decode cX8_readLine 70 = .ok (.ifCond .eq 8, 3) := dk_153 0 8 (dk_at dksX8_readLine_3 0 rfl rfl)
theorem dX8_readLine_73 : decode cX8_readLine 73 = .ok (.aload_n 0, 1) := dk_42 (dk_at dksX8_readLine_3 3 rfl rfl)
theorem dX8_readLine_74 : decode cX8_readLine 74 = .ok (.iconst 4, 1) := dk_7 (dk_at dksX8_readLine_3 4 rfl rfl)
theorem dX8_readLine_75 : decode cX8_readLine 75 = .ok (.invokevirtual 90, 3) := dk_182 0 90 (dk_at dksX8_readLine_3 5 rfl rfl)
theorem dX8_readLine_78 : decode cX8_readLine 78 = .ok (.aload_n 0, 1) := dk_42 (dk_at dksX8_readLine_3 8 rfl rfl)
theorem dX8_readLine_79 : decode cX8_readLine 79 = .ok (.aload_n 0, 1) := dk_42 (dk_at dksX8_readLine_3 9 rfl rfl)
theorem dX8_readLine_80 : decode cX8_readLine 80 = .ok (.getfield 107, 3) := dk_180 0 107 (dk_at dksX8_readLine_3 10 rfl rfl)
theorem dX8_readLine_83 : decode cX8_readLine 83 = .ok (.ifCond .ne 8, 3) := dk_154 0 8 (dk_at dksX8_readLine_3 13 rfl rfl)
theorem dX8_readLine_86 : decode cX8_readLine 86 = .ok (.iload_n 1, 1) := dk_27 (dk_at dksX8_readLine_3 16 rfl rfl)
theorem dX8_readLine_87 : decode cX8_readLine 87 = .ok (.iconst 4, 1) := dk_7 (dk_at dksX8_readLine_3 17 rfl rfl)
theorem dX8_readLine_88 : decode cX8_readLine 88 = .ok (.if_icmp .ne 7, 3) := dk_160 0 7 (dk_at dksX8_readLine_3 18 rfl rfl)
theorem dX8_readLine_91 : decode cX8_readLine 91 = .ok (.iconst 1, 1) := dk_4 (dk_at dksX8_readLine_3 21 rfl rfl)
theorem dX8_readLine_92 : decode cX8_readLine 92 = .ok (.goto 4, 3) := dk_167 0 4 (dk_at dksX8_readLine_4 0 rfl rfl)
theorem dX8_readLine_95 : decode cX8_readLine 95 = .ok (.iconst 0, 1) := dk_3 (dk_at dksX8_readLine_4 3 rfl rfl)
theorem dX8_readLine_96 : decode cX8_readLine 96 = .ok (.putfield 107, 3) := dk_181 0 107 (dk_at dksX8_readLine_4 4 rfl rfl)
theorem dX8_readLine_99 : decode cX8_readLine 99 = .ok (.aload_n 0, 1) := dk_42 (dk_at dksX8_readLine_4 7 rfl rfl)
theorem dX8_readLine_100 : decode cX8_readLine 100 = .ok (.invokevirtual 94, 3) := dk_182 0 94 (dk_at dksX8_readLine_4 8 rfl rfl)
theorem dX8_readLine_103 : decode cX8_readLine 103 = .ok (.aload_n 0, 1) := dk_42 (dk_at dksX8_readLine_4 11 rfl rfl)
theorem dX8_readLine_104 : decode cX8_readLine 104 = .ok (.getfield 60, 3) := dk_180 0 60 (dk_at dksX8_readLine_4 12 rfl rfl)
theorem dX8_readLine_107 : decode cX8_readLine 107 = .ok (.ifCond .le 4, 3) := dk_158 0 4 (dk_at dksX8_readLine_4 15 rfl rfl)
theorem dX8_readLine_110 : decode cX8_readLine 110 = .ok (.return_, 1) := dk_177 (dk_at dksX8_readLine_4 18 rfl rfl)
theorem dX8_readLine_111 : decode cX8_readLine 111 = .ok (.aload_n 0, 1) := dk_42 (dk_at dksX8_readLine_4 19 rfl rfl)
theorem dX8_readLine_112 : decode cX8_readLine 112 = .ok (.iload_n 1, 1) := dk_27 (dk_at dksX8_readLine_4 20 rfl rfl)
theorem dX8_readLine_113 : decode cX8_readLine 113 = .ok (.invokevirtual 111, 3) := dk_182 0 111 (dk_at dksX8_readLine_4 21 rfl rfl)
theorem dX8_readLine_116 : decode cX8_readLine 116 = .ok (.aload_n 0, 1) := dk_42 (dk_at dksX8_readLine_5 0 rfl rfl)
theorem dX8_readLine_117 : decode cX8_readLine 117 = .ok (.getfield 60, 3) := dk_180 0 60 (dk_at dksX8_readLine_5 1 rfl rfl)
theorem dX8_readLine_120 : decode cX8_readLine 120 = .ok (.ifCond .ne 16, 3) := dk_154 0 16 (dk_at dksX8_readLine_5 4 rfl rfl)
theorem dX8_readLine_123 : decode cX8_readLine 123 = .ok (.aload_n 0, 1) := dk_42 (dk_at dksX8_readLine_5 7 rfl rfl)
theorem dX8_readLine_124 : decode cX8_readLine 124 = .ok (.getfield 69, 3) := dk_180 0 69 (dk_at dksX8_readLine_5 8 rfl rfl)
theorem dX8_readLine_127 : decode cX8_readLine 127 = .ok (.iconst 3, 1) := dk_6 (dk_at dksX8_readLine_5 11 rfl rfl)
theorem dX8_readLine_128 : decode cX8_readLine 128 = .ok (.if_icmp .eq 8, 3) := dk_159 0 8 (dk_at dksX8_readLine_5 12 rfl rfl)
theorem dX8_readLine_131 : decode cX8_readLine 131 = .ok (.aload_n 0, 1) := dk_42 (dk_at dksX8_readLine_5 15 rfl rfl)
theorem dX8_readLine_132 : decode cX8_readLine 132 = .ok (.iconst 2, 1) := dk_5 (dk_at dksX8_readLine_5 16 rfl rfl)
theorem dX8_readLine_133 : decode cX8_readLine 133 = .ok (.invokevirtual 90, 3) := dk_182 0 90 (dk_at dksX8_readLine_5 17 rfl rfl)
theorem dX8_readLine_136 : decode cX8_readLine 136 = .ok (.aload_n 0, 1) := dk_42 (dk_at dksX8_readLine_5 20 rfl rfl)
theorem dX8_readLine_137 : decode cX8_readLine 137 = .ok (.invokevirtual 94, 3) := dk_182 0 94 (dk_at dksX8_readLine_5 21 rfl rfl)
theorem dX8_readLine_140 : decode cX8_readLine 140 = .ok (.return_, 1) := dk_177 (dk_at dksX8_readLine_6 0 rfl rfl)
abbrev cX8_nameHere : ByteArray := prog_12_method_8_code
def yX8_nameHere : MethodName := ⟨RX8, "nameHere", "()I"⟩
def dkwX8_nameHere_5 : List UInt8 := [16, 252, 172]
abbrev dktX8_nameHere_5 : List UInt8 := dkwX8_nameHere_5 ++ []
def dkwX8_nameHere_4 : List UInt8 := [4, 167, 0, 4, 3, 61, 132, 3, 1, 167, 255, 204, 28, 153, 0, 5, 27, 172, 132, 1, 1, 167, 255, 143]
abbrev dktX8_nameHere_4 : List UInt8 := dkwX8_nameHere_4 ++ dktX8_nameHere_5
def dkwX8_nameHere_3 : List UInt8 := [180, 0, 63, 29, 96, 182, 0, 75, 42, 180, 0, 22, 42, 180, 0, 19, 27, 46, 29, 96, 46, 160, 0, 7]
abbrev dktX8_nameHere_3 : List UInt8 := dkwX8_nameHere_3 ++ dktX8_nameHere_4
def dkwX8_nameHere_2 : List UInt8 := [61, 3, 62, 28, 153, 0, 54, 29, 42, 180, 0, 72, 42, 180, 0, 63, 100, 162, 0, 41, 42, 42]
abbrev dktX8_nameHere_2 : List UInt8 := dkwX8_nameHere_2 ++ dktX8_nameHere_3
def dkwX8_nameHere_1 : List UInt8 := [100, 42, 180, 0, 19, 27, 4, 96, 46, 42, 180, 0, 19, 27, 46, 100, 160, 0, 7, 4, 167, 0, 4, 3]
abbrev dktX8_nameHere_1 : List UInt8 := dkwX8_nameHere_1 ++ dktX8_nameHere_2
def dkwX8_nameHere_0 : List UInt8 := [3, 60, 27, 16, 8, 162, 0, 113, 42, 180, 0, 69, 4, 160, 0, 105, 42, 180, 0, 72, 42, 180, 0, 63]
abbrev dktX8_nameHere_0 : List UInt8 := dkwX8_nameHere_0 ++ dktX8_nameHere_1
theorem dksX8_nameHere_0 : cX8_nameHere.data.toList.drop 0 = dktX8_nameHere_0 := by decide +kernel
theorem dksX8_nameHere_1 : cX8_nameHere.data.toList.drop 24 = dktX8_nameHere_1 := dk_seg dksX8_nameHere_0 24 rfl rfl
theorem dksX8_nameHere_2 : cX8_nameHere.data.toList.drop 48 = dktX8_nameHere_2 := dk_seg dksX8_nameHere_1 24 rfl rfl
theorem dksX8_nameHere_3 : cX8_nameHere.data.toList.drop 70 = dktX8_nameHere_3 := dk_seg dksX8_nameHere_2 22 rfl rfl
theorem dksX8_nameHere_4 : cX8_nameHere.data.toList.drop 94 = dktX8_nameHere_4 := dk_seg dksX8_nameHere_3 24 rfl rfl
theorem dksX8_nameHere_5 : cX8_nameHere.data.toList.drop 118 = dktX8_nameHere_5 := dk_seg dksX8_nameHere_4 24 rfl rfl
theorem dX8_nameHere_0 : decode cX8_nameHere 0 = .ok (.iconst 0, 1) := dk_3 (dk_at dksX8_nameHere_0 0 rfl rfl)
theorem dX8_nameHere_1 : decode cX8_nameHere 1 = .ok (.istore_n 1, 1) := dk_60 (dk_at dksX8_nameHere_0 1 rfl rfl)
theorem dX8_nameHere_2 : decode cX8_nameHere 2 = .ok (.iload_n 1, 1) := dk_27 (dk_at dksX8_nameHere_0 2 rfl rfl)
theorem dX8_nameHere_3 : decode cX8_nameHere 3 = .ok (.bipush 8, 2) := dk_16 8 (dk_at dksX8_nameHere_0 3 rfl rfl)
theorem dX8_nameHere_5 : decode cX8_nameHere 5 = .ok (.if_icmp .ge 113, 3) := dk_162 0 113 (dk_at dksX8_nameHere_0 5 rfl rfl)
theorem dX8_nameHere_8 : decode cX8_nameHere 8 = .ok (.aload_n 0, 1) := dk_42 (dk_at dksX8_nameHere_0 8 rfl rfl)
theorem dX8_nameHere_9 : decode cX8_nameHere 9 = .ok (.getfield 69, 3) := dk_180 0 69 (dk_at dksX8_nameHere_0 9 rfl rfl)
theorem dX8_nameHere_12 : decode cX8_nameHere 12 = .ok (.iconst 1, 1) := dk_4 (dk_at dksX8_nameHere_0 12 rfl rfl)
theorem dX8_nameHere_13 : decode cX8_nameHere 13 = .ok (.if_icmp .ne 105, 3) := dk_160 0 105 (dk_at dksX8_nameHere_0 13 rfl rfl)
theorem dX8_nameHere_16 : decode cX8_nameHere 16 = .ok (.aload_n 0, 1) := dk_42 (dk_at dksX8_nameHere_0 16 rfl rfl)
theorem dX8_nameHere_17 : decode cX8_nameHere 17 = .ok (.getfield 72, 3) := dk_180 0 72 (dk_at dksX8_nameHere_0 17 rfl rfl)
theorem dX8_nameHere_20 : decode cX8_nameHere 20 = .ok (.aload_n 0, 1) := dk_42 (dk_at dksX8_nameHere_0 20 rfl rfl)
theorem dX8_nameHere_21 : decode cX8_nameHere 21 = .ok (.getfield 63, 3) := dk_180 0 63 (dk_at dksX8_nameHere_0 21 rfl rfl)
theorem dX8_nameHere_24 : decode cX8_nameHere 24 = .ok (.isub, 1) := dk_100 (dk_at dksX8_nameHere_1 0 rfl rfl)
theorem dX8_nameHere_25 : decode cX8_nameHere 25 = .ok (.aload_n 0, 1) := dk_42 (dk_at dksX8_nameHere_1 1 rfl rfl)
theorem dX8_nameHere_26 : decode cX8_nameHere 26 = .ok (.getfield 19, 3) := dk_180 0 19 (dk_at dksX8_nameHere_1 2 rfl rfl)
theorem dX8_nameHere_29 : decode cX8_nameHere 29 = .ok (.iload_n 1, 1) := dk_27 (dk_at dksX8_nameHere_1 5 rfl rfl)
theorem dX8_nameHere_30 : decode cX8_nameHere 30 = .ok (.iconst 1, 1) := dk_4 (dk_at dksX8_nameHere_1 6 rfl rfl)
theorem dX8_nameHere_31 : decode cX8_nameHere 31 = .ok (.iadd, 1) := dk_96 (dk_at dksX8_nameHere_1 7 rfl rfl)
theorem dX8_nameHere_32 : decode cX8_nameHere 32 = .ok (.iaload, 1) := dk_46 (dk_at dksX8_nameHere_1 8 rfl rfl)
theorem dX8_nameHere_33 : decode cX8_nameHere 33 = .ok (.aload_n 0, 1) := dk_42 (dk_at dksX8_nameHere_1 9 rfl rfl)
theorem dX8_nameHere_34 : decode cX8_nameHere 34 = .ok (.getfield 19, 3) := dk_180 0 19 (dk_at dksX8_nameHere_1 10 rfl rfl)
theorem dX8_nameHere_37 : decode cX8_nameHere 37 = .ok (.iload_n 1, 1) := dk_27 (dk_at dksX8_nameHere_1 13 rfl rfl)
theorem dX8_nameHere_38 : decode cX8_nameHere 38 = .ok (.iaload, 1) := dk_46 (dk_at dksX8_nameHere_1 14 rfl rfl)
theorem dX8_nameHere_39 : decode cX8_nameHere 39 = .ok (.isub, 1) := dk_100 (dk_at dksX8_nameHere_1 15 rfl rfl)
theorem dX8_nameHere_40 : decode cX8_nameHere 40 = .ok (.if_icmp .ne 7, 3) := dk_160 0 7 (dk_at dksX8_nameHere_1 16 rfl rfl)
theorem dX8_nameHere_43 : decode cX8_nameHere 43 = .ok (.iconst 1, 1) := dk_4 (dk_at dksX8_nameHere_1 19 rfl rfl)
theorem dX8_nameHere_44 : decode cX8_nameHere 44 = .ok (.goto 4, 3) := dk_167 0 4 (dk_at dksX8_nameHere_1 20 rfl rfl)
theorem dX8_nameHere_47 : decode cX8_nameHere 47 = .ok (.iconst 0, 1) := dk_3 (dk_at dksX8_nameHere_1 23 rfl rfl)
theorem dX8_nameHere_48 : decode cX8_nameHere 48 = .ok (.istore_n 2, 1) := dk_61 (dk_at dksX8_nameHere_2 0 rfl rfl)
theorem dX8_nameHere_49 : decode cX8_nameHere 49 = .ok (.iconst 0, 1) := dk_3 (dk_at dksX8_nameHere_2 1 rfl rfl)
theorem dX8_nameHere_50 : decode cX8_nameHere 50 = .ok (.istore_n 3, 1) := dk_62 (dk_at dksX8_nameHere_2 2 rfl rfl)
theorem dX8_nameHere_51 : decode cX8_nameHere 51 = .ok (.iload_n 2, 1) := dk_28 (dk_at dksX8_nameHere_2 3 rfl rfl)
theorem dX8_nameHere_52 : decode cX8_nameHere 52 = .ok (.ifCond .eq 54, 3) := dk_153 0 54 (dk_at dksX8_nameHere_2 4 rfl rfl)
theorem dX8_nameHere_55 : decode cX8_nameHere 55 = .ok (.iload_n 3, 1) := dk_29 (dk_at dksX8_nameHere_2 7 rfl rfl)
theorem dX8_nameHere_56 : decode cX8_nameHere 56 = .ok (.aload_n 0, 1) := dk_42 (dk_at dksX8_nameHere_2 8 rfl rfl)
theorem dX8_nameHere_57 : decode cX8_nameHere 57 = .ok (.getfield 72, 3) := dk_180 0 72 (dk_at dksX8_nameHere_2 9 rfl rfl)
theorem dX8_nameHere_60 : decode cX8_nameHere 60 = .ok (.aload_n 0, 1) := dk_42 (dk_at dksX8_nameHere_2 12 rfl rfl)
theorem dX8_nameHere_61 : decode cX8_nameHere 61 = .ok (.getfield 63, 3) := dk_180 0 63 (dk_at dksX8_nameHere_2 13 rfl rfl)
theorem dX8_nameHere_64 : decode cX8_nameHere 64 = .ok (.isub, 1) := dk_100 (dk_at dksX8_nameHere_2 16 rfl rfl)
theorem dX8_nameHere_65 : decode cX8_nameHere 65 = .ok (.if_icmp .ge 41, 3) := dk_162 0 41 (dk_at dksX8_nameHere_2 17 rfl rfl)
theorem dX8_nameHere_68 : decode cX8_nameHere 68 = .ok (.aload_n 0, 1) := dk_42 (dk_at dksX8_nameHere_2 20 rfl rfl)
theorem dX8_nameHere_69 : decode cX8_nameHere 69 = .ok (.aload_n 0, 1) := dk_42 (dk_at dksX8_nameHere_2 21 rfl rfl)
theorem dX8_nameHere_70 : decode cX8_nameHere 70 = .ok (.getfield 63, 3) := dk_180 0 63 (dk_at dksX8_nameHere_3 0 rfl rfl)
theorem dX8_nameHere_73 : decode cX8_nameHere 73 = .ok (.iload_n 3, 1) := dk_29 (dk_at dksX8_nameHere_3 3 rfl rfl)
theorem dX8_nameHere_74 : decode cX8_nameHere 74 = .ok (.iadd, 1) := dk_96 (dk_at dksX8_nameHere_3 4 rfl rfl)
theorem dX8_nameHere_75 : decode cX8_nameHere 75 = .ok (.invokevirtual 75, 3) := dk_182 0 75 (dk_at dksX8_nameHere_3 5 rfl rfl)
theorem dX8_nameHere_78 : decode cX8_nameHere 78 = .ok (.aload_n 0, 1) := dk_42 (dk_at dksX8_nameHere_3 8 rfl rfl)
theorem dX8_nameHere_79 : decode cX8_nameHere 79 = .ok (.getfield 22, 3) := dk_180 0 22 (dk_at dksX8_nameHere_3 9 rfl rfl)
theorem dX8_nameHere_82 : decode cX8_nameHere 82 = .ok (.aload_n 0, 1) := dk_42 (dk_at dksX8_nameHere_3 12 rfl rfl)
theorem dX8_nameHere_83 : decode cX8_nameHere 83 = .ok (.getfield 19, 3) := dk_180 0 19 (dk_at dksX8_nameHere_3 13 rfl rfl)
theorem dX8_nameHere_86 : decode cX8_nameHere 86 = .ok (.iload_n 1, 1) := dk_27 (dk_at dksX8_nameHere_3 16 rfl rfl)
theorem dX8_nameHere_87 : decode cX8_nameHere 87 = .ok (.iaload, 1) := dk_46 (dk_at dksX8_nameHere_3 17 rfl rfl)
theorem dX8_nameHere_88 : decode cX8_nameHere 88 = .ok (.iload_n 3, 1) := dk_29 (dk_at dksX8_nameHere_3 18 rfl rfl)
theorem dX8_nameHere_89 : decode cX8_nameHere 89 = .ok (.iadd, 1) := dk_96 (dk_at dksX8_nameHere_3 19 rfl rfl)
theorem dX8_nameHere_90 : decode cX8_nameHere 90 = .ok (.iaload, 1) := dk_46 (dk_at dksX8_nameHere_3 20 rfl rfl)
theorem dX8_nameHere_91 : decode cX8_nameHere 91 = .ok (.if_icmp .ne 7, 3) := dk_160 0 7 (dk_at dksX8_nameHere_3 21 rfl rfl)
theorem dX8_nameHere_94 : decode cX8_nameHere 94 = .ok (.iconst 1, 1) := dk_4 (dk_at dksX8_nameHere_4 0 rfl rfl)
theorem dX8_nameHere_95 : decode cX8_nameHere 95 = .ok (.goto 4, 3) := dk_167 0 4 (dk_at dksX8_nameHere_4 1 rfl rfl)
theorem dX8_nameHere_98 : decode cX8_nameHere 98 = .ok (.iconst 0, 1) := dk_3 (dk_at dksX8_nameHere_4 4 rfl rfl)
theorem dX8_nameHere_99 : decode cX8_nameHere 99 = .ok (.istore_n 2, 1) := dk_61 (dk_at dksX8_nameHere_4 5 rfl rfl)
theorem dX8_nameHere_100 : decode cX8_nameHere 100 = .ok (.iinc 3 1, 3) := dk_132 3 1 (dk_at dksX8_nameHere_4 6 rfl rfl)
theorem dX8_nameHere_103 : decode cX8_nameHere 103 = .ok (.goto (-52), 3) := dk_167 255 204 (dk_at dksX8_nameHere_4 9 rfl rfl)
theorem dX8_nameHere_106 : decode cX8_nameHere 106 = .ok (.iload_n 2, 1) := dk_28 (dk_at dksX8_nameHere_4 12 rfl rfl)
theorem dX8_nameHere_107 : decode cX8_nameHere 107 = .ok (.ifCond .eq 5, 3) := dk_153 0 5 (dk_at dksX8_nameHere_4 13 rfl rfl)
theorem dX8_nameHere_110 : decode cX8_nameHere 110 = .ok (.iload_n 1, 1) := dk_27 (dk_at dksX8_nameHere_4 16 rfl rfl)
theorem dX8_nameHere_111 : decode cX8_nameHere 111 = .ok (.ireturn, 1) := dk_172 (dk_at dksX8_nameHere_4 17 rfl rfl)
theorem dX8_nameHere_112 : decode cX8_nameHere 112 = .ok (.iinc 1 1, 3) := dk_132 1 1 (dk_at dksX8_nameHere_4 18 rfl rfl)
theorem dX8_nameHere_115 : decode cX8_nameHere 115 = .ok (.goto (-113), 3) := dk_167 255 143 (dk_at dksX8_nameHere_4 21 rfl rfl)
theorem dX8_nameHere_118 : decode cX8_nameHere 118 = .ok (.bipush (-4), 2) := dk_16 252 (dk_at dksX8_nameHere_5 0 rfl rfl)
theorem dX8_nameHere_120 : decode cX8_nameHere 120 = .ok (.ireturn, 1) := dk_172 (dk_at dksX8_nameHere_5 2 rfl rfl)
abbrev cX8_readMore : ByteArray := prog_12_method_11_code
def yX8_readMore : MethodName := ⟨RX8, "readMore", "(I)V"⟩
def dkwX8_readMore_5 : List UInt8 := [6, 167, 0, 5, 16, 99, 182, 0, 97, 96, 79, 42, 180, 0, 13, 16, 33, 92, 46, 4, 96, 79, 177]
abbrev dktX8_readMore_5 : List UInt8 := dkwX8_readMore_5 ++ []
def dkwX8_readMore_4 : List UInt8 := [46, 61, 42, 180, 0, 13, 16, 17, 28, 96, 16, 100, 27, 8, 100, 104, 42, 3, 27, 16, 7, 160, 0, 7]
abbrev dktX8_readMore_4 : List UInt8 := dkwX8_readMore_4 ++ dktX8_readMore_5
def dkwX8_readMore_3 : List UInt8 := [180, 0, 13, 16, 34, 42, 4, 16, 20, 182, 0, 97, 8, 100, 79, 167, 0, 55, 42, 180, 0, 13, 16, 33]
abbrev dktX8_readMore_3 : List UInt8 := dkwX8_readMore_3 ++ dktX8_readMore_4
def dkwX8_readMore_2 : List UInt8 := [182, 0, 97, 79, 42, 180, 0, 13, 16, 16, 92, 46, 4, 96, 79, 167, 0, 79, 27, 7, 160, 0, 22, 42]
abbrev dktX8_readMore_2 : List UInt8 := dkwX8_readMore_2 ++ dktX8_readMore_3
def dkwX8_readMore_1 : List UInt8 := [7, 28, 96, 42, 4, 16, 20, 182, 0, 97, 79, 42, 180, 0, 13, 16, 8, 28, 96, 42, 3, 16, 9]
abbrev dktX8_readMore_1 : List UInt8 := dkwX8_readMore_1 ++ dktX8_readMore_2
def dkwX8_readMore_0 : List UInt8 := [27, 6, 163, 0, 63, 42, 180, 0, 13, 16, 16, 46, 61, 42, 180, 0, 13, 28, 27, 79, 42, 180, 0, 13]
abbrev dktX8_readMore_0 : List UInt8 := dkwX8_readMore_0 ++ dktX8_readMore_1
theorem dksX8_readMore_0 : cX8_readMore.data.toList.drop 0 = dktX8_readMore_0 := by decide +kernel
theorem dksX8_readMore_1 : cX8_readMore.data.toList.drop 24 = dktX8_readMore_1 := dk_seg dksX8_readMore_0 24 rfl rfl
theorem dksX8_readMore_2 : cX8_readMore.data.toList.drop 47 = dktX8_readMore_2 := dk_seg dksX8_readMore_1 23 rfl rfl
theorem dksX8_readMore_3 : cX8_readMore.data.toList.drop 71 = dktX8_readMore_3 := dk_seg dksX8_readMore_2 24 rfl rfl
theorem dksX8_readMore_4 : cX8_readMore.data.toList.drop 95 = dktX8_readMore_4 := dk_seg dksX8_readMore_3 24 rfl rfl
theorem dksX8_readMore_5 : cX8_readMore.data.toList.drop 119 = dktX8_readMore_5 := dk_seg dksX8_readMore_4 24 rfl rfl
theorem dX8_readMore_0 : decode cX8_readMore 0 = .ok (.iload_n 1, 1) := dk_27 (dk_at dksX8_readMore_0 0 rfl rfl)
theorem dX8_readMore_1 : decode cX8_readMore 1 = .ok (.iconst 3, 1) := dk_6 (dk_at dksX8_readMore_0 1 rfl rfl)
theorem dX8_readMore_2 : decode cX8_readMore 2 = .ok (.if_icmp .gt 63, 3) := dk_163 0 63 (dk_at dksX8_readMore_0 2 rfl rfl)
theorem dX8_readMore_5 : decode cX8_readMore 5 = .ok (.aload_n 0, 1) := dk_42 (dk_at dksX8_readMore_0 5 rfl rfl)
theorem dX8_readMore_6 : decode cX8_readMore 6 = .ok (.getfield 13, 3) := dk_180 0 13 (dk_at dksX8_readMore_0 6 rfl rfl)
theorem dX8_readMore_9 : decode cX8_readMore 9 = .ok (.bipush 16, 2) := dk_16 16 (dk_at dksX8_readMore_0 9 rfl rfl)
theorem dX8_readMore_11 : decode cX8_readMore 11 = .ok (.iaload, 1) := dk_46 (dk_at dksX8_readMore_0 11 rfl rfl)
theorem dX8_readMore_12 : decode cX8_readMore 12 = .ok (.istore_n 2, 1) := dk_61 (dk_at dksX8_readMore_0 12 rfl rfl)
theorem dX8_readMore_13 : decode cX8_readMore 13 = .ok (.aload_n 0, 1) := dk_42 (dk_at dksX8_readMore_0 13 rfl rfl)
theorem dX8_readMore_14 : decode cX8_readMore 14 = .ok (.getfield 13, 3) := dk_180 0 13 (dk_at dksX8_readMore_0 14 rfl rfl)
theorem dX8_readMore_17 : decode cX8_readMore 17 = .ok (.iload_n 2, 1) := dk_28 (dk_at dksX8_readMore_0 17 rfl rfl)
theorem dX8_readMore_18 : decode cX8_readMore 18 = .ok (.iload_n 1, 1) := dk_27 (dk_at dksX8_readMore_0 18 rfl rfl)
theorem dX8_readMore_19 : decode cX8_readMore 19 = .ok (.iastore, 1) := dk_79 (dk_at dksX8_readMore_0 19 rfl rfl)
theorem dX8_readMore_20 : decode cX8_readMore 20 = .ok (.aload_n 0, 1) := dk_42 (dk_at dksX8_readMore_0 20 rfl rfl)
theorem dX8_readMore_21 : decode cX8_readMore 21 = .ok (.getfield 13, 3) := dk_180 0 13 (dk_at dksX8_readMore_0 21 rfl rfl)
theorem dX8_readMore_24 : decode cX8_readMore 24 = .ok (.iconst 4, 1) := dk_7 (dk_at dksX8_readMore_1 0 rfl rfl)
theorem dX8_readMore_25 : decode cX8_readMore 25 = .ok (.iload_n 2, 1) := dk_28 (dk_at dksX8_readMore_1 1 rfl rfl)
theorem dX8_readMore_26 : decode cX8_readMore 26 = .ok (.iadd, 1) := dk_96 (dk_at dksX8_readMore_1 2 rfl rfl)
theorem dX8_readMore_27 : decode cX8_readMore 27 = .ok (.aload_n 0, 1) := dk_42 (dk_at dksX8_readMore_1 3 rfl rfl)
theorem dX8_readMore_28 : decode cX8_readMore 28 = .ok (.iconst 1, 1) := dk_4 (dk_at dksX8_readMore_1 4 rfl rfl)
theorem dX8_readMore_29 : decode cX8_readMore 29 = .ok (.bipush 20, 2) := dk_16 20 (dk_at dksX8_readMore_1 5 rfl rfl)
theorem dX8_readMore_31 : decode cX8_readMore 31 = .ok (.invokevirtual 97, 3) := dk_182 0 97 (dk_at dksX8_readMore_1 7 rfl rfl)
theorem dX8_readMore_34 : decode cX8_readMore 34 = .ok (.iastore, 1) := dk_79 (dk_at dksX8_readMore_1 10 rfl rfl)
theorem dX8_readMore_35 : decode cX8_readMore 35 = .ok (.aload_n 0, 1) := dk_42 (dk_at dksX8_readMore_1 11 rfl rfl)
theorem dX8_readMore_36 : decode cX8_readMore 36 = .ok (.getfield 13, 3) := dk_180 0 13 (dk_at dksX8_readMore_1 12 rfl rfl)
theorem dX8_readMore_39 : decode cX8_readMore 39 = .ok (.bipush 8, 2) := dk_16 8 (dk_at dksX8_readMore_1 15 rfl rfl)
theorem dX8_readMore_41 : decode cX8_readMore 41 = .ok (.iload_n 2, 1) := dk_28 (dk_at dksX8_readMore_1 17 rfl rfl)
theorem dX8_readMore_42 : decode cX8_readMore 42 = .ok (.iadd, 1) := dk_96 (dk_at dksX8_readMore_1 18 rfl rfl)
theorem dX8_readMore_43 : decode cX8_readMore 43 = .ok (.aload_n 0, 1) := dk_42 (dk_at dksX8_readMore_1 19 rfl rfl)
theorem dX8_readMore_44 : decode cX8_readMore 44 = .ok (.iconst 0, 1) := dk_3 (dk_at dksX8_readMore_1 20 rfl rfl)
theorem dX8_readMore_45 : decode cX8_readMore 45 = .ok (.bipush 9, 2) := dk_16 9 (dk_at dksX8_readMore_1 21 rfl rfl)
theorem dX8_readMore_47 : decode cX8_readMore 47 = .ok (.invokevirtual 97, 3) := dk_182 0 97 (dk_at dksX8_readMore_2 0 rfl rfl)
theorem dX8_readMore_50 : decode cX8_readMore 50 = .ok (.iastore, 1) := dk_79 (dk_at dksX8_readMore_2 3 rfl rfl)
theorem dX8_readMore_51 : decode cX8_readMore 51 = .ok (.aload_n 0, 1) := dk_42 (dk_at dksX8_readMore_2 4 rfl rfl)
theorem dX8_readMore_52 : decode cX8_readMore 52 = .ok (.getfield 13, 3) := dk_180 0 13 (dk_at dksX8_readMore_2 5 rfl rfl)
theorem dX8_readMore_55 : decode cX8_readMore 55 = .ok (.bipush 16, 2) := dk_16 16 (dk_at dksX8_readMore_2 8 rfl rfl)
theorem dX8_readMore_57 : decode cX8_readMore 57 = .ok (.dup2, 1) := dk_92 (dk_at dksX8_readMore_2 10 rfl rfl)
theorem dX8_readMore_58 : decode cX8_readMore 58 = .ok (.iaload, 1) := dk_46 (dk_at dksX8_readMore_2 11 rfl rfl)
theorem dX8_readMore_59 : decode cX8_readMore 59 = .ok (.iconst 1, 1) := dk_4 (dk_at dksX8_readMore_2 12 rfl rfl)
theorem dX8_readMore_60 : decode cX8_readMore 60 = .ok (.iadd, 1) := dk_96 (dk_at dksX8_readMore_2 13 rfl rfl)
theorem dX8_readMore_61 : decode cX8_readMore 61 = .ok (.iastore, 1) := dk_79 (dk_at dksX8_readMore_2 14 rfl rfl)
theorem dX8_readMore_62 : decode cX8_readMore 62 = .ok (.goto 79, 3) := dk_167 0 79 (dk_at dksX8_readMore_2 15 rfl rfl)
theorem dX8_readMore_65 : decode cX8_readMore 65 = .ok (.iload_n 1, 1) := dk_27 (dk_at dksX8_readMore_2 18 rfl rfl)
theorem dX8_readMore_66 : decode cX8_readMore 66 = .ok (.iconst 4, 1) := dk_7 (dk_at dksX8_readMore_2 19 rfl rfl)
theorem dX8_readMore_67 : decode cX8_readMore 67 = .ok (.if_icmp .ne 22, 3) := dk_160 0 22 (dk_at dksX8_readMore_2 20 rfl rfl)
theorem dX8_readMore_70 : decode cX8_readMore 70 = .ok (.aload_n 0, 1) := dk_42 (dk_at dksX8_readMore_2 23 rfl rfl)
theorem dX8_readMore_71 : decode cX8_readMore 71 = .ok (.getfield 13, 3) := dk_180 0 13 (dk_at dksX8_readMore_3 0 rfl rfl)
theorem dX8_readMore_74 : decode cX8_readMore 74 = .ok (.bipush 34, 2) := dk_16 34 (dk_at dksX8_readMore_3 3 rfl rfl)
theorem dX8_readMore_76 : decode cX8_readMore 76 = .ok (.aload_n 0, 1) := dk_42 (dk_at dksX8_readMore_3 5 rfl rfl)
theorem dX8_readMore_77 : decode cX8_readMore 77 = .ok (.iconst 1, 1) := dk_4 (dk_at dksX8_readMore_3 6 rfl rfl)
theorem dX8_readMore_78 : decode cX8_readMore 78 = .ok (.bipush 20, 2) := dk_16 20 (dk_at dksX8_readMore_3 7 rfl rfl)
theorem dX8_readMore_80 : decode cX8_readMore 80 = .ok (.invokevirtual 97, 3) := dk_182 0 97 (dk_at dksX8_readMore_3 9 rfl rfl)
theorem dX8_readMore_83 : decode cX8_readMore 83 = .ok (.iconst 5, 1) := dk_8 (dk_at dksX8_readMore_3 12 rfl rfl)
theorem dX8_readMore_84 : decode cX8_readMore 84 = .ok (.isub, 1) := dk_100 (dk_at dksX8_readMore_3 13 rfl rfl)
theorem dX8_readMore_85 : decode cX8_readMore 85 = .ok (.iastore, 1) := dk_79 (dk_at dksX8_readMore_3 14 rfl rfl)
theorem dX8_readMore_86 : decode cX8_readMore 86 = .ok (.goto 55, 3) := dk_167 0 55 (dk_at dksX8_readMore_3 15 rfl rfl)
theorem dX8_readMore_89 : decode cX8_readMore 89 = .ok (.aload_n 0, 1) := dk_42 (dk_at dksX8_readMore_3 18 rfl rfl)
theorem dX8_readMore_90 : decode cX8_readMore 90 = .ok (.getfield 13, 3) := dk_180 0 13 (dk_at dksX8_readMore_3 19 rfl rfl)
theorem dX8_readMore_93 : decode cX8_readMore 93 = .ok (.bipush 33, 2) := dk_16 33 (dk_at dksX8_readMore_3 22 rfl rfl)
theorem dX8_readMore_95 : decode cX8_readMore 95 = .ok (.iaload, 1) := dk_46 (dk_at dksX8_readMore_4 0 rfl rfl)
theorem dX8_readMore_96 : decode cX8_readMore 96 = .ok (.istore_n 2, 1) := dk_61 (dk_at dksX8_readMore_4 1 rfl rfl)
theorem dX8_readMore_97 : decode cX8_readMore 97 = .ok (.aload_n 0, 1) := dk_42 (dk_at dksX8_readMore_4 2 rfl rfl)
theorem dX8_readMore_98 : decode cX8_readMore 98 = .ok (.getfield 13, 3) := dk_180 0 13 (dk_at dksX8_readMore_4 3 rfl rfl)
theorem dX8_readMore_101 : decode cX8_readMore 101 = .ok (.bipush 17, 2) := dk_16 17 (dk_at dksX8_readMore_4 6 rfl rfl)
theorem dX8_readMore_103 : decode cX8_readMore 103 = .ok (.iload_n 2, 1) := dk_28 (dk_at dksX8_readMore_4 8 rfl rfl)
theorem dX8_readMore_104 : decode cX8_readMore 104 = .ok (.iadd, 1) := dk_96 (dk_at dksX8_readMore_4 9 rfl rfl)
theorem dX8_readMore_105 : decode cX8_readMore 105 = .ok (.bipush 100, 2) := dk_16 100 (dk_at dksX8_readMore_4 10 rfl rfl)
theorem dX8_readMore_107 : decode cX8_readMore 107 = .ok (.iload_n 1, 1) := dk_27 (dk_at dksX8_readMore_4 12 rfl rfl)
theorem dX8_readMore_108 : decode cX8_readMore 108 = .ok (.iconst 5, 1) := dk_8 (dk_at dksX8_readMore_4 13 rfl rfl)
theorem dX8_readMore_109 : decode cX8_readMore 109 = .ok (.isub, 1) := dk_100 (dk_at dksX8_readMore_4 14 rfl rfl)
theorem dX8_readMore_110 : decode cX8_readMore 110 = .ok (.imul, 1) := dk_104 (dk_at dksX8_readMore_4 15 rfl rfl)
theorem dX8_readMore_111 : decode cX8_readMore 111 = .ok (.aload_n 0, 1) := dk_42 (dk_at dksX8_readMore_4 16 rfl rfl)
theorem dX8_readMore_112 : decode cX8_readMore 112 = .ok (.iconst 0, 1) := dk_3 (dk_at dksX8_readMore_4 17 rfl rfl)
theorem dX8_readMore_113 : decode cX8_readMore 113 = .ok (.iload_n 1, 1) := dk_27 (dk_at dksX8_readMore_4 18 rfl rfl)
theorem dX8_readMore_114 : decode cX8_readMore 114 = .ok (.bipush 7, 2) := dk_16 7 (dk_at dksX8_readMore_4 19 rfl rfl)
theorem dX8_readMore_116 : decode cX8_readMore 116 = .ok (.if_icmp .ne 7, 3) := dk_160 0 7 (dk_at dksX8_readMore_4 21 rfl rfl)
theorem dX8_readMore_119 : decode cX8_readMore 119 = .ok (.iconst 3, 1) := dk_6 (dk_at dksX8_readMore_5 0 rfl rfl)
theorem dX8_readMore_120 : decode cX8_readMore 120 = .ok (.goto 5, 3) := dk_167 0 5 (dk_at dksX8_readMore_5 1 rfl rfl)
theorem dX8_readMore_123 : decode cX8_readMore 123 = .ok (.bipush 99, 2) := dk_16 99 (dk_at dksX8_readMore_5 4 rfl rfl)
theorem dX8_readMore_125 : decode cX8_readMore 125 = .ok (.invokevirtual 97, 3) := dk_182 0 97 (dk_at dksX8_readMore_5 6 rfl rfl)
theorem dX8_readMore_128 : decode cX8_readMore 128 = .ok (.iadd, 1) := dk_96 (dk_at dksX8_readMore_5 9 rfl rfl)
theorem dX8_readMore_129 : decode cX8_readMore 129 = .ok (.iastore, 1) := dk_79 (dk_at dksX8_readMore_5 10 rfl rfl)
theorem dX8_readMore_130 : decode cX8_readMore 130 = .ok (.aload_n 0, 1) := dk_42 (dk_at dksX8_readMore_5 11 rfl rfl)
theorem dX8_readMore_131 : decode cX8_readMore 131 = .ok (.getfield 13, 3) := dk_180 0 13 (dk_at dksX8_readMore_5 12 rfl rfl)
theorem dX8_readMore_134 : decode cX8_readMore 134 = .ok (.bipush 33, 2) := dk_16 33 (dk_at dksX8_readMore_5 15 rfl rfl)
theorem dX8_readMore_136 : decode cX8_readMore 136 = .ok (.dup2, 1) := dk_92 (dk_at dksX8_readMore_5 17 rfl rfl)
theorem dX8_readMore_137 : decode cX8_readMore 137 = .ok (.iaload, 1) := dk_46 (dk_at dksX8_readMore_5 18 rfl rfl)
theorem dX8_readMore_138 : decode cX8_readMore 138 = .ok (.iconst 1, 1) := dk_4 (dk_at dksX8_readMore_5 19 rfl rfl)
theorem dX8_readMore_139 : decode cX8_readMore 139 = .ok (.iadd, 1) := dk_96 (dk_at dksX8_readMore_5 20 rfl rfl)
theorem dX8_readMore_140 : decode cX8_readMore 140 = .ok (.iastore, 1) := dk_79 (dk_at dksX8_readMore_5 21 rfl rfl)
theorem dX8_readMore_141 : decode cX8_readMore 141 = .ok (.return_, 1) := dk_177 (dk_at dksX8_readMore_5 22 rfl rfl)
abbrev cX8_number : ByteArray := prog_12_method_10_code
def yX8_number : MethodName := ⟨RX8, "number", "(II)I"⟩
def dkwX8_number_2 : List UInt8 := [180, 0, 60, 154, 0, 10, 42, 180, 0, 79, 167, 0, 4, 27, 62, 42, 182, 0, 94, 29, 172]
abbrev dktX8_number_2 : List UInt8 := dkwX8_number_2 ++ []
def dkwX8_number_1 : List UInt8 := [154, 0, 23, 42, 180, 0, 79, 133, 27, 133, 28, 133, 184, 0, 53, 154, 0, 8, 42, 6, 182, 0, 90, 42]
abbrev dktX8_number_1 : List UInt8 := dkwX8_number_1 ++ dktX8_number_2
def dkwX8_number_0 : List UInt8 := [42, 180, 0, 60, 154, 0, 16, 42, 180, 0, 69, 5, 159, 0, 8, 42, 5, 182, 0, 90, 42, 180, 0, 60]
abbrev dktX8_number_0 : List UInt8 := dkwX8_number_0 ++ dktX8_number_1
theorem dksX8_number_0 : cX8_number.data.toList.drop 0 = dktX8_number_0 := by decide +kernel
theorem dksX8_number_1 : cX8_number.data.toList.drop 24 = dktX8_number_1 := dk_seg dksX8_number_0 24 rfl rfl
theorem dksX8_number_2 : cX8_number.data.toList.drop 48 = dktX8_number_2 := dk_seg dksX8_number_1 24 rfl rfl
theorem dX8_number_0 : decode cX8_number 0 = .ok (.aload_n 0, 1) := dk_42 (dk_at dksX8_number_0 0 rfl rfl)
theorem dX8_number_1 : decode cX8_number 1 = .ok (.getfield 60, 3) := dk_180 0 60 (dk_at dksX8_number_0 1 rfl rfl)
theorem dX8_number_4 : decode cX8_number 4 = .ok (.ifCond .ne 16, 3) := dk_154 0 16 (dk_at dksX8_number_0 4 rfl rfl)
theorem dX8_number_7 : decode cX8_number 7 = .ok (.aload_n 0, 1) := dk_42 (dk_at dksX8_number_0 7 rfl rfl)
theorem dX8_number_8 : decode cX8_number 8 = .ok (.getfield 69, 3) := dk_180 0 69 (dk_at dksX8_number_0 8 rfl rfl)
theorem dX8_number_11 : decode cX8_number 11 = .ok (.iconst 2, 1) := dk_5 (dk_at dksX8_number_0 11 rfl rfl)
theorem dX8_number_12 : decode cX8_number 12 = .ok (.if_icmp .eq 8, 3) := dk_159 0 8 (dk_at dksX8_number_0 12 rfl rfl)
theorem dX8_number_15 : decode cX8_number 15 = .ok (.aload_n 0, 1) := dk_42 (dk_at dksX8_number_0 15 rfl rfl)
theorem dX8_number_16 : decode cX8_number 16 = .ok (.iconst 2, 1) := dk_5 (dk_at dksX8_number_0 16 rfl rfl)
theorem dX8_number_17 : decode cX8_number 17 = .ok (.invokevirtual 90, 3) := dk_182 0 90 (dk_at dksX8_number_0 17 rfl rfl)
theorem dX8_number_20 : decode cX8_number 20 = .ok (.aload_n 0, 1) := dk_42 (dk_at dksX8_number_0 20 rfl rfl)
theorem dX8_number_21 : decode cX8_number 21 = .ok (.getfield 60, 3) := dk_180 0 60 (dk_at dksX8_number_0 21 rfl rfl)
theorem dX8_number_24 : decode cX8_number 24 = .ok (.ifCond .ne 23, 3) := dk_154 0 23 (dk_at dksX8_number_1 0 rfl rfl)
theorem dX8_number_27 : decode cX8_number 27 = .ok (.aload_n 0, 1) := dk_42 (dk_at dksX8_number_1 3 rfl rfl)
theorem dX8_number_28 : decode cX8_number 28 = .ok (.getfield 79, 3) := dk_180 0 79 (dk_at dksX8_number_1 4 rfl rfl)
theorem dX8_number_31 : decode cX8_number 31 = .ok (.i2l, 1) := dk_133 (dk_at dksX8_number_1 7 rfl rfl)
theorem dX8_number_32 : decode cX8_number 32 = .ok (.iload_n 1, 1) := dk_27 (dk_at dksX8_number_1 8 rfl rfl)
theorem dX8_number_33 : decode cX8_number 33 = .ok (.i2l, 1) := dk_133 (dk_at dksX8_number_1 9 rfl rfl)
theorem dX8_number_34 : decode cX8_number 34 = .ok (.iload_n 2, 1) := dk_28 (dk_at dksX8_number_1 10 rfl rfl)
theorem dX8_number_35 : decode cX8_number 35 = .ok (.i2l, 1) := dk_133 (dk_at dksX8_number_1 11 rfl rfl)
theorem dX8_number_36 : decode cX8_number 36 = .ok (.invokestatic 53, 3) := dk_184 0 53 (dk_at dksX8_number_1 12 rfl rfl)
theorem dX8_number_39 : decode cX8_number 39 = .ok (.ifCond .ne 8, 3) := dk_154 0 8 (dk_at dksX8_number_1 15 rfl rfl)
theorem dX8_number_42 : decode cX8_number 42 = .ok (.aload_n 0, 1) := dk_42 (dk_at dksX8_number_1 18 rfl rfl)
theorem dX8_number_43 : decode cX8_number 43 = .ok (.iconst 3, 1) := dk_6 (dk_at dksX8_number_1 19 rfl rfl)
theorem dX8_number_44 : decode cX8_number 44 = .ok (.invokevirtual 90, 3) := dk_182 0 90 (dk_at dksX8_number_1 20 rfl rfl)
theorem dX8_number_47 : decode cX8_number 47 = .ok (.aload_n 0, 1) := dk_42 (dk_at dksX8_number_1 23 rfl rfl)
theorem dX8_number_48 : decode cX8_number 48 = .ok (.getfield 60, 3) := dk_180 0 60 (dk_at dksX8_number_2 0 rfl rfl)
theorem dX8_number_51 : decode cX8_number 51 = .ok (.ifCond .ne 10, 3) := dk_154 0 10 (dk_at dksX8_number_2 3 rfl rfl)
theorem dX8_number_54 : decode cX8_number 54 = .ok (.aload_n 0, 1) := dk_42 (dk_at dksX8_number_2 6 rfl rfl)
theorem dX8_number_55 : decode cX8_number 55 = .ok (.getfield 79, 3) := dk_180 0 79 (dk_at dksX8_number_2 7 rfl rfl)
theorem dX8_number_58 : decode cX8_number 58 = .ok (.goto 4, 3) := dk_167 0 4 (dk_at dksX8_number_2 10 rfl rfl)
theorem dX8_number_61 : decode cX8_number 61 = .ok (.iload_n 1, 1) := dk_27 (dk_at dksX8_number_2 13 rfl rfl)
theorem dX8_number_62 : decode cX8_number 62 = .ok (.istore_n 3, 1) := dk_62 (dk_at dksX8_number_2 14 rfl rfl)
theorem dX8_number_63 : decode cX8_number 63 = .ok (.aload_n 0, 1) := dk_42 (dk_at dksX8_number_2 15 rfl rfl)
theorem dX8_number_64 : decode cX8_number 64 = .ok (.invokevirtual 94, 3) := dk_182 0 94 (dk_at dksX8_number_2 16 rfl rfl)
theorem dX8_number_67 : decode cX8_number 67 = .ok (.iload_n 3, 1) := dk_29 (dk_at dksX8_number_2 19 rfl rfl)
theorem dX8_number_68 : decode cX8_number 68 = .ok (.ireturn, 1) := dk_172 (dk_at dksX8_number_2 20 rfl rfl)
abbrev cX8_fault : ByteArray := prog_12_method_14_code
def yX8_fault : MethodName := ⟨RX8, "fault", "()I"⟩
theorem dX8_fault_0 : decode cX8_fault 0 = .ok (.aload_n 0, 1) := by decide +kernel
theorem dX8_fault_1 : decode cX8_fault 1 = .ok (.getfield 117, 3) := by decide +kernel
theorem dX8_fault_4 : decode cX8_fault 4 = .ok (.ireturn, 1) := by decide +kernel
abbrev cX8_rule : ByteArray := prog_12_method_24_code
def yX8_rule : MethodName := ⟨RX8, "rule", "(I)I"⟩
def dkwX8_rule_5 : List UInt8 := [16, 17, 42, 180, 0, 7, 16, 36, 46, 28, 112, 96, 46, 172, 2, 172]
abbrev dktX8_rule_5 : List UInt8 := dkwX8_rule_5 ++ []
def dkwX8_rule_4 : List UInt8 := [16, 35, 46, 172, 42, 3, 182, 0, 131, 172, 28, 154, 0, 8, 16, 252, 167, 0, 20, 42, 180, 0, 7]
abbrev dktX8_rule_4 : List UInt8 := dkwX8_rule_4 ++ dktX8_rule_5
def dkwX8_rule_3 : List UInt8 := [46, 172, 42, 180, 0, 7, 16, 38, 46, 172, 42, 180, 0, 7, 16, 34, 46, 8, 96, 172, 42, 180, 0, 7]
abbrev dktX8_rule_3 : List UInt8 := dkwX8_rule_3 ++ dktX8_rule_4
def dkwX8_rule_2 : List UInt8 := [42, 180, 0, 7, 16, 16, 46, 172, 28, 172, 42, 180, 0, 7, 16, 36, 46, 172, 42, 180, 0, 7, 16, 37]
abbrev dktX8_rule_2 : List UInt8 := dkwX8_rule_2 ++ dktX8_rule_3
def dkwX8_rule_1 : List UInt8 := [170, 0, 0, 0, 0, 0, 136, 0, 0, 0, 0, 0, 0, 0, 8, 0, 0, 0, 51, 0, 0, 0, 59, 0, 0, 0, 61, 0, 0, 0, 69, 0, 0, 0, 77, 0, 0, 0, 85, 0, 0, 0, 95, 0, 0, 0, 103, 0, 0, 0, 109]
abbrev dktX8_rule_1 : List UInt8 := dkwX8_rule_1 ++ dktX8_rule_2
def dkwX8_rule_0 : List UInt8 := [42, 180, 0, 7, 16, 33, 46, 61, 27]
abbrev dktX8_rule_0 : List UInt8 := dkwX8_rule_0 ++ dktX8_rule_1
theorem dksX8_rule_0 : cX8_rule.data.toList.drop 0 = dktX8_rule_0 := by decide +kernel
theorem dksX8_rule_1 : cX8_rule.data.toList.drop 9 = dktX8_rule_1 := dk_seg dksX8_rule_0 9 rfl rfl
theorem dksX8_rule_2 : cX8_rule.data.toList.drop 60 = dktX8_rule_2 := dk_seg dksX8_rule_1 51 rfl rfl
theorem dksX8_rule_3 : cX8_rule.data.toList.drop 84 = dktX8_rule_3 := dk_seg dksX8_rule_2 24 rfl rfl
theorem dksX8_rule_4 : cX8_rule.data.toList.drop 108 = dktX8_rule_4 := dk_seg dksX8_rule_3 24 rfl rfl
theorem dksX8_rule_5 : cX8_rule.data.toList.drop 131 = dktX8_rule_5 := dk_seg dksX8_rule_4 23 rfl rfl
theorem dX8_rule_0 : decode cX8_rule 0 = .ok (.aload_n 0, 1) := dk_42 (dk_at dksX8_rule_0 0 rfl rfl)
theorem dX8_rule_1 : decode cX8_rule 1 = .ok (.getfield 7, 3) := dk_180 0 7 (dk_at dksX8_rule_0 1 rfl rfl)
theorem dX8_rule_4 : decode cX8_rule 4 = .ok (.bipush 33, 2) := dk_16 33 (dk_at dksX8_rule_0 4 rfl rfl)
theorem dX8_rule_6 : decode cX8_rule 6 = .ok (.iaload, 1) := dk_46 (dk_at dksX8_rule_0 6 rfl rfl)
theorem dX8_rule_7 : decode cX8_rule 7 = .ok (.istore_n 2, 1) := dk_61 (dk_at dksX8_rule_0 7 rfl rfl)
theorem dX8_rule_8 : decode cX8_rule 8 = .ok (.iload_n 1, 1) := dk_27 (dk_at dksX8_rule_0 8 rfl rfl)
theorem dX8_rule_9 : decode cX8_rule 9 = .ok (.tableswitch 136 0 8 #[51, 59, 61, 69, 77, 85, 95, 103, 109], 51) := by decide +kernel
theorem dX8_rule_60 : decode cX8_rule 60 = .ok (.aload_n 0, 1) := dk_42 (dk_at dksX8_rule_2 0 rfl rfl)
theorem dX8_rule_61 : decode cX8_rule 61 = .ok (.getfield 7, 3) := dk_180 0 7 (dk_at dksX8_rule_2 1 rfl rfl)
theorem dX8_rule_64 : decode cX8_rule 64 = .ok (.bipush 16, 2) := dk_16 16 (dk_at dksX8_rule_2 4 rfl rfl)
theorem dX8_rule_66 : decode cX8_rule 66 = .ok (.iaload, 1) := dk_46 (dk_at dksX8_rule_2 6 rfl rfl)
theorem dX8_rule_67 : decode cX8_rule 67 = .ok (.ireturn, 1) := dk_172 (dk_at dksX8_rule_2 7 rfl rfl)
theorem dX8_rule_68 : decode cX8_rule 68 = .ok (.iload_n 2, 1) := dk_28 (dk_at dksX8_rule_2 8 rfl rfl)
theorem dX8_rule_69 : decode cX8_rule 69 = .ok (.ireturn, 1) := dk_172 (dk_at dksX8_rule_2 9 rfl rfl)
theorem dX8_rule_70 : decode cX8_rule 70 = .ok (.aload_n 0, 1) := dk_42 (dk_at dksX8_rule_2 10 rfl rfl)
theorem dX8_rule_71 : decode cX8_rule 71 = .ok (.getfield 7, 3) := dk_180 0 7 (dk_at dksX8_rule_2 11 rfl rfl)
theorem dX8_rule_74 : decode cX8_rule 74 = .ok (.bipush 36, 2) := dk_16 36 (dk_at dksX8_rule_2 14 rfl rfl)
theorem dX8_rule_76 : decode cX8_rule 76 = .ok (.iaload, 1) := dk_46 (dk_at dksX8_rule_2 16 rfl rfl)
theorem dX8_rule_77 : decode cX8_rule 77 = .ok (.ireturn, 1) := dk_172 (dk_at dksX8_rule_2 17 rfl rfl)
theorem dX8_rule_78 : decode cX8_rule 78 = .ok (.aload_n 0, 1) := dk_42 (dk_at dksX8_rule_2 18 rfl rfl)
theorem dX8_rule_79 : decode cX8_rule 79 = .ok (.getfield 7, 3) := dk_180 0 7 (dk_at dksX8_rule_2 19 rfl rfl)
theorem dX8_rule_82 : decode cX8_rule 82 = .ok (.bipush 37, 2) := dk_16 37 (dk_at dksX8_rule_2 22 rfl rfl)
theorem dX8_rule_84 : decode cX8_rule 84 = .ok (.iaload, 1) := dk_46 (dk_at dksX8_rule_3 0 rfl rfl)
theorem dX8_rule_85 : decode cX8_rule 85 = .ok (.ireturn, 1) := dk_172 (dk_at dksX8_rule_3 1 rfl rfl)
theorem dX8_rule_86 : decode cX8_rule 86 = .ok (.aload_n 0, 1) := dk_42 (dk_at dksX8_rule_3 2 rfl rfl)
theorem dX8_rule_87 : decode cX8_rule 87 = .ok (.getfield 7, 3) := dk_180 0 7 (dk_at dksX8_rule_3 3 rfl rfl)
theorem dX8_rule_90 : decode cX8_rule 90 = .ok (.bipush 38, 2) := dk_16 38 (dk_at dksX8_rule_3 6 rfl rfl)
theorem dX8_rule_92 : decode cX8_rule 92 = .ok (.iaload, 1) := dk_46 (dk_at dksX8_rule_3 8 rfl rfl)
theorem dX8_rule_93 : decode cX8_rule 93 = .ok (.ireturn, 1) := dk_172 (dk_at dksX8_rule_3 9 rfl rfl)
theorem dX8_rule_94 : decode cX8_rule 94 = .ok (.aload_n 0, 1) := dk_42 (dk_at dksX8_rule_3 10 rfl rfl)
theorem dX8_rule_95 : decode cX8_rule 95 = .ok (.getfield 7, 3) := dk_180 0 7 (dk_at dksX8_rule_3 11 rfl rfl)
theorem dX8_rule_98 : decode cX8_rule 98 = .ok (.bipush 34, 2) := dk_16 34 (dk_at dksX8_rule_3 14 rfl rfl)
theorem dX8_rule_100 : decode cX8_rule 100 = .ok (.iaload, 1) := dk_46 (dk_at dksX8_rule_3 16 rfl rfl)
theorem dX8_rule_101 : decode cX8_rule 101 = .ok (.iconst 5, 1) := dk_8 (dk_at dksX8_rule_3 17 rfl rfl)
theorem dX8_rule_102 : decode cX8_rule 102 = .ok (.iadd, 1) := dk_96 (dk_at dksX8_rule_3 18 rfl rfl)
theorem dX8_rule_103 : decode cX8_rule 103 = .ok (.ireturn, 1) := dk_172 (dk_at dksX8_rule_3 19 rfl rfl)
theorem dX8_rule_104 : decode cX8_rule 104 = .ok (.aload_n 0, 1) := dk_42 (dk_at dksX8_rule_3 20 rfl rfl)
theorem dX8_rule_105 : decode cX8_rule 105 = .ok (.getfield 7, 3) := dk_180 0 7 (dk_at dksX8_rule_3 21 rfl rfl)
theorem dX8_rule_108 : decode cX8_rule 108 = .ok (.bipush 35, 2) := dk_16 35 (dk_at dksX8_rule_4 0 rfl rfl)
theorem dX8_rule_110 : decode cX8_rule 110 = .ok (.iaload, 1) := dk_46 (dk_at dksX8_rule_4 2 rfl rfl)
theorem dX8_rule_111 : decode cX8_rule 111 = .ok (.ireturn, 1) := dk_172 (dk_at dksX8_rule_4 3 rfl rfl)
theorem dX8_rule_112 : decode cX8_rule 112 = .ok (.aload_n 0, 1) := dk_42 (dk_at dksX8_rule_4 4 rfl rfl)
theorem dX8_rule_113 : decode cX8_rule 113 = .ok (.iconst 0, 1) := dk_3 (dk_at dksX8_rule_4 5 rfl rfl)
theorem dX8_rule_114 : decode cX8_rule 114 = .ok (.invokevirtual 131, 3) := dk_182 0 131 (dk_at dksX8_rule_4 6 rfl rfl)
theorem dX8_rule_117 : decode cX8_rule 117 = .ok (.ireturn, 1) := dk_172 (dk_at dksX8_rule_4 9 rfl rfl)
theorem dX8_rule_118 : decode cX8_rule 118 = .ok (.iload_n 2, 1) := dk_28 (dk_at dksX8_rule_4 10 rfl rfl)
theorem dX8_rule_119 : decode cX8_rule 119 = .ok (.ifCond .ne 8, 3) := dk_154 0 8 (dk_at dksX8_rule_4 11 rfl rfl)
theorem dX8_rule_122 : decode cX8_rule 122 = .ok (.bipush (-4), 2) := dk_16 252 (dk_at dksX8_rule_4 14 rfl rfl)
theorem dX8_rule_124 : decode cX8_rule 124 = .ok (.goto 20, 3) := dk_167 0 20 (dk_at dksX8_rule_4 16 rfl rfl)
theorem dX8_rule_127 : decode cX8_rule 127 = .ok (.aload_n 0, 1) := dk_42 (dk_at dksX8_rule_4 19 rfl rfl)
theorem dX8_rule_128 : decode cX8_rule 128 = .ok (.getfield 7, 3) := dk_180 0 7 (dk_at dksX8_rule_4 20 rfl rfl)
theorem dX8_rule_131 : decode cX8_rule 131 = .ok (.bipush 17, 2) := dk_16 17 (dk_at dksX8_rule_5 0 rfl rfl)
theorem dX8_rule_133 : decode cX8_rule 133 = .ok (.aload_n 0, 1) := dk_42 (dk_at dksX8_rule_5 2 rfl rfl)
theorem dX8_rule_134 : decode cX8_rule 134 = .ok (.getfield 7, 3) := dk_180 0 7 (dk_at dksX8_rule_5 3 rfl rfl)
theorem dX8_rule_137 : decode cX8_rule 137 = .ok (.bipush 36, 2) := dk_16 36 (dk_at dksX8_rule_5 6 rfl rfl)
theorem dX8_rule_139 : decode cX8_rule 139 = .ok (.iaload, 1) := dk_46 (dk_at dksX8_rule_5 8 rfl rfl)
theorem dX8_rule_140 : decode cX8_rule 140 = .ok (.iload_n 2, 1) := dk_28 (dk_at dksX8_rule_5 9 rfl rfl)
theorem dX8_rule_141 : decode cX8_rule 141 = .ok (.irem, 1) := dk_112 (dk_at dksX8_rule_5 10 rfl rfl)
theorem dX8_rule_142 : decode cX8_rule 142 = .ok (.iadd, 1) := dk_96 (dk_at dksX8_rule_5 11 rfl rfl)
theorem dX8_rule_143 : decode cX8_rule 143 = .ok (.iaload, 1) := dk_46 (dk_at dksX8_rule_5 12 rfl rfl)
theorem dX8_rule_144 : decode cX8_rule 144 = .ok (.ireturn, 1) := dk_172 (dk_at dksX8_rule_5 13 rfl rfl)
theorem dX8_rule_145 : decode cX8_rule 145 = .ok (.iconst (-1), 1) := dk_2 (dk_at dksX8_rule_5 14 rfl rfl)
theorem dX8_rule_146 : decode cX8_rule 146 = .ok (.ireturn, 1) := dk_172 (dk_at dksX8_rule_5 15 rfl rfl)
abbrev cX8_speedOn : ByteArray := prog_12_method_19_code
def yX8_speedOn : MethodName := ⟨RX8, "speedOn", "(I)I"⟩
def dkwX8_speedOn_0 : List UInt8 := [42, 180, 0, 7, 27, 16, 35, 96, 46, 42, 180, 0, 7, 27, 16, 34, 96, 46, 8, 96, 108, 172]
abbrev dktX8_speedOn_0 : List UInt8 := dkwX8_speedOn_0 ++ []
theorem dksX8_speedOn_0 : cX8_speedOn.data.toList.drop 0 = dktX8_speedOn_0 := by decide +kernel
theorem dX8_speedOn_0 : decode cX8_speedOn 0 = .ok (.aload_n 0, 1) := dk_42 (dk_at dksX8_speedOn_0 0 rfl rfl)
theorem dX8_speedOn_1 : decode cX8_speedOn 1 = .ok (.getfield 7, 3) := dk_180 0 7 (dk_at dksX8_speedOn_0 1 rfl rfl)
theorem dX8_speedOn_4 : decode cX8_speedOn 4 = .ok (.iload_n 1, 1) := dk_27 (dk_at dksX8_speedOn_0 4 rfl rfl)
theorem dX8_speedOn_5 : decode cX8_speedOn 5 = .ok (.bipush 35, 2) := dk_16 35 (dk_at dksX8_speedOn_0 5 rfl rfl)
theorem dX8_speedOn_7 : decode cX8_speedOn 7 = .ok (.iadd, 1) := dk_96 (dk_at dksX8_speedOn_0 7 rfl rfl)
theorem dX8_speedOn_8 : decode cX8_speedOn 8 = .ok (.iaload, 1) := dk_46 (dk_at dksX8_speedOn_0 8 rfl rfl)
theorem dX8_speedOn_9 : decode cX8_speedOn 9 = .ok (.aload_n 0, 1) := dk_42 (dk_at dksX8_speedOn_0 9 rfl rfl)
theorem dX8_speedOn_10 : decode cX8_speedOn 10 = .ok (.getfield 7, 3) := dk_180 0 7 (dk_at dksX8_speedOn_0 10 rfl rfl)
theorem dX8_speedOn_13 : decode cX8_speedOn 13 = .ok (.iload_n 1, 1) := dk_27 (dk_at dksX8_speedOn_0 13 rfl rfl)
theorem dX8_speedOn_14 : decode cX8_speedOn 14 = .ok (.bipush 34, 2) := dk_16 34 (dk_at dksX8_speedOn_0 14 rfl rfl)
theorem dX8_speedOn_16 : decode cX8_speedOn 16 = .ok (.iadd, 1) := dk_96 (dk_at dksX8_speedOn_0 16 rfl rfl)
theorem dX8_speedOn_17 : decode cX8_speedOn 17 = .ok (.iaload, 1) := dk_46 (dk_at dksX8_speedOn_0 17 rfl rfl)
theorem dX8_speedOn_18 : decode cX8_speedOn 18 = .ok (.iconst 5, 1) := dk_8 (dk_at dksX8_speedOn_0 18 rfl rfl)
theorem dX8_speedOn_19 : decode cX8_speedOn 19 = .ok (.iadd, 1) := dk_96 (dk_at dksX8_speedOn_0 19 rfl rfl)
theorem dX8_speedOn_20 : decode cX8_speedOn 20 = .ok (.idiv, 1) := dk_108 (dk_at dksX8_speedOn_0 20 rfl rfl)
theorem dX8_speedOn_21 : decode cX8_speedOn 21 = .ok (.ireturn, 1) := dk_172 (dk_at dksX8_speedOn_0 21 rfl rfl)
abbrev cX8_wheel : ByteArray := prog_12_method_25_code
def yX8_wheel : MethodName := ⟨RX8, "wheel", "(II)I"⟩
def dkwX8_wheel_3 : List UInt8 := [182, 0, 125, 172]
abbrev dktX8_wheel_3 : List UInt8 := dkwX8_wheel_3 ++ []
def dkwX8_wheel_2 : List UInt8 := [180, 0, 7, 16, 12, 27, 96, 46, 42, 180, 0, 7, 7, 27, 96, 46, 108, 167, 0, 9, 42, 3, 27]
abbrev dktX8_wheel_2 : List UInt8 := dkwX8_wheel_2 ++ dktX8_wheel_3
def dkwX8_wheel_1 : List UInt8 := [162, 0, 16, 42, 180, 0, 7, 7, 28, 104, 27, 96, 46, 167, 0, 35, 28, 7, 160, 0, 24, 42]
abbrev dktX8_wheel_1 : List UInt8 := dkwX8_wheel_1 ++ dktX8_wheel_2
def dkwX8_wheel_0 : List UInt8 := [42, 27, 182, 0, 144, 153, 0, 15, 28, 133, 9, 20, 0, 148, 184, 0, 53, 154, 0, 5, 2, 172, 28, 7]
abbrev dktX8_wheel_0 : List UInt8 := dkwX8_wheel_0 ++ dktX8_wheel_1
theorem dksX8_wheel_0 : cX8_wheel.data.toList.drop 0 = dktX8_wheel_0 := by decide +kernel
theorem dksX8_wheel_1 : cX8_wheel.data.toList.drop 24 = dktX8_wheel_1 := dk_seg dksX8_wheel_0 24 rfl rfl
theorem dksX8_wheel_2 : cX8_wheel.data.toList.drop 46 = dktX8_wheel_2 := dk_seg dksX8_wheel_1 22 rfl rfl
theorem dksX8_wheel_3 : cX8_wheel.data.toList.drop 69 = dktX8_wheel_3 := dk_seg dksX8_wheel_2 23 rfl rfl
theorem dX8_wheel_0 : decode cX8_wheel 0 = .ok (.aload_n 0, 1) := dk_42 (dk_at dksX8_wheel_0 0 rfl rfl)
theorem dX8_wheel_1 : decode cX8_wheel 1 = .ok (.iload_n 1, 1) := dk_27 (dk_at dksX8_wheel_0 1 rfl rfl)
theorem dX8_wheel_2 : decode cX8_wheel 2 = .ok (.invokevirtual 144, 3) := dk_182 0 144 (dk_at dksX8_wheel_0 2 rfl rfl)
theorem dX8_wheel_5 : decode cX8_wheel 5 = .ok (.ifCond .eq 15, 3) := dk_153 0 15 (dk_at dksX8_wheel_0 5 rfl rfl)
theorem dX8_wheel_8 : decode cX8_wheel 8 = .ok (.iload_n 2, 1) := dk_28 (dk_at dksX8_wheel_0 8 rfl rfl)
theorem dX8_wheel_9 : decode cX8_wheel 9 = .ok (.i2l, 1) := dk_133 (dk_at dksX8_wheel_0 9 rfl rfl)
theorem dX8_wheel_10 : decode cX8_wheel 10 = .ok (.lconst 0, 1) := dk_9 (dk_at dksX8_wheel_0 10 rfl rfl)
theorem dX8_wheel_11 : decode cX8_wheel 11 = .ok (.ldc2_w 148, 3) := dk_20 0 148 (dk_at dksX8_wheel_0 11 rfl rfl)
theorem dX8_wheel_14 : decode cX8_wheel 14 = .ok (.invokestatic 53, 3) := dk_184 0 53 (dk_at dksX8_wheel_0 14 rfl rfl)
theorem dX8_wheel_17 : decode cX8_wheel 17 = .ok (.ifCond .ne 5, 3) := dk_154 0 5 (dk_at dksX8_wheel_0 17 rfl rfl)
theorem dX8_wheel_20 : decode cX8_wheel 20 = .ok (.iconst (-1), 1) := dk_2 (dk_at dksX8_wheel_0 20 rfl rfl)
theorem dX8_wheel_21 : decode cX8_wheel 21 = .ok (.ireturn, 1) := dk_172 (dk_at dksX8_wheel_0 21 rfl rfl)
theorem dX8_wheel_22 : decode cX8_wheel 22 = .ok (.iload_n 2, 1) := dk_28 (dk_at dksX8_wheel_0 22 rfl rfl)
theorem dX8_wheel_23 : decode cX8_wheel 23 = .ok (.iconst 4, 1) := dk_7 (dk_at dksX8_wheel_0 23 rfl rfl)
theorem dX8_wheel_24 : decode cX8_wheel 24 = .ok (.if_icmp .ge 16, 3) := dk_162 0 16 (dk_at dksX8_wheel_1 0 rfl rfl)
theorem dX8_wheel_27 : decode cX8_wheel 27 = .ok (.aload_n 0, 1) := dk_42 (dk_at dksX8_wheel_1 3 rfl rfl)
theorem dX8_wheel_28 : decode cX8_wheel 28 = .ok (.getfield 7, 3) := dk_180 0 7 (dk_at dksX8_wheel_1 4 rfl rfl)
theorem dX8_wheel_31 : decode cX8_wheel 31 = .ok (.iconst 4, 1) := dk_7 (dk_at dksX8_wheel_1 7 rfl rfl)
theorem dX8_wheel_32 : decode cX8_wheel 32 = .ok (.iload_n 2, 1) := dk_28 (dk_at dksX8_wheel_1 8 rfl rfl)
theorem dX8_wheel_33 : decode cX8_wheel 33 = .ok (.imul, 1) := dk_104 (dk_at dksX8_wheel_1 9 rfl rfl)
theorem dX8_wheel_34 : decode cX8_wheel 34 = .ok (.iload_n 1, 1) := dk_27 (dk_at dksX8_wheel_1 10 rfl rfl)
theorem dX8_wheel_35 : decode cX8_wheel 35 = .ok (.iadd, 1) := dk_96 (dk_at dksX8_wheel_1 11 rfl rfl)
theorem dX8_wheel_36 : decode cX8_wheel 36 = .ok (.iaload, 1) := dk_46 (dk_at dksX8_wheel_1 12 rfl rfl)
theorem dX8_wheel_37 : decode cX8_wheel 37 = .ok (.goto 35, 3) := dk_167 0 35 (dk_at dksX8_wheel_1 13 rfl rfl)
theorem dX8_wheel_40 : decode cX8_wheel 40 = .ok (.iload_n 2, 1) := dk_28 (dk_at dksX8_wheel_1 16 rfl rfl)
theorem dX8_wheel_41 : decode cX8_wheel 41 = .ok (.iconst 4, 1) := dk_7 (dk_at dksX8_wheel_1 17 rfl rfl)
theorem dX8_wheel_42 : decode cX8_wheel 42 = .ok (.if_icmp .ne 24, 3) := dk_160 0 24 (dk_at dksX8_wheel_1 18 rfl rfl)
theorem dX8_wheel_45 : decode cX8_wheel 45 = .ok (.aload_n 0, 1) := dk_42 (dk_at dksX8_wheel_1 21 rfl rfl)
theorem dX8_wheel_46 : decode cX8_wheel 46 = .ok (.getfield 7, 3) := dk_180 0 7 (dk_at dksX8_wheel_2 0 rfl rfl)
theorem dX8_wheel_49 : decode cX8_wheel 49 = .ok (.bipush 12, 2) := dk_16 12 (dk_at dksX8_wheel_2 3 rfl rfl)
theorem dX8_wheel_51 : decode cX8_wheel 51 = .ok (.iload_n 1, 1) := dk_27 (dk_at dksX8_wheel_2 5 rfl rfl)
theorem dX8_wheel_52 : decode cX8_wheel 52 = .ok (.iadd, 1) := dk_96 (dk_at dksX8_wheel_2 6 rfl rfl)
theorem dX8_wheel_53 : decode cX8_wheel 53 = .ok (.iaload, 1) := dk_46 (dk_at dksX8_wheel_2 7 rfl rfl)
theorem dX8_wheel_54 : decode cX8_wheel 54 = .ok (.aload_n 0, 1) := dk_42 (dk_at dksX8_wheel_2 8 rfl rfl)
theorem dX8_wheel_55 : decode cX8_wheel 55 = .ok (.getfield 7, 3) := dk_180 0 7 (dk_at dksX8_wheel_2 9 rfl rfl)
theorem dX8_wheel_58 : decode cX8_wheel 58 = .ok (.iconst 4, 1) := dk_7 (dk_at dksX8_wheel_2 12 rfl rfl)
theorem dX8_wheel_59 : decode cX8_wheel 59 = .ok (.iload_n 1, 1) := dk_27 (dk_at dksX8_wheel_2 13 rfl rfl)
theorem dX8_wheel_60 : decode cX8_wheel 60 = .ok (.iadd, 1) := dk_96 (dk_at dksX8_wheel_2 14 rfl rfl)
theorem dX8_wheel_61 : decode cX8_wheel 61 = .ok (.iaload, 1) := dk_46 (dk_at dksX8_wheel_2 15 rfl rfl)
theorem dX8_wheel_62 : decode cX8_wheel 62 = .ok (.idiv, 1) := dk_108 (dk_at dksX8_wheel_2 16 rfl rfl)
theorem dX8_wheel_63 : decode cX8_wheel 63 = .ok (.goto 9, 3) := dk_167 0 9 (dk_at dksX8_wheel_2 17 rfl rfl)
theorem dX8_wheel_66 : decode cX8_wheel 66 = .ok (.aload_n 0, 1) := dk_42 (dk_at dksX8_wheel_2 20 rfl rfl)
theorem dX8_wheel_67 : decode cX8_wheel 67 = .ok (.iconst 0, 1) := dk_3 (dk_at dksX8_wheel_2 21 rfl rfl)
theorem dX8_wheel_68 : decode cX8_wheel 68 = .ok (.iload_n 1, 1) := dk_27 (dk_at dksX8_wheel_2 22 rfl rfl)
theorem dX8_wheel_69 : decode cX8_wheel 69 = .ok (.invokevirtual 125, 3) := dk_182 0 125 (dk_at dksX8_wheel_3 0 rfl rfl)
theorem dX8_wheel_72 : decode cX8_wheel 72 = .ok (.ireturn, 1) := dk_172 (dk_at dksX8_wheel_3 3 rfl rfl)
abbrev cX8_isWheel : ByteArray := prog_12_method_15_code
def yX8_isWheel : MethodName := ⟨RX8, "isWheel", "(I)Z"⟩
def dkwX8_isWheel_0 : List UInt8 := [27, 133, 9, 42, 180, 0, 7, 16, 16, 46, 4, 100, 133, 184, 0, 53, 172]
abbrev dktX8_isWheel_0 : List UInt8 := dkwX8_isWheel_0 ++ []
theorem dksX8_isWheel_0 : cX8_isWheel.data.toList.drop 0 = dktX8_isWheel_0 := by decide +kernel
theorem dX8_isWheel_0 : decode cX8_isWheel 0 = .ok (.iload_n 1, 1) := dk_27 (dk_at dksX8_isWheel_0 0 rfl rfl)
theorem dX8_isWheel_1 : decode cX8_isWheel 1 = .ok (.i2l, 1) := dk_133 (dk_at dksX8_isWheel_0 1 rfl rfl)
theorem dX8_isWheel_2 : decode cX8_isWheel 2 = .ok (.lconst 0, 1) := dk_9 (dk_at dksX8_isWheel_0 2 rfl rfl)
theorem dX8_isWheel_3 : decode cX8_isWheel 3 = .ok (.aload_n 0, 1) := dk_42 (dk_at dksX8_isWheel_0 3 rfl rfl)
theorem dX8_isWheel_4 : decode cX8_isWheel 4 = .ok (.getfield 7, 3) := dk_180 0 7 (dk_at dksX8_isWheel_0 4 rfl rfl)
theorem dX8_isWheel_7 : decode cX8_isWheel 7 = .ok (.bipush 16, 2) := dk_16 16 (dk_at dksX8_isWheel_0 7 rfl rfl)
theorem dX8_isWheel_9 : decode cX8_isWheel 9 = .ok (.iaload, 1) := dk_46 (dk_at dksX8_isWheel_0 9 rfl rfl)
theorem dX8_isWheel_10 : decode cX8_isWheel 10 = .ok (.iconst 1, 1) := dk_4 (dk_at dksX8_isWheel_0 10 rfl rfl)
theorem dX8_isWheel_11 : decode cX8_isWheel 11 = .ok (.isub, 1) := dk_100 (dk_at dksX8_isWheel_0 11 rfl rfl)
theorem dX8_isWheel_12 : decode cX8_isWheel 12 = .ok (.i2l, 1) := dk_133 (dk_at dksX8_isWheel_0 12 rfl rfl)
theorem dX8_isWheel_13 : decode cX8_isWheel 13 = .ok (.invokestatic 53, 3) := dk_184 0 53 (dk_at dksX8_isWheel_0 13 rfl rfl)
theorem dX8_isWheel_16 : decode cX8_isWheel 16 = .ok (.ireturn, 1) := dk_172 (dk_at dksX8_isWheel_0 16 rfl rfl)
abbrev cX8_joinedOn : ByteArray := prog_12_method_18_code
def yX8_joinedOn : MethodName := ⟨RX8, "joinedOn", "(II)I"⟩
def dkwX8_joinedOn_5 : List UInt8 := [164, 0, 11, 21, 4, 16, 20, 96, 167, 0, 5, 21, 7, 172]
abbrev dktX8_joinedOn_5 : List UInt8 := dkwX8_joinedOn_5 ++ []
def dkwX8_joinedOn_4 : List UInt8 := [164, 0, 8, 21, 6, 167, 0, 5, 21, 4, 54, 7, 29, 6, 160, 0, 21, 21, 7, 21, 4, 16, 20, 96]
abbrev dktX8_joinedOn_4 : List UInt8 := dkwX8_joinedOn_4 ++ dktX8_joinedOn_5
def dkwX8_joinedOn_3 : List UInt8 := [21, 6, 172, 29, 4, 160, 0, 14, 21, 4, 21, 6, 21, 4, 100, 5, 108, 96, 172, 21, 6, 21, 4]
abbrev dktX8_joinedOn_3 : List UInt8 := dkwX8_joinedOn_3 ++ dktX8_joinedOn_4
def dkwX8_joinedOn_2 : List UInt8 := [21, 5, 104, 21, 5, 42, 180, 0, 7, 27, 16, 34, 96, 46, 96, 8, 96, 108, 54, 6, 29, 154, 0, 6]
abbrev dktX8_joinedOn_2 : List UInt8 := dkwX8_joinedOn_2 ++ dktX8_joinedOn_3
def dkwX8_joinedOn_1 : List UInt8 := [180, 0, 7, 27, 7, 96, 28, 96, 46, 54, 5, 21, 4, 42, 180, 0, 7, 27, 16, 35, 96, 46, 96]
abbrev dktX8_joinedOn_1 : List UInt8 := dkwX8_joinedOn_1 ++ dktX8_joinedOn_2
def dkwX8_joinedOn_0 : List UInt8 := [42, 180, 0, 7, 27, 28, 96, 46, 62, 42, 180, 0, 7, 27, 16, 12, 96, 28, 96, 46, 54, 4, 42]
abbrev dktX8_joinedOn_0 : List UInt8 := dkwX8_joinedOn_0 ++ dktX8_joinedOn_1
theorem dksX8_joinedOn_0 : cX8_joinedOn.data.toList.drop 0 = dktX8_joinedOn_0 := by decide +kernel
theorem dksX8_joinedOn_1 : cX8_joinedOn.data.toList.drop 23 = dktX8_joinedOn_1 := dk_seg dksX8_joinedOn_0 23 rfl rfl
theorem dksX8_joinedOn_2 : cX8_joinedOn.data.toList.drop 46 = dktX8_joinedOn_2 := dk_seg dksX8_joinedOn_1 23 rfl rfl
theorem dksX8_joinedOn_3 : cX8_joinedOn.data.toList.drop 70 = dktX8_joinedOn_3 := dk_seg dksX8_joinedOn_2 24 rfl rfl
theorem dksX8_joinedOn_4 : cX8_joinedOn.data.toList.drop 93 = dktX8_joinedOn_4 := dk_seg dksX8_joinedOn_3 23 rfl rfl
theorem dksX8_joinedOn_5 : cX8_joinedOn.data.toList.drop 117 = dktX8_joinedOn_5 := dk_seg dksX8_joinedOn_4 24 rfl rfl
theorem dX8_joinedOn_0 : decode cX8_joinedOn 0 = .ok (.aload_n 0, 1) := dk_42 (dk_at dksX8_joinedOn_0 0 rfl rfl)
theorem dX8_joinedOn_1 : decode cX8_joinedOn 1 = .ok (.getfield 7, 3) := dk_180 0 7 (dk_at dksX8_joinedOn_0 1 rfl rfl)
theorem dX8_joinedOn_4 : decode cX8_joinedOn 4 = .ok (.iload_n 1, 1) := dk_27 (dk_at dksX8_joinedOn_0 4 rfl rfl)
theorem dX8_joinedOn_5 : decode cX8_joinedOn 5 = .ok (.iload_n 2, 1) := dk_28 (dk_at dksX8_joinedOn_0 5 rfl rfl)
theorem dX8_joinedOn_6 : decode cX8_joinedOn 6 = .ok (.iadd, 1) := dk_96 (dk_at dksX8_joinedOn_0 6 rfl rfl)
theorem dX8_joinedOn_7 : decode cX8_joinedOn 7 = .ok (.iaload, 1) := dk_46 (dk_at dksX8_joinedOn_0 7 rfl rfl)
theorem dX8_joinedOn_8 : decode cX8_joinedOn 8 = .ok (.istore_n 3, 1) := dk_62 (dk_at dksX8_joinedOn_0 8 rfl rfl)
theorem dX8_joinedOn_9 : decode cX8_joinedOn 9 = .ok (.aload_n 0, 1) := dk_42 (dk_at dksX8_joinedOn_0 9 rfl rfl)
theorem dX8_joinedOn_10 : decode cX8_joinedOn 10 = .ok (.getfield 7, 3) := dk_180 0 7 (dk_at dksX8_joinedOn_0 10 rfl rfl)
theorem dX8_joinedOn_13 : decode cX8_joinedOn 13 = .ok (.iload_n 1, 1) := dk_27 (dk_at dksX8_joinedOn_0 13 rfl rfl)
theorem dX8_joinedOn_14 : decode cX8_joinedOn 14 = .ok (.bipush 12, 2) := dk_16 12 (dk_at dksX8_joinedOn_0 14 rfl rfl)
theorem dX8_joinedOn_16 : decode cX8_joinedOn 16 = .ok (.iadd, 1) := dk_96 (dk_at dksX8_joinedOn_0 16 rfl rfl)
theorem dX8_joinedOn_17 : decode cX8_joinedOn 17 = .ok (.iload_n 2, 1) := dk_28 (dk_at dksX8_joinedOn_0 17 rfl rfl)
theorem dX8_joinedOn_18 : decode cX8_joinedOn 18 = .ok (.iadd, 1) := dk_96 (dk_at dksX8_joinedOn_0 18 rfl rfl)
theorem dX8_joinedOn_19 : decode cX8_joinedOn 19 = .ok (.iaload, 1) := dk_46 (dk_at dksX8_joinedOn_0 19 rfl rfl)
theorem dX8_joinedOn_20 : decode cX8_joinedOn 20 = .ok (.istore 4, 2) := dk_54 4 (dk_at dksX8_joinedOn_0 20 rfl rfl)
theorem dX8_joinedOn_22 : decode cX8_joinedOn 22 = .ok (.aload_n 0, 1) := dk_42 (dk_at dksX8_joinedOn_0 22 rfl rfl)
theorem dX8_joinedOn_23 : decode cX8_joinedOn 23 = .ok (.getfield 7, 3) := dk_180 0 7 (dk_at dksX8_joinedOn_1 0 rfl rfl)
theorem dX8_joinedOn_26 : decode cX8_joinedOn 26 = .ok (.iload_n 1, 1) := dk_27 (dk_at dksX8_joinedOn_1 3 rfl rfl)
theorem dX8_joinedOn_27 : decode cX8_joinedOn 27 = .ok (.iconst 4, 1) := dk_7 (dk_at dksX8_joinedOn_1 4 rfl rfl)
theorem dX8_joinedOn_28 : decode cX8_joinedOn 28 = .ok (.iadd, 1) := dk_96 (dk_at dksX8_joinedOn_1 5 rfl rfl)
theorem dX8_joinedOn_29 : decode cX8_joinedOn 29 = .ok (.iload_n 2, 1) := dk_28 (dk_at dksX8_joinedOn_1 6 rfl rfl)
theorem dX8_joinedOn_30 : decode cX8_joinedOn 30 = .ok (.iadd, 1) := dk_96 (dk_at dksX8_joinedOn_1 7 rfl rfl)
theorem dX8_joinedOn_31 : decode cX8_joinedOn 31 = .ok (.iaload, 1) := dk_46 (dk_at dksX8_joinedOn_1 8 rfl rfl)
theorem dX8_joinedOn_32 : decode cX8_joinedOn 32 = .ok (.istore 5, 2) := dk_54 5 (dk_at dksX8_joinedOn_1 9 rfl rfl)
theorem dX8_joinedOn_34 : decode cX8_joinedOn 34 = .ok (.iload 4, 2) := dk_21 4 (dk_at dksX8_joinedOn_1 11 rfl rfl)
theorem dX8_joinedOn_36 : decode cX8_joinedOn 36 = .ok (.aload_n 0, 1) := dk_42 (dk_at dksX8_joinedOn_1 13 rfl rfl)
theorem dX8_joinedOn_37 : decode cX8_joinedOn 37 = .ok (.getfield 7, 3) := dk_180 0 7 (dk_at dksX8_joinedOn_1 14 rfl rfl)
theorem dX8_joinedOn_40 : decode cX8_joinedOn 40 = .ok (.iload_n 1, 1) := dk_27 (dk_at dksX8_joinedOn_1 17 rfl rfl)
theorem dX8_joinedOn_41 : decode cX8_joinedOn 41 = .ok (.bipush 35, 2) := dk_16 35 (dk_at dksX8_joinedOn_1 18 rfl rfl)
theorem dX8_joinedOn_43 : decode cX8_joinedOn 43 = .ok (.iadd, 1) := dk_96 (dk_at dksX8_joinedOn_1 20 rfl rfl)
theorem dX8_joinedOn_44 : decode cX8_joinedOn 44 = .ok (.iaload, 1) := dk_46 (dk_at dksX8_joinedOn_1 21 rfl rfl)
theorem dX8_joinedOn_45 : decode cX8_joinedOn 45 = .ok (.iadd, 1) := dk_96 (dk_at dksX8_joinedOn_1 22 rfl rfl)
theorem dX8_joinedOn_46 : decode cX8_joinedOn 46 = .ok (.iload 5, 2) := dk_21 5 (dk_at dksX8_joinedOn_2 0 rfl rfl)
theorem dX8_joinedOn_48 : decode cX8_joinedOn 48 = .ok (.imul, 1) := dk_104 (dk_at dksX8_joinedOn_2 2 rfl rfl)
theorem dX8_joinedOn_49 : decode cX8_joinedOn 49 = .ok (.iload 5, 2) := dk_21 5 (dk_at dksX8_joinedOn_2 3 rfl rfl)
theorem dX8_joinedOn_51 : decode cX8_joinedOn 51 = .ok (.aload_n 0, 1) := dk_42 (dk_at dksX8_joinedOn_2 5 rfl rfl)
theorem dX8_joinedOn_52 : decode cX8_joinedOn 52 = .ok (.getfield 7, 3) := dk_180 0 7 (dk_at dksX8_joinedOn_2 6 rfl rfl)
theorem dX8_joinedOn_55 : decode cX8_joinedOn 55 = .ok (.iload_n 1, 1) := dk_27 (dk_at dksX8_joinedOn_2 9 rfl rfl)
theorem dX8_joinedOn_56 : decode cX8_joinedOn 56 = .ok (.bipush 34, 2) := dk_16 34 (dk_at dksX8_joinedOn_2 10 rfl rfl)
theorem dX8_joinedOn_58 : decode cX8_joinedOn 58 = .ok (.iadd, 1) := dk_96 (dk_at dksX8_joinedOn_2 12 rfl rfl)
theorem dX8_joinedOn_59 : decode cX8_joinedOn 59 = .ok (.iaload, 1) := dk_46 (dk_at dksX8_joinedOn_2 13 rfl rfl)
theorem dX8_joinedOn_60 : decode cX8_joinedOn 60 = .ok (.iadd, 1) := dk_96 (dk_at dksX8_joinedOn_2 14 rfl rfl)
theorem dX8_joinedOn_61 : decode cX8_joinedOn 61 = .ok (.iconst 5, 1) := dk_8 (dk_at dksX8_joinedOn_2 15 rfl rfl)
theorem dX8_joinedOn_62 : decode cX8_joinedOn 62 = .ok (.iadd, 1) := dk_96 (dk_at dksX8_joinedOn_2 16 rfl rfl)
theorem dX8_joinedOn_63 : decode cX8_joinedOn 63 = .ok (.idiv, 1) := dk_108 (dk_at dksX8_joinedOn_2 17 rfl rfl)
theorem dX8_joinedOn_64 : decode cX8_joinedOn 64 = .ok (.istore 6, 2) := dk_54 6 (dk_at dksX8_joinedOn_2 18 rfl rfl)
theorem dX8_joinedOn_66 : decode cX8_joinedOn 66 = .ok (.iload_n 3, 1) := dk_29 (dk_at dksX8_joinedOn_2 20 rfl rfl)
theorem dX8_joinedOn_67 : decode cX8_joinedOn 67 = .ok (.ifCond .ne 6, 3) := dk_154 0 6 (dk_at dksX8_joinedOn_2 21 rfl rfl)
theorem dX8_joinedOn_70 : decode cX8_joinedOn 70 = .ok (.iload 6, 2) := dk_21 6 (dk_at dksX8_joinedOn_3 0 rfl rfl)
theorem dX8_joinedOn_72 : decode cX8_joinedOn 72 = .ok (.ireturn, 1) := dk_172 (dk_at dksX8_joinedOn_3 2 rfl rfl)
theorem dX8_joinedOn_73 : decode cX8_joinedOn 73 = .ok (.iload_n 3, 1) := dk_29 (dk_at dksX8_joinedOn_3 3 rfl rfl)
theorem dX8_joinedOn_74 : decode cX8_joinedOn 74 = .ok (.iconst 1, 1) := dk_4 (dk_at dksX8_joinedOn_3 4 rfl rfl)
theorem dX8_joinedOn_75 : decode cX8_joinedOn 75 = .ok (.if_icmp .ne 14, 3) := dk_160 0 14 (dk_at dksX8_joinedOn_3 5 rfl rfl)
theorem dX8_joinedOn_78 : decode cX8_joinedOn 78 = .ok (.iload 4, 2) := dk_21 4 (dk_at dksX8_joinedOn_3 8 rfl rfl)
theorem dX8_joinedOn_80 : decode cX8_joinedOn 80 = .ok (.iload 6, 2) := dk_21 6 (dk_at dksX8_joinedOn_3 10 rfl rfl)
theorem dX8_joinedOn_82 : decode cX8_joinedOn 82 = .ok (.iload 4, 2) := dk_21 4 (dk_at dksX8_joinedOn_3 12 rfl rfl)
theorem dX8_joinedOn_84 : decode cX8_joinedOn 84 = .ok (.isub, 1) := dk_100 (dk_at dksX8_joinedOn_3 14 rfl rfl)
theorem dX8_joinedOn_85 : decode cX8_joinedOn 85 = .ok (.iconst 2, 1) := dk_5 (dk_at dksX8_joinedOn_3 15 rfl rfl)
theorem dX8_joinedOn_86 : decode cX8_joinedOn 86 = .ok (.idiv, 1) := dk_108 (dk_at dksX8_joinedOn_3 16 rfl rfl)
theorem dX8_joinedOn_87 : decode cX8_joinedOn 87 = .ok (.iadd, 1) := dk_96 (dk_at dksX8_joinedOn_3 17 rfl rfl)
theorem dX8_joinedOn_88 : decode cX8_joinedOn 88 = .ok (.ireturn, 1) := dk_172 (dk_at dksX8_joinedOn_3 18 rfl rfl)
theorem dX8_joinedOn_89 : decode cX8_joinedOn 89 = .ok (.iload 6, 2) := dk_21 6 (dk_at dksX8_joinedOn_3 19 rfl rfl)
theorem dX8_joinedOn_91 : decode cX8_joinedOn 91 = .ok (.iload 4, 2) := dk_21 4 (dk_at dksX8_joinedOn_3 21 rfl rfl)
theorem dX8_joinedOn_93 : decode cX8_joinedOn 93 = .ok (.if_icmp .le 8, 3) := dk_164 0 8 (dk_at dksX8_joinedOn_4 0 rfl rfl)
theorem dX8_joinedOn_96 : decode cX8_joinedOn 96 = .ok (.iload 6, 2) := dk_21 6 (dk_at dksX8_joinedOn_4 3 rfl rfl)
theorem dX8_joinedOn_98 : decode cX8_joinedOn 98 = .ok (.goto 5, 3) := dk_167 0 5 (dk_at dksX8_joinedOn_4 5 rfl rfl)
theorem dX8_joinedOn_101 : decode cX8_joinedOn 101 = .ok (.iload 4, 2) := dk_21 4 (dk_at dksX8_joinedOn_4 8 rfl rfl)
theorem dX8_joinedOn_103 : decode cX8_joinedOn 103 = .ok (.istore 7, 2) := dk_54 7 (dk_at dksX8_joinedOn_4 10 rfl rfl)
theorem dX8_joinedOn_105 : decode cX8_joinedOn 105 = .ok (.iload_n 3, 1) := dk_29 (dk_at dksX8_joinedOn_4 12 rfl rfl)
theorem dX8_joinedOn_106 : decode cX8_joinedOn 106 = .ok (.iconst 3, 1) := dk_6 (dk_at dksX8_joinedOn_4 13 rfl rfl)
theorem dX8_joinedOn_107 : decode cX8_joinedOn 107 = .ok (.if_icmp .ne 21, 3) := dk_160 0 21 (dk_at dksX8_joinedOn_4 14 rfl rfl)
theorem dX8_joinedOn_110 : decode cX8_joinedOn 110 = .ok (.iload 7, 2) := dk_21 7 (dk_at dksX8_joinedOn_4 17 rfl rfl)
theorem dX8_joinedOn_112 : decode cX8_joinedOn 112 = .ok (.iload 4, 2) := dk_21 4 (dk_at dksX8_joinedOn_4 19 rfl rfl)
theorem dX8_joinedOn_114 : decode cX8_joinedOn 114 = .ok (.bipush 20, 2) := dk_16 20 (dk_at dksX8_joinedOn_4 21 rfl rfl)
theorem dX8_joinedOn_116 : decode cX8_joinedOn 116 = .ok (.iadd, 1) := dk_96 (dk_at dksX8_joinedOn_4 23 rfl rfl)
theorem dX8_joinedOn_117 : decode cX8_joinedOn 117 = .ok (.if_icmp .le 11, 3) := dk_164 0 11 (dk_at dksX8_joinedOn_5 0 rfl rfl)
theorem dX8_joinedOn_120 : decode cX8_joinedOn 120 = .ok (.iload 4, 2) := dk_21 4 (dk_at dksX8_joinedOn_5 3 rfl rfl)
theorem dX8_joinedOn_122 : decode cX8_joinedOn 122 = .ok (.bipush 20, 2) := dk_16 20 (dk_at dksX8_joinedOn_5 5 rfl rfl)
theorem dX8_joinedOn_124 : decode cX8_joinedOn 124 = .ok (.iadd, 1) := dk_96 (dk_at dksX8_joinedOn_5 7 rfl rfl)
theorem dX8_joinedOn_125 : decode cX8_joinedOn 125 = .ok (.goto 5, 3) := dk_167 0 5 (dk_at dksX8_joinedOn_5 8 rfl rfl)
theorem dX8_joinedOn_128 : decode cX8_joinedOn 128 = .ok (.iload 7, 2) := dk_21 7 (dk_at dksX8_joinedOn_5 11 rfl rfl)
theorem dX8_joinedOn_130 : decode cX8_joinedOn 130 = .ok (.ireturn, 1) := dk_172 (dk_at dksX8_joinedOn_5 13 rfl rfl)
abbrev cX8_act : ByteArray := prog_12_method_26_code
def yX8_act : MethodName := ⟨RX8, "act", "(I)I"⟩
def dkwX8_act_0 : List UInt8 := [42, 27, 182, 0, 150, 153, 0, 15, 42, 180, 0, 7, 16, 17, 27, 96, 46, 167, 0, 4, 2, 172]
abbrev dktX8_act_0 : List UInt8 := dkwX8_act_0 ++ []
theorem dksX8_act_0 : cX8_act.data.toList.drop 0 = dktX8_act_0 := by decide +kernel
theorem dX8_act_0 : decode cX8_act 0 = .ok (.aload_n 0, 1) := dk_42 (dk_at dksX8_act_0 0 rfl rfl)
theorem dX8_act_1 : decode cX8_act 1 = .ok (.iload_n 1, 1) := dk_27 (dk_at dksX8_act_0 1 rfl rfl)
theorem dX8_act_2 : decode cX8_act 2 = .ok (.invokevirtual 150, 3) := dk_182 0 150 (dk_at dksX8_act_0 2 rfl rfl)
theorem dX8_act_5 : decode cX8_act 5 = .ok (.ifCond .eq 15, 3) := dk_153 0 15 (dk_at dksX8_act_0 5 rfl rfl)
theorem dX8_act_8 : decode cX8_act 8 = .ok (.aload_n 0, 1) := dk_42 (dk_at dksX8_act_0 8 rfl rfl)
theorem dX8_act_9 : decode cX8_act 9 = .ok (.getfield 7, 3) := dk_180 0 7 (dk_at dksX8_act_0 9 rfl rfl)
theorem dX8_act_12 : decode cX8_act 12 = .ok (.bipush 17, 2) := dk_16 17 (dk_at dksX8_act_0 12 rfl rfl)
theorem dX8_act_14 : decode cX8_act 14 = .ok (.iload_n 1, 1) := dk_27 (dk_at dksX8_act_0 14 rfl rfl)
theorem dX8_act_15 : decode cX8_act 15 = .ok (.iadd, 1) := dk_96 (dk_at dksX8_act_0 15 rfl rfl)
theorem dX8_act_16 : decode cX8_act 16 = .ok (.iaload, 1) := dk_46 (dk_at dksX8_act_0 16 rfl rfl)
theorem dX8_act_17 : decode cX8_act 17 = .ok (.goto 4, 3) := dk_167 0 4 (dk_at dksX8_act_0 17 rfl rfl)
theorem dX8_act_20 : decode cX8_act 20 = .ok (.iconst (-1), 1) := dk_2 (dk_at dksX8_act_0 20 rfl rfl)
theorem dX8_act_21 : decode cX8_act 21 = .ok (.ireturn, 1) := dk_172 (dk_at dksX8_act_0 21 rfl rfl)
abbrev cX8_isAct : ByteArray := prog_12_method_16_code
def yX8_isAct : MethodName := ⟨RX8, "isAct", "(I)Z"⟩
def dkwX8_isAct_0 : List UInt8 := [27, 133, 9, 42, 180, 0, 7, 16, 33, 46, 4, 100, 133, 184, 0, 53, 172]
abbrev dktX8_isAct_0 : List UInt8 := dkwX8_isAct_0 ++ []
theorem dksX8_isAct_0 : cX8_isAct.data.toList.drop 0 = dktX8_isAct_0 := by decide +kernel
theorem dX8_isAct_0 : decode cX8_isAct 0 = .ok (.iload_n 1, 1) := dk_27 (dk_at dksX8_isAct_0 0 rfl rfl)
theorem dX8_isAct_1 : decode cX8_isAct 1 = .ok (.i2l, 1) := dk_133 (dk_at dksX8_isAct_0 1 rfl rfl)
theorem dX8_isAct_2 : decode cX8_isAct 2 = .ok (.lconst 0, 1) := dk_9 (dk_at dksX8_isAct_0 2 rfl rfl)
theorem dX8_isAct_3 : decode cX8_isAct 3 = .ok (.aload_n 0, 1) := dk_42 (dk_at dksX8_isAct_0 3 rfl rfl)
theorem dX8_isAct_4 : decode cX8_isAct 4 = .ok (.getfield 7, 3) := dk_180 0 7 (dk_at dksX8_isAct_0 4 rfl rfl)
theorem dX8_isAct_7 : decode cX8_isAct 7 = .ok (.bipush 33, 2) := dk_16 33 (dk_at dksX8_isAct_0 7 rfl rfl)
theorem dX8_isAct_9 : decode cX8_isAct 9 = .ok (.iaload, 1) := dk_46 (dk_at dksX8_isAct_0 9 rfl rfl)
theorem dX8_isAct_10 : decode cX8_isAct 10 = .ok (.iconst 1, 1) := dk_4 (dk_at dksX8_isAct_0 10 rfl rfl)
theorem dX8_isAct_11 : decode cX8_isAct 11 = .ok (.isub, 1) := dk_100 (dk_at dksX8_isAct_0 11 rfl rfl)
theorem dX8_isAct_12 : decode cX8_isAct 12 = .ok (.i2l, 1) := dk_133 (dk_at dksX8_isAct_0 12 rfl rfl)
theorem dX8_isAct_13 : decode cX8_isAct 13 = .ok (.invokestatic 53, 3) := dk_184 0 53 (dk_at dksX8_isAct_0 13 rfl rfl)
theorem dX8_isAct_16 : decode cX8_isAct 16 = .ok (.ireturn, 1) := dk_172 (dk_at dksX8_isAct_0 16 rfl rfl)
abbrev cX8_alter : ByteArray := prog_12_method_28_code
def yX8_alter : MethodName := ⟨RX8, "alter", "(III)I"⟩
def dkwX8_alter_4 : List UInt8 := [104, 27, 96, 29, 3, 182, 0, 161, 172]
abbrev dktX8_alter_4 : List UInt8 := dkwX8_alter_4 ++ []
def dkwX8_alter_3 : List UInt8 := [3, 54, 4, 42, 42, 27, 182, 0, 144, 153, 0, 12, 21, 4, 153, 0, 7, 4, 167, 0, 4, 3, 7, 28]
abbrev dktX8_alter_3 : List UInt8 := dkwX8_alter_3 ++ dktX8_alter_4
def dkwX8_alter_2 : List UInt8 := [167, 0, 25, 28, 6, 160, 0, 19, 29, 133, 9, 20, 0, 159, 184, 0, 53, 153, 0, 7, 4, 167, 0, 4]
abbrev dktX8_alter_2 : List UInt8 := dkwX8_alter_2 ++ dktX8_alter_3
def dkwX8_alter_1 : List UInt8 := [20, 0, 155, 184, 0, 53, 167, 0, 42, 28, 5, 160, 0, 15, 29, 133, 9, 20, 0, 157, 184, 0, 53]
abbrev dktX8_alter_1 : List UInt8 := dkwX8_alter_1 ++ dktX8_alter_2
def dkwX8_alter_0 : List UInt8 := [28, 154, 0, 15, 29, 133, 9, 20, 0, 153, 184, 0, 53, 167, 0, 59, 28, 4, 160, 0, 15, 29, 133, 10]
abbrev dktX8_alter_0 : List UInt8 := dkwX8_alter_0 ++ dktX8_alter_1
theorem dksX8_alter_0 : cX8_alter.data.toList.drop 0 = dktX8_alter_0 := by decide +kernel
theorem dksX8_alter_1 : cX8_alter.data.toList.drop 24 = dktX8_alter_1 := dk_seg dksX8_alter_0 24 rfl rfl
theorem dksX8_alter_2 : cX8_alter.data.toList.drop 47 = dktX8_alter_2 := dk_seg dksX8_alter_1 23 rfl rfl
theorem dksX8_alter_3 : cX8_alter.data.toList.drop 71 = dktX8_alter_3 := dk_seg dksX8_alter_2 24 rfl rfl
theorem dksX8_alter_4 : cX8_alter.data.toList.drop 95 = dktX8_alter_4 := dk_seg dksX8_alter_3 24 rfl rfl
theorem dX8_alter_0 : decode cX8_alter 0 = .ok (.iload_n 2, 1) := dk_28 (dk_at dksX8_alter_0 0 rfl rfl)
theorem dX8_alter_1 : decode cX8_alter 1 = .ok (.ifCond .ne 15, 3) := dk_154 0 15 (dk_at dksX8_alter_0 1 rfl rfl)
theorem dX8_alter_4 : decode cX8_alter 4 = .ok (.iload_n 3, 1) := dk_29 (dk_at dksX8_alter_0 4 rfl rfl)
theorem dX8_alter_5 : decode cX8_alter 5 = .ok (.i2l, 1) := dk_133 (dk_at dksX8_alter_0 5 rfl rfl)
theorem dX8_alter_6 : decode cX8_alter 6 = .ok (.lconst 0, 1) := dk_9 (dk_at dksX8_alter_0 6 rfl rfl)
theorem dX8_alter_7 : decode cX8_alter 7 = .ok (.ldc2_w 153, 3) := dk_20 0 153 (dk_at dksX8_alter_0 7 rfl rfl)
theorem dX8_alter_10 : decode cX8_alter 10 = .ok (.invokestatic 53, 3) := dk_184 0 53 (dk_at dksX8_alter_0 10 rfl rfl)
theorem dX8_alter_13 : decode cX8_alter 13 = .ok (.goto 59, 3) := dk_167 0 59 (dk_at dksX8_alter_0 13 rfl rfl)
theorem dX8_alter_16 : decode cX8_alter 16 = .ok (.iload_n 2, 1) := dk_28 (dk_at dksX8_alter_0 16 rfl rfl)
theorem dX8_alter_17 : decode cX8_alter 17 = .ok (.iconst 1, 1) := dk_4 (dk_at dksX8_alter_0 17 rfl rfl)
theorem dX8_alter_18 : decode cX8_alter 18 = .ok (.if_icmp .ne 15, 3) := dk_160 0 15 (dk_at dksX8_alter_0 18 rfl rfl)
theorem dX8_alter_21 : decode cX8_alter 21 = .ok (.iload_n 3, 1) := dk_29 (dk_at dksX8_alter_0 21 rfl rfl)
theorem dX8_alter_22 : decode cX8_alter 22 = .ok (.i2l, 1) := dk_133 (dk_at dksX8_alter_0 22 rfl rfl)
theorem dX8_alter_23 : decode cX8_alter 23 = .ok (.lconst 1, 1) := dk_10 (dk_at dksX8_alter_0 23 rfl rfl)
theorem dX8_alter_24 : decode cX8_alter 24 = .ok (.ldc2_w 155, 3) := dk_20 0 155 (dk_at dksX8_alter_1 0 rfl rfl)
theorem dX8_alter_27 : decode cX8_alter 27 = .ok (.invokestatic 53, 3) := dk_184 0 53 (dk_at dksX8_alter_1 3 rfl rfl)
theorem dX8_alter_30 : decode cX8_alter 30 = .ok (.goto 42, 3) := dk_167 0 42 (dk_at dksX8_alter_1 6 rfl rfl)
theorem dX8_alter_33 : decode cX8_alter 33 = .ok (.iload_n 2, 1) := dk_28 (dk_at dksX8_alter_1 9 rfl rfl)
theorem dX8_alter_34 : decode cX8_alter 34 = .ok (.iconst 2, 1) := dk_5 (dk_at dksX8_alter_1 10 rfl rfl)
theorem dX8_alter_35 : decode cX8_alter 35 = .ok (.if_icmp .ne 15, 3) := dk_160 0 15 (dk_at dksX8_alter_1 11 rfl rfl)
theorem dX8_alter_38 : decode cX8_alter 38 = .ok (.iload_n 3, 1) := dk_29 (dk_at dksX8_alter_1 14 rfl rfl)
theorem dX8_alter_39 : decode cX8_alter 39 = .ok (.i2l, 1) := dk_133 (dk_at dksX8_alter_1 15 rfl rfl)
theorem dX8_alter_40 : decode cX8_alter 40 = .ok (.lconst 0, 1) := dk_9 (dk_at dksX8_alter_1 16 rfl rfl)
theorem dX8_alter_41 : decode cX8_alter 41 = .ok (.ldc2_w 157, 3) := dk_20 0 157 (dk_at dksX8_alter_1 17 rfl rfl)
theorem dX8_alter_44 : decode cX8_alter 44 = .ok (.invokestatic 53, 3) := dk_184 0 53 (dk_at dksX8_alter_1 20 rfl rfl)
theorem dX8_alter_47 : decode cX8_alter 47 = .ok (.goto 25, 3) := dk_167 0 25 (dk_at dksX8_alter_2 0 rfl rfl)
theorem dX8_alter_50 : decode cX8_alter 50 = .ok (.iload_n 2, 1) := dk_28 (dk_at dksX8_alter_2 3 rfl rfl)
theorem dX8_alter_51 : decode cX8_alter 51 = .ok (.iconst 3, 1) := dk_6 (dk_at dksX8_alter_2 4 rfl rfl)
theorem dX8_alter_52 : decode cX8_alter 52 = .ok (.if_icmp .ne 19, 3) := dk_160 0 19 (dk_at dksX8_alter_2 5 rfl rfl)
theorem dX8_alter_55 : decode cX8_alter 55 = .ok (.iload_n 3, 1) := dk_29 (dk_at dksX8_alter_2 8 rfl rfl)
theorem dX8_alter_56 : decode cX8_alter 56 = .ok (.i2l, 1) := dk_133 (dk_at dksX8_alter_2 9 rfl rfl)
theorem dX8_alter_57 : decode cX8_alter 57 = .ok (.lconst 0, 1) := dk_9 (dk_at dksX8_alter_2 10 rfl rfl)
theorem dX8_alter_58 : decode cX8_alter 58 = .ok (.ldc2_w 159, 3) := dk_20 0 159 (dk_at dksX8_alter_2 11 rfl rfl)
theorem dX8_alter_61 : decode cX8_alter 61 = .ok (.invokestatic 53, 3) := dk_184 0 53 (dk_at dksX8_alter_2 14 rfl rfl)
theorem dX8_alter_64 : decode cX8_alter 64 = .ok (.ifCond .eq 7, 3) := dk_153 0 7 (dk_at dksX8_alter_2 17 rfl rfl)
theorem dX8_alter_67 : decode cX8_alter 67 = .ok (.iconst 1, 1) := dk_4 (dk_at dksX8_alter_2 20 rfl rfl)
theorem dX8_alter_68 : decode cX8_alter 68 = .ok (.goto 4, 3) := dk_167 0 4 (dk_at dksX8_alter_2 21 rfl rfl)
theorem dX8_alter_71 : decode cX8_alter 71 = .ok (.iconst 0, 1) := dk_3 (dk_at dksX8_alter_3 0 rfl rfl)
theorem dX8_alter_72 : decode cX8_alter 72 = .ok (.istore 4, 2) := dk_54 4 (dk_at dksX8_alter_3 1 rfl rfl)
theorem dX8_alter_74 : decode cX8_alter 74 = .ok (.aload_n 0, 1) := dk_42 (dk_at dksX8_alter_3 3 rfl rfl)
theorem dX8_alter_75 : decode cX8_alter 75 = .ok (.aload_n 0, 1) := dk_42 (dk_at dksX8_alter_3 4 rfl rfl)
theorem dX8_alter_76 : decode cX8_alter 76 = .ok (.iload_n 1, 1) := dk_27 (dk_at dksX8_alter_3 5 rfl rfl)
theorem dX8_alter_77 : decode cX8_alter 77 = .ok (.invokevirtual 144, 3) := dk_182 0 144 (dk_at dksX8_alter_3 6 rfl rfl)
theorem dX8_alter_80 : decode cX8_alter 80 = .ok (.ifCond .eq 12, 3) := dk_153 0 12 (dk_at dksX8_alter_3 9 rfl rfl)
theorem dX8_alter_83 : decode cX8_alter 83 = .ok (.iload 4, 2) := dk_21 4 (dk_at dksX8_alter_3 12 rfl rfl)
theorem dX8_alter_85 : decode cX8_alter 85 = .ok (.ifCond .eq 7, 3) := dk_153 0 7 (dk_at dksX8_alter_3 14 rfl rfl)
theorem dX8_alter_88 : decode cX8_alter 88 = .ok (.iconst 1, 1) := dk_4 (dk_at dksX8_alter_3 17 rfl rfl)
theorem dX8_alter_89 : decode cX8_alter 89 = .ok (.goto 4, 3) := dk_167 0 4 (dk_at dksX8_alter_3 18 rfl rfl)
theorem dX8_alter_92 : decode cX8_alter 92 = .ok (.iconst 0, 1) := dk_3 (dk_at dksX8_alter_3 21 rfl rfl)
theorem dX8_alter_93 : decode cX8_alter 93 = .ok (.iconst 4, 1) := dk_7 (dk_at dksX8_alter_3 22 rfl rfl)
theorem dX8_alter_94 : decode cX8_alter 94 = .ok (.iload_n 2, 1) := dk_28 (dk_at dksX8_alter_3 23 rfl rfl)
theorem dX8_alter_95 : decode cX8_alter 95 = .ok (.imul, 1) := dk_104 (dk_at dksX8_alter_4 0 rfl rfl)
theorem dX8_alter_96 : decode cX8_alter 96 = .ok (.iload_n 1, 1) := dk_27 (dk_at dksX8_alter_4 1 rfl rfl)
theorem dX8_alter_97 : decode cX8_alter 97 = .ok (.iadd, 1) := dk_96 (dk_at dksX8_alter_4 2 rfl rfl)
theorem dX8_alter_98 : decode cX8_alter 98 = .ok (.iload_n 3, 1) := dk_29 (dk_at dksX8_alter_4 3 rfl rfl)
theorem dX8_alter_99 : decode cX8_alter 99 = .ok (.iconst 0, 1) := dk_3 (dk_at dksX8_alter_4 4 rfl rfl)
theorem dX8_alter_100 : decode cX8_alter 100 = .ok (.invokevirtual 161, 3) := dk_182 0 161 (dk_at dksX8_alter_4 5 rfl rfl)
theorem dX8_alter_103 : decode cX8_alter 103 = .ok (.ireturn, 1) := dk_172 (dk_at dksX8_alter_4 8 rfl rfl)
abbrev cX8_puts : ByteArray := prog_12_method_27_code
def yX8_puts : MethodName := ⟨RX8, "puts", "(ZIII)I"⟩
def dkwX8_puts_1 : List UInt8 := [21, 4, 100, 79, 21, 5, 172]
abbrev dktX8_puts_1 : List UInt8 := dkwX8_puts_1 ++ []
def dkwX8_puts_0 : List UInt8 := [27, 154, 0, 5, 2, 172, 42, 180, 0, 7, 28, 46, 21, 4, 96, 54, 5, 42, 180, 0, 7, 28, 29]
abbrev dktX8_puts_0 : List UInt8 := dkwX8_puts_0 ++ dktX8_puts_1
theorem dksX8_puts_0 : cX8_puts.data.toList.drop 0 = dktX8_puts_0 := by decide +kernel
theorem dksX8_puts_1 : cX8_puts.data.toList.drop 23 = dktX8_puts_1 := dk_seg dksX8_puts_0 23 rfl rfl
theorem dX8_puts_0 : decode cX8_puts 0 = .ok (.iload_n 1, 1) := dk_27 (dk_at dksX8_puts_0 0 rfl rfl)
theorem dX8_puts_1 : decode cX8_puts 1 = .ok (.ifCond .ne 5, 3) := dk_154 0 5 (dk_at dksX8_puts_0 1 rfl rfl)
theorem dX8_puts_4 : decode cX8_puts 4 = .ok (.iconst (-1), 1) := dk_2 (dk_at dksX8_puts_0 4 rfl rfl)
theorem dX8_puts_5 : decode cX8_puts 5 = .ok (.ireturn, 1) := dk_172 (dk_at dksX8_puts_0 5 rfl rfl)
theorem dX8_puts_6 : decode cX8_puts 6 = .ok (.aload_n 0, 1) := dk_42 (dk_at dksX8_puts_0 6 rfl rfl)
theorem dX8_puts_7 : decode cX8_puts 7 = .ok (.getfield 7, 3) := dk_180 0 7 (dk_at dksX8_puts_0 7 rfl rfl)
theorem dX8_puts_10 : decode cX8_puts 10 = .ok (.iload_n 2, 1) := dk_28 (dk_at dksX8_puts_0 10 rfl rfl)
theorem dX8_puts_11 : decode cX8_puts 11 = .ok (.iaload, 1) := dk_46 (dk_at dksX8_puts_0 11 rfl rfl)
theorem dX8_puts_12 : decode cX8_puts 12 = .ok (.iload 4, 2) := dk_21 4 (dk_at dksX8_puts_0 12 rfl rfl)
theorem dX8_puts_14 : decode cX8_puts 14 = .ok (.iadd, 1) := dk_96 (dk_at dksX8_puts_0 14 rfl rfl)
theorem dX8_puts_15 : decode cX8_puts 15 = .ok (.istore 5, 2) := dk_54 5 (dk_at dksX8_puts_0 15 rfl rfl)
theorem dX8_puts_17 : decode cX8_puts 17 = .ok (.aload_n 0, 1) := dk_42 (dk_at dksX8_puts_0 17 rfl rfl)
theorem dX8_puts_18 : decode cX8_puts 18 = .ok (.getfield 7, 3) := dk_180 0 7 (dk_at dksX8_puts_0 18 rfl rfl)
theorem dX8_puts_21 : decode cX8_puts 21 = .ok (.iload_n 2, 1) := dk_28 (dk_at dksX8_puts_0 21 rfl rfl)
theorem dX8_puts_22 : decode cX8_puts 22 = .ok (.iload_n 3, 1) := dk_29 (dk_at dksX8_puts_0 22 rfl rfl)
theorem dX8_puts_23 : decode cX8_puts 23 = .ok (.iload 4, 2) := dk_21 4 (dk_at dksX8_puts_1 0 rfl rfl)
theorem dX8_puts_25 : decode cX8_puts 25 = .ok (.isub, 1) := dk_100 (dk_at dksX8_puts_1 2 rfl rfl)
theorem dX8_puts_26 : decode cX8_puts 26 = .ok (.iastore, 1) := dk_79 (dk_at dksX8_puts_1 3 rfl rfl)
theorem dX8_puts_27 : decode cX8_puts 27 = .ok (.iload 5, 2) := dk_21 5 (dk_at dksX8_puts_1 4 rfl rfl)
theorem dX8_puts_29 : decode cX8_puts 29 = .ok (.ireturn, 1) := dk_172 (dk_at dksX8_puts_1 6 rfl rfl)
abbrev cX8_shaft : ByteArray := prog_12_method_29_code
def yX8_shaft : MethodName := ⟨RX8, "shaft", "(I)I"⟩
def dkwX8_shaft_0 : List UInt8 := [42, 27, 133, 10, 20, 0, 155, 184, 0, 53, 16, 34, 27, 8, 182, 0, 161, 172]
abbrev dktX8_shaft_0 : List UInt8 := dkwX8_shaft_0 ++ []
theorem dksX8_shaft_0 : cX8_shaft.data.toList.drop 0 = dktX8_shaft_0 := by decide +kernel
theorem dX8_shaft_0 : decode cX8_shaft 0 = .ok (.aload_n 0, 1) := dk_42 (dk_at dksX8_shaft_0 0 rfl rfl)
theorem dX8_shaft_1 : decode cX8_shaft 1 = .ok (.iload_n 1, 1) := dk_27 (dk_at dksX8_shaft_0 1 rfl rfl)
theorem dX8_shaft_2 : decode cX8_shaft 2 = .ok (.i2l, 1) := dk_133 (dk_at dksX8_shaft_0 2 rfl rfl)
theorem dX8_shaft_3 : decode cX8_shaft 3 = .ok (.lconst 1, 1) := dk_10 (dk_at dksX8_shaft_0 3 rfl rfl)
theorem dX8_shaft_4 : decode cX8_shaft 4 = .ok (.ldc2_w 155, 3) := dk_20 0 155 (dk_at dksX8_shaft_0 4 rfl rfl)
theorem dX8_shaft_7 : decode cX8_shaft 7 = .ok (.invokestatic 53, 3) := dk_184 0 53 (dk_at dksX8_shaft_0 7 rfl rfl)
theorem dX8_shaft_10 : decode cX8_shaft 10 = .ok (.bipush 34, 2) := dk_16 34 (dk_at dksX8_shaft_0 10 rfl rfl)
theorem dX8_shaft_12 : decode cX8_shaft 12 = .ok (.iload_n 1, 1) := dk_27 (dk_at dksX8_shaft_0 12 rfl rfl)
theorem dX8_shaft_13 : decode cX8_shaft 13 = .ok (.iconst 5, 1) := dk_8 (dk_at dksX8_shaft_0 13 rfl rfl)
theorem dX8_shaft_14 : decode cX8_shaft 14 = .ok (.invokevirtual 161, 3) := dk_182 0 161 (dk_at dksX8_shaft_0 14 rfl rfl)
theorem dX8_shaft_17 : decode cX8_shaft 17 = .ok (.ireturn, 1) := dk_172 (dk_at dksX8_shaft_0 17 rfl rfl)
abbrev cX8_put : ByteArray := prog_12_method_30_code
def yX8_put : MethodName := ⟨RX8, "put", "(III)I"⟩
def dkwX8_put_4 : List UInt8 := [79, 42, 180, 0, 7, 16, 16, 92, 46, 4, 96, 79, 42, 180, 0, 7, 16, 16, 46, 172]
abbrev dktX8_put_4 : List UInt8 := dkwX8_put_4 ++ []
def dkwX8_put_3 : List UInt8 := [96, 28, 79, 42, 180, 0, 7, 16, 8, 21, 4, 96, 29, 79, 42, 180, 0, 7, 16, 12, 21, 4, 96, 3]
abbrev dktX8_put_3 : List UInt8 := dkwX8_put_3 ++ dktX8_put_4
def dkwX8_put_2 : List UInt8 := [21, 4, 7, 160, 0, 6, 16, 253, 172, 42, 180, 0, 7, 21, 4, 27, 79, 42, 180, 0, 7, 7, 21, 4]
abbrev dktX8_put_2 : List UInt8 := dkwX8_put_2 ++ dktX8_put_3
def dkwX8_put_1 : List UInt8 := [29, 133, 9, 20, 0, 157, 184, 0, 53, 154, 0, 5, 2, 172, 42, 180, 0, 7, 16, 16, 46, 54, 4]
abbrev dktX8_put_1 : List UInt8 := dkwX8_put_1 ++ dktX8_put_2
def dkwX8_put_0 : List UInt8 := [27, 133, 9, 20, 0, 153, 184, 0, 53, 153, 0, 27, 28, 133, 10, 20, 0, 155, 184, 0, 53, 153, 0, 15]
abbrev dktX8_put_0 : List UInt8 := dkwX8_put_0 ++ dktX8_put_1
theorem dksX8_put_0 : cX8_put.data.toList.drop 0 = dktX8_put_0 := by decide +kernel
theorem dksX8_put_1 : cX8_put.data.toList.drop 24 = dktX8_put_1 := dk_seg dksX8_put_0 24 rfl rfl
theorem dksX8_put_2 : cX8_put.data.toList.drop 47 = dktX8_put_2 := dk_seg dksX8_put_1 23 rfl rfl
theorem dksX8_put_3 : cX8_put.data.toList.drop 71 = dktX8_put_3 := dk_seg dksX8_put_2 24 rfl rfl
theorem dksX8_put_4 : cX8_put.data.toList.drop 95 = dktX8_put_4 := dk_seg dksX8_put_3 24 rfl rfl
theorem dX8_put_0 : decode cX8_put 0 = .ok (.iload_n 1, 1) := dk_27 (dk_at dksX8_put_0 0 rfl rfl)
theorem dX8_put_1 : decode cX8_put 1 = .ok (.i2l, 1) := dk_133 (dk_at dksX8_put_0 1 rfl rfl)
theorem dX8_put_2 : decode cX8_put 2 = .ok (.lconst 0, 1) := dk_9 (dk_at dksX8_put_0 2 rfl rfl)
theorem dX8_put_3 : decode cX8_put 3 = .ok (.ldc2_w 153, 3) := dk_20 0 153 (dk_at dksX8_put_0 3 rfl rfl)
theorem dX8_put_6 : decode cX8_put 6 = .ok (.invokestatic 53, 3) := dk_184 0 53 (dk_at dksX8_put_0 6 rfl rfl)
theorem dX8_put_9 : decode cX8_put 9 = .ok (.ifCond .eq 27, 3) := dk_153 0 27 (dk_at dksX8_put_0 9 rfl rfl)
theorem dX8_put_12 : decode cX8_put 12 = .ok (.iload_n 2, 1) := dk_28 (dk_at dksX8_put_0 12 rfl rfl)
theorem dX8_put_13 : decode cX8_put 13 = .ok (.i2l, 1) := dk_133 (dk_at dksX8_put_0 13 rfl rfl)
theorem dX8_put_14 : decode cX8_put 14 = .ok (.lconst 1, 1) := dk_10 (dk_at dksX8_put_0 14 rfl rfl)
theorem dX8_put_15 : decode cX8_put 15 = .ok (.ldc2_w 155, 3) := dk_20 0 155 (dk_at dksX8_put_0 15 rfl rfl)
theorem dX8_put_18 : decode cX8_put 18 = .ok (.invokestatic 53, 3) := dk_184 0 53 (dk_at dksX8_put_0 18 rfl rfl)
theorem dX8_put_21 : decode cX8_put 21 = .ok (.ifCond .eq 15, 3) := dk_153 0 15 (dk_at dksX8_put_0 21 rfl rfl)
theorem dX8_put_24 : decode cX8_put 24 = .ok (.iload_n 3, 1) := dk_29 (dk_at dksX8_put_1 0 rfl rfl)
theorem dX8_put_25 : decode cX8_put 25 = .ok (.i2l, 1) := dk_133 (dk_at dksX8_put_1 1 rfl rfl)
theorem dX8_put_26 : decode cX8_put 26 = .ok (.lconst 0, 1) := dk_9 (dk_at dksX8_put_1 2 rfl rfl)
theorem dX8_put_27 : decode cX8_put 27 = .ok (.ldc2_w 157, 3) := dk_20 0 157 (dk_at dksX8_put_1 3 rfl rfl)
theorem dX8_put_30 : decode cX8_put 30 = .ok (.invokestatic 53, 3) := dk_184 0 53 (dk_at dksX8_put_1 6 rfl rfl)
theorem dX8_put_33 : decode cX8_put 33 = .ok (.ifCond .ne 5, 3) := dk_154 0 5 (dk_at dksX8_put_1 9 rfl rfl)
theorem dX8_put_36 : decode cX8_put 36 = .ok (.iconst (-1), 1) := dk_2 (dk_at dksX8_put_1 12 rfl rfl)
theorem dX8_put_37 : decode cX8_put 37 = .ok (.ireturn, 1) := dk_172 (dk_at dksX8_put_1 13 rfl rfl)
theorem dX8_put_38 : decode cX8_put 38 = .ok (.aload_n 0, 1) := dk_42 (dk_at dksX8_put_1 14 rfl rfl)
theorem dX8_put_39 : decode cX8_put 39 = .ok (.getfield 7, 3) := dk_180 0 7 (dk_at dksX8_put_1 15 rfl rfl)
theorem dX8_put_42 : decode cX8_put 42 = .ok (.bipush 16, 2) := dk_16 16 (dk_at dksX8_put_1 18 rfl rfl)
theorem dX8_put_44 : decode cX8_put 44 = .ok (.iaload, 1) := dk_46 (dk_at dksX8_put_1 20 rfl rfl)
theorem dX8_put_45 : decode cX8_put 45 = .ok (.istore 4, 2) := dk_54 4 (dk_at dksX8_put_1 21 rfl rfl)
theorem dX8_put_47 : decode cX8_put 47 = .ok (.iload 4, 2) := dk_21 4 (dk_at dksX8_put_2 0 rfl rfl)
theorem dX8_put_49 : decode cX8_put 49 = .ok (.iconst 4, 1) := dk_7 (dk_at dksX8_put_2 2 rfl rfl)
theorem dX8_put_50 : decode cX8_put 50 = .ok (.if_icmp .ne 6, 3) := dk_160 0 6 (dk_at dksX8_put_2 3 rfl rfl)
theorem dX8_put_53 : decode cX8_put 53 = .ok (.bipush (-3), 2) := dk_16 253 (dk_at dksX8_put_2 6 rfl rfl)
theorem dX8_put_55 : decode cX8_put 55 = .ok (.ireturn, 1) := dk_172 (dk_at dksX8_put_2 8 rfl rfl)
theorem dX8_put_56 : decode cX8_put 56 = .ok (.aload_n 0, 1) := dk_42 (dk_at dksX8_put_2 9 rfl rfl)
theorem dX8_put_57 : decode cX8_put 57 = .ok (.getfield 7, 3) := dk_180 0 7 (dk_at dksX8_put_2 10 rfl rfl)
theorem dX8_put_60 : decode cX8_put 60 = .ok (.iload 4, 2) := dk_21 4 (dk_at dksX8_put_2 13 rfl rfl)
theorem dX8_put_62 : decode cX8_put 62 = .ok (.iload_n 1, 1) := dk_27 (dk_at dksX8_put_2 15 rfl rfl)
theorem dX8_put_63 : decode cX8_put 63 = .ok (.iastore, 1) := dk_79 (dk_at dksX8_put_2 16 rfl rfl)
theorem dX8_put_64 : decode cX8_put 64 = .ok (.aload_n 0, 1) := dk_42 (dk_at dksX8_put_2 17 rfl rfl)
theorem dX8_put_65 : decode cX8_put 65 = .ok (.getfield 7, 3) := dk_180 0 7 (dk_at dksX8_put_2 18 rfl rfl)
theorem dX8_put_68 : decode cX8_put 68 = .ok (.iconst 4, 1) := dk_7 (dk_at dksX8_put_2 21 rfl rfl)
theorem dX8_put_69 : decode cX8_put 69 = .ok (.iload 4, 2) := dk_21 4 (dk_at dksX8_put_2 22 rfl rfl)
theorem dX8_put_71 : decode cX8_put 71 = .ok (.iadd, 1) := dk_96 (dk_at dksX8_put_3 0 rfl rfl)
theorem dX8_put_72 : decode cX8_put 72 = .ok (.iload_n 2, 1) := dk_28 (dk_at dksX8_put_3 1 rfl rfl)
theorem dX8_put_73 : decode cX8_put 73 = .ok (.iastore, 1) := dk_79 (dk_at dksX8_put_3 2 rfl rfl)
theorem dX8_put_74 : decode cX8_put 74 = .ok (.aload_n 0, 1) := dk_42 (dk_at dksX8_put_3 3 rfl rfl)
theorem dX8_put_75 : decode cX8_put 75 = .ok (.getfield 7, 3) := dk_180 0 7 (dk_at dksX8_put_3 4 rfl rfl)
theorem dX8_put_78 : decode cX8_put 78 = .ok (.bipush 8, 2) := dk_16 8 (dk_at dksX8_put_3 7 rfl rfl)
theorem dX8_put_80 : decode cX8_put 80 = .ok (.iload 4, 2) := dk_21 4 (dk_at dksX8_put_3 9 rfl rfl)
theorem dX8_put_82 : decode cX8_put 82 = .ok (.iadd, 1) := dk_96 (dk_at dksX8_put_3 11 rfl rfl)
theorem dX8_put_83 : decode cX8_put 83 = .ok (.iload_n 3, 1) := dk_29 (dk_at dksX8_put_3 12 rfl rfl)
theorem dX8_put_84 : decode cX8_put 84 = .ok (.iastore, 1) := dk_79 (dk_at dksX8_put_3 13 rfl rfl)
theorem dX8_put_85 : decode cX8_put 85 = .ok (.aload_n 0, 1) := dk_42 (dk_at dksX8_put_3 14 rfl rfl)
theorem dX8_put_86 : decode cX8_put 86 = .ok (.getfield 7, 3) := dk_180 0 7 (dk_at dksX8_put_3 15 rfl rfl)
theorem dX8_put_89 : decode cX8_put 89 = .ok (.bipush 12, 2) := dk_16 12 (dk_at dksX8_put_3 18 rfl rfl)
theorem dX8_put_91 : decode cX8_put 91 = .ok (.iload 4, 2) := dk_21 4 (dk_at dksX8_put_3 20 rfl rfl)
theorem dX8_put_93 : decode cX8_put 93 = .ok (.iadd, 1) := dk_96 (dk_at dksX8_put_3 22 rfl rfl)
theorem dX8_put_94 : decode cX8_put 94 = .ok (.iconst 0, 1) := dk_3 (dk_at dksX8_put_3 23 rfl rfl)
theorem dX8_put_95 : decode cX8_put 95 = .ok (.iastore, 1) := dk_79 (dk_at dksX8_put_4 0 rfl rfl)
theorem dX8_put_96 : decode cX8_put 96 = .ok (.aload_n 0, 1) := dk_42 (dk_at dksX8_put_4 1 rfl rfl)
theorem dX8_put_97 : decode cX8_put 97 = .ok (.getfield 7, 3) := dk_180 0 7 (dk_at dksX8_put_4 2 rfl rfl)
theorem dX8_put_100 : decode cX8_put 100 = .ok (.bipush 16, 2) := dk_16 16 (dk_at dksX8_put_4 5 rfl rfl)
theorem dX8_put_102 : decode cX8_put 102 = .ok (.dup2, 1) := dk_92 (dk_at dksX8_put_4 7 rfl rfl)
theorem dX8_put_103 : decode cX8_put 103 = .ok (.iaload, 1) := dk_46 (dk_at dksX8_put_4 8 rfl rfl)
theorem dX8_put_104 : decode cX8_put 104 = .ok (.iconst 1, 1) := dk_4 (dk_at dksX8_put_4 9 rfl rfl)
theorem dX8_put_105 : decode cX8_put 105 = .ok (.iadd, 1) := dk_96 (dk_at dksX8_put_4 10 rfl rfl)
theorem dX8_put_106 : decode cX8_put 106 = .ok (.iastore, 1) := dk_79 (dk_at dksX8_put_4 11 rfl rfl)
theorem dX8_put_107 : decode cX8_put 107 = .ok (.aload_n 0, 1) := dk_42 (dk_at dksX8_put_4 12 rfl rfl)
theorem dX8_put_108 : decode cX8_put 108 = .ok (.getfield 7, 3) := dk_180 0 7 (dk_at dksX8_put_4 13 rfl rfl)
theorem dX8_put_111 : decode cX8_put 111 = .ok (.bipush 16, 2) := dk_16 16 (dk_at dksX8_put_4 16 rfl rfl)
theorem dX8_put_113 : decode cX8_put 113 = .ok (.iaload, 1) := dk_46 (dk_at dksX8_put_4 18 rfl rfl)
theorem dX8_put_114 : decode cX8_put 114 = .ok (.ireturn, 1) := dk_172 (dk_at dksX8_put_4 19 rfl rfl)
abbrev cX8_cut : ByteArray := prog_12_method_31_code
def yX8_cut : MethodName := ⟨RX8, "cut", "(I)I"⟩
def dkwX8_cut_0 : List UInt8 := [42, 27, 133, 9, 42, 180, 0, 7, 16, 16, 46, 133, 184, 0, 53, 16, 16, 27, 3, 182, 0, 161, 172]
abbrev dktX8_cut_0 : List UInt8 := dkwX8_cut_0 ++ []
theorem dksX8_cut_0 : cX8_cut.data.toList.drop 0 = dktX8_cut_0 := by decide +kernel
theorem dX8_cut_0 : decode cX8_cut 0 = .ok (.aload_n 0, 1) := dk_42 (dk_at dksX8_cut_0 0 rfl rfl)
theorem dX8_cut_1 : decode cX8_cut 1 = .ok (.iload_n 1, 1) := dk_27 (dk_at dksX8_cut_0 1 rfl rfl)
theorem dX8_cut_2 : decode cX8_cut 2 = .ok (.i2l, 1) := dk_133 (dk_at dksX8_cut_0 2 rfl rfl)
theorem dX8_cut_3 : decode cX8_cut 3 = .ok (.lconst 0, 1) := dk_9 (dk_at dksX8_cut_0 3 rfl rfl)
theorem dX8_cut_4 : decode cX8_cut 4 = .ok (.aload_n 0, 1) := dk_42 (dk_at dksX8_cut_0 4 rfl rfl)
theorem dX8_cut_5 : decode cX8_cut 5 = .ok (.getfield 7, 3) := dk_180 0 7 (dk_at dksX8_cut_0 5 rfl rfl)
theorem dX8_cut_8 : decode cX8_cut 8 = .ok (.bipush 16, 2) := dk_16 16 (dk_at dksX8_cut_0 8 rfl rfl)
theorem dX8_cut_10 : decode cX8_cut 10 = .ok (.iaload, 1) := dk_46 (dk_at dksX8_cut_0 10 rfl rfl)
theorem dX8_cut_11 : decode cX8_cut 11 = .ok (.i2l, 1) := dk_133 (dk_at dksX8_cut_0 11 rfl rfl)
theorem dX8_cut_12 : decode cX8_cut 12 = .ok (.invokestatic 53, 3) := dk_184 0 53 (dk_at dksX8_cut_0 12 rfl rfl)
theorem dX8_cut_15 : decode cX8_cut 15 = .ok (.bipush 16, 2) := dk_16 16 (dk_at dksX8_cut_0 15 rfl rfl)
theorem dX8_cut_17 : decode cX8_cut 17 = .ok (.iload_n 1, 1) := dk_27 (dk_at dksX8_cut_0 17 rfl rfl)
theorem dX8_cut_18 : decode cX8_cut 18 = .ok (.iconst 0, 1) := dk_3 (dk_at dksX8_cut_0 18 rfl rfl)
theorem dX8_cut_19 : decode cX8_cut 19 = .ok (.invokevirtual 161, 3) := dk_182 0 161 (dk_at dksX8_cut_0 19 rfl rfl)
theorem dX8_cut_22 : decode cX8_cut 22 = .ok (.ireturn, 1) := dk_172 (dk_at dksX8_cut_0 22 rfl rfl)
abbrev cX8_set : ByteArray := prog_12_method_32_code
def yX8_set : MethodName := ⟨RX8, "set", "(II)I"⟩
def dkwX8_set_1 : List UInt8 := [167, 0, 4, 3, 16, 17, 27, 96, 28, 3, 182, 0, 161, 172]
abbrev dktX8_set_1 : List UInt8 := dkwX8_set_1 ++ []
def dkwX8_set_0 : List UInt8 := [42, 42, 27, 182, 0, 150, 153, 0, 19, 28, 133, 9, 20, 0, 165, 184, 0, 53, 153, 0, 7, 4]
abbrev dktX8_set_0 : List UInt8 := dkwX8_set_0 ++ dktX8_set_1
theorem dksX8_set_0 : cX8_set.data.toList.drop 0 = dktX8_set_0 := by decide +kernel
theorem dksX8_set_1 : cX8_set.data.toList.drop 22 = dktX8_set_1 := dk_seg dksX8_set_0 22 rfl rfl
theorem dX8_set_0 : decode cX8_set 0 = .ok (.aload_n 0, 1) := dk_42 (dk_at dksX8_set_0 0 rfl rfl)
theorem dX8_set_1 : decode cX8_set 1 = .ok (.aload_n 0, 1) := dk_42 (dk_at dksX8_set_0 1 rfl rfl)
theorem dX8_set_2 : decode cX8_set 2 = .ok (.iload_n 1, 1) := dk_27 (dk_at dksX8_set_0 2 rfl rfl)
theorem dX8_set_3 : decode cX8_set 3 = .ok (.invokevirtual 150, 3) := dk_182 0 150 (dk_at dksX8_set_0 3 rfl rfl)
theorem dX8_set_6 : decode cX8_set 6 = .ok (.ifCond .eq 19, 3) := dk_153 0 19 (dk_at dksX8_set_0 6 rfl rfl)
theorem dX8_set_9 : decode cX8_set 9 = .ok (.iload_n 2, 1) := dk_28 (dk_at dksX8_set_0 9 rfl rfl)
theorem dX8_set_10 : decode cX8_set 10 = .ok (.i2l, 1) := dk_133 (dk_at dksX8_set_0 10 rfl rfl)
theorem dX8_set_11 : decode cX8_set 11 = .ok (.lconst 0, 1) := dk_9 (dk_at dksX8_set_0 11 rfl rfl)
theorem dX8_set_12 : decode cX8_set 12 = .ok (.ldc2_w 165, 3) := dk_20 0 165 (dk_at dksX8_set_0 12 rfl rfl)
theorem dX8_set_15 : decode cX8_set 15 = .ok (.invokestatic 53, 3) := dk_184 0 53 (dk_at dksX8_set_0 15 rfl rfl)
theorem dX8_set_18 : decode cX8_set 18 = .ok (.ifCond .eq 7, 3) := dk_153 0 7 (dk_at dksX8_set_0 18 rfl rfl)
theorem dX8_set_21 : decode cX8_set 21 = .ok (.iconst 1, 1) := dk_4 (dk_at dksX8_set_0 21 rfl rfl)
theorem dX8_set_22 : decode cX8_set 22 = .ok (.goto 4, 3) := dk_167 0 4 (dk_at dksX8_set_1 0 rfl rfl)
theorem dX8_set_25 : decode cX8_set 25 = .ok (.iconst 0, 1) := dk_3 (dk_at dksX8_set_1 3 rfl rfl)
theorem dX8_set_26 : decode cX8_set 26 = .ok (.bipush 17, 2) := dk_16 17 (dk_at dksX8_set_1 4 rfl rfl)
theorem dX8_set_28 : decode cX8_set 28 = .ok (.iload_n 1, 1) := dk_27 (dk_at dksX8_set_1 6 rfl rfl)
theorem dX8_set_29 : decode cX8_set 29 = .ok (.iadd, 1) := dk_96 (dk_at dksX8_set_1 7 rfl rfl)
theorem dX8_set_30 : decode cX8_set 30 = .ok (.iload_n 2, 1) := dk_28 (dk_at dksX8_set_1 8 rfl rfl)
theorem dX8_set_31 : decode cX8_set 31 = .ok (.iconst 0, 1) := dk_3 (dk_at dksX8_set_1 9 rfl rfl)
theorem dX8_set_32 : decode cX8_set 32 = .ok (.invokevirtual 161, 3) := dk_182 0 161 (dk_at dksX8_set_1 10 rfl rfl)
theorem dX8_set_35 : decode cX8_set 35 = .ok (.ireturn, 1) := dk_172 (dk_at dksX8_set_1 13 rfl rfl)
abbrev cX8_add : ByteArray := prog_12_method_34_code
def yX8_add : MethodName := ⟨RX8, "add", "(I)I"⟩
def dkwX8_add_0 : List UInt8 := [42, 27, 182, 0, 167, 172]
abbrev dktX8_add_0 : List UInt8 := dkwX8_add_0 ++ []
theorem dksX8_add_0 : cX8_add.data.toList.drop 0 = dktX8_add_0 := by decide +kernel
theorem dX8_add_0 : decode cX8_add 0 = .ok (.aload_n 0, 1) := dk_42 (dk_at dksX8_add_0 0 rfl rfl)
theorem dX8_add_1 : decode cX8_add 1 = .ok (.iload_n 1, 1) := dk_27 (dk_at dksX8_add_0 1 rfl rfl)
theorem dX8_add_2 : decode cX8_add 2 = .ok (.invokevirtual 167, 3) := dk_182 0 167 (dk_at dksX8_add_0 2 rfl rfl)
theorem dX8_add_5 : decode cX8_add 5 = .ok (.ireturn, 1) := dk_172 (dk_at dksX8_add_0 5 rfl rfl)
abbrev cX8_adds : ByteArray := prog_12_method_33_code
def yX8_adds : MethodName := ⟨RX8, "adds", "(I)I"⟩
def dkwX8_adds_2 : List UInt8 := [180, 0, 7, 16, 33, 92, 46, 4, 96, 79, 42, 180, 0, 7, 16, 33, 46, 172]
abbrev dktX8_adds_2 : List UInt8 := dkwX8_adds_2 ++ []
def dkwX8_adds_1 : List UInt8 := [160, 0, 6, 16, 253, 172, 42, 180, 0, 7, 16, 17, 42, 180, 0, 7, 16, 33, 46, 96, 27, 79, 42]
abbrev dktX8_adds_1 : List UInt8 := dkwX8_adds_1 ++ dktX8_adds_2
def dkwX8_adds_0 : List UInt8 := [27, 133, 9, 20, 0, 165, 184, 0, 53, 154, 0, 5, 2, 172, 42, 180, 0, 7, 16, 33, 46, 16, 16]
abbrev dktX8_adds_0 : List UInt8 := dkwX8_adds_0 ++ dktX8_adds_1
theorem dksX8_adds_0 : cX8_adds.data.toList.drop 0 = dktX8_adds_0 := by decide +kernel
theorem dksX8_adds_1 : cX8_adds.data.toList.drop 23 = dktX8_adds_1 := dk_seg dksX8_adds_0 23 rfl rfl
theorem dksX8_adds_2 : cX8_adds.data.toList.drop 46 = dktX8_adds_2 := dk_seg dksX8_adds_1 23 rfl rfl
theorem dX8_adds_0 : decode cX8_adds 0 = .ok (.iload_n 1, 1) := dk_27 (dk_at dksX8_adds_0 0 rfl rfl)
theorem dX8_adds_1 : decode cX8_adds 1 = .ok (.i2l, 1) := dk_133 (dk_at dksX8_adds_0 1 rfl rfl)
theorem dX8_adds_2 : decode cX8_adds 2 = .ok (.lconst 0, 1) := dk_9 (dk_at dksX8_adds_0 2 rfl rfl)
theorem dX8_adds_3 : decode cX8_adds 3 = .ok (.ldc2_w 165, 3) := dk_20 0 165 (dk_at dksX8_adds_0 3 rfl rfl)
theorem dX8_adds_6 : decode cX8_adds 6 = .ok (.invokestatic 53, 3) := dk_184 0 53 (dk_at dksX8_adds_0 6 rfl rfl)
theorem dX8_adds_9 : decode cX8_adds 9 = .ok (.ifCond .ne 5, 3) := dk_154 0 5 (dk_at dksX8_adds_0 9 rfl rfl)
theorem dX8_adds_12 : decode cX8_adds 12 = .ok (.iconst (-1), 1) := dk_2 (dk_at dksX8_adds_0 12 rfl rfl)
theorem dX8_adds_13 : decode cX8_adds 13 = .ok (.ireturn, 1) := dk_172 (dk_at dksX8_adds_0 13 rfl rfl)
theorem dX8_adds_14 : decode cX8_adds 14 = .ok (.aload_n 0, 1) := dk_42 (dk_at dksX8_adds_0 14 rfl rfl)
theorem dX8_adds_15 : decode cX8_adds 15 = .ok (.getfield 7, 3) := dk_180 0 7 (dk_at dksX8_adds_0 15 rfl rfl)
theorem dX8_adds_18 : decode cX8_adds 18 = .ok (.bipush 33, 2) := dk_16 33 (dk_at dksX8_adds_0 18 rfl rfl)
theorem dX8_adds_20 : decode cX8_adds 20 = .ok (.iaload, 1) := dk_46 (dk_at dksX8_adds_0 20 rfl rfl)
theorem dX8_adds_21 : decode cX8_adds 21 = .ok (.bipush 16, 2) := dk_16 16 (dk_at dksX8_adds_0 21 rfl rfl)
theorem dX8_adds_23 : decode cX8_adds 23 = .ok (.if_icmp .ne 6, 3) := dk_160 0 6 (dk_at dksX8_adds_1 0 rfl rfl)
theorem dX8_adds_26 : decode cX8_adds 26 = .ok (.bipush (-3), 2) := dk_16 253 (dk_at dksX8_adds_1 3 rfl rfl)
theorem dX8_adds_28 : decode cX8_adds 28 = .ok (.ireturn, 1) := dk_172 (dk_at dksX8_adds_1 5 rfl rfl)
theorem dX8_adds_29 : decode cX8_adds 29 = .ok (.aload_n 0, 1) := dk_42 (dk_at dksX8_adds_1 6 rfl rfl)
theorem dX8_adds_30 : decode cX8_adds 30 = .ok (.getfield 7, 3) := dk_180 0 7 (dk_at dksX8_adds_1 7 rfl rfl)
theorem dX8_adds_33 : decode cX8_adds 33 = .ok (.bipush 17, 2) := dk_16 17 (dk_at dksX8_adds_1 10 rfl rfl)
theorem dX8_adds_35 : decode cX8_adds 35 = .ok (.aload_n 0, 1) := dk_42 (dk_at dksX8_adds_1 12 rfl rfl)
theorem dX8_adds_36 : decode cX8_adds 36 = .ok (.getfield 7, 3) := dk_180 0 7 (dk_at dksX8_adds_1 13 rfl rfl)
theorem dX8_adds_39 : decode cX8_adds 39 = .ok (.bipush 33, 2) := dk_16 33 (dk_at dksX8_adds_1 16 rfl rfl)
theorem dX8_adds_41 : decode cX8_adds 41 = .ok (.iaload, 1) := dk_46 (dk_at dksX8_adds_1 18 rfl rfl)
theorem dX8_adds_42 : decode cX8_adds 42 = .ok (.iadd, 1) := dk_96 (dk_at dksX8_adds_1 19 rfl rfl)
theorem dX8_adds_43 : decode cX8_adds 43 = .ok (.iload_n 1, 1) := dk_27 (dk_at dksX8_adds_1 20 rfl rfl)
theorem dX8_adds_44 : decode cX8_adds 44 = .ok (.iastore, 1) := dk_79 (dk_at dksX8_adds_1 21 rfl rfl)
theorem dX8_adds_45 : decode cX8_adds 45 = .ok (.aload_n 0, 1) := dk_42 (dk_at dksX8_adds_1 22 rfl rfl)
theorem dX8_adds_46 : decode cX8_adds 46 = .ok (.getfield 7, 3) := dk_180 0 7 (dk_at dksX8_adds_2 0 rfl rfl)
theorem dX8_adds_49 : decode cX8_adds 49 = .ok (.bipush 33, 2) := dk_16 33 (dk_at dksX8_adds_2 3 rfl rfl)
theorem dX8_adds_51 : decode cX8_adds 51 = .ok (.dup2, 1) := dk_92 (dk_at dksX8_adds_2 5 rfl rfl)
theorem dX8_adds_52 : decode cX8_adds 52 = .ok (.iaload, 1) := dk_46 (dk_at dksX8_adds_2 6 rfl rfl)
theorem dX8_adds_53 : decode cX8_adds 53 = .ok (.iconst 1, 1) := dk_4 (dk_at dksX8_adds_2 7 rfl rfl)
theorem dX8_adds_54 : decode cX8_adds 54 = .ok (.iadd, 1) := dk_96 (dk_at dksX8_adds_2 8 rfl rfl)
theorem dX8_adds_55 : decode cX8_adds 55 = .ok (.iastore, 1) := dk_79 (dk_at dksX8_adds_2 9 rfl rfl)
theorem dX8_adds_56 : decode cX8_adds 56 = .ok (.aload_n 0, 1) := dk_42 (dk_at dksX8_adds_2 10 rfl rfl)
theorem dX8_adds_57 : decode cX8_adds 57 = .ok (.getfield 7, 3) := dk_180 0 7 (dk_at dksX8_adds_2 11 rfl rfl)
theorem dX8_adds_60 : decode cX8_adds 60 = .ok (.bipush 33, 2) := dk_16 33 (dk_at dksX8_adds_2 14 rfl rfl)
theorem dX8_adds_62 : decode cX8_adds 62 = .ok (.iaload, 1) := dk_46 (dk_at dksX8_adds_2 16 rfl rfl)
theorem dX8_adds_63 : decode cX8_adds 63 = .ok (.ireturn, 1) := dk_172 (dk_at dksX8_adds_2 17 rfl rfl)
abbrev cX8_drop : ByteArray := prog_12_method_35_code
def yX8_drop : MethodName := ⟨RX8, "drop", "(I)I"⟩
def dkwX8_drop_0 : List UInt8 := [42, 27, 133, 9, 42, 180, 0, 7, 16, 33, 46, 133, 184, 0, 53, 16, 33, 27, 3, 182, 0, 161, 172]
abbrev dktX8_drop_0 : List UInt8 := dkwX8_drop_0 ++ []
theorem dksX8_drop_0 : cX8_drop.data.toList.drop 0 = dktX8_drop_0 := by decide +kernel
theorem dX8_drop_0 : decode cX8_drop 0 = .ok (.aload_n 0, 1) := dk_42 (dk_at dksX8_drop_0 0 rfl rfl)
theorem dX8_drop_1 : decode cX8_drop 1 = .ok (.iload_n 1, 1) := dk_27 (dk_at dksX8_drop_0 1 rfl rfl)
theorem dX8_drop_2 : decode cX8_drop 2 = .ok (.i2l, 1) := dk_133 (dk_at dksX8_drop_0 2 rfl rfl)
theorem dX8_drop_3 : decode cX8_drop 3 = .ok (.lconst 0, 1) := dk_9 (dk_at dksX8_drop_0 3 rfl rfl)
theorem dX8_drop_4 : decode cX8_drop 4 = .ok (.aload_n 0, 1) := dk_42 (dk_at dksX8_drop_0 4 rfl rfl)
theorem dX8_drop_5 : decode cX8_drop 5 = .ok (.getfield 7, 3) := dk_180 0 7 (dk_at dksX8_drop_0 5 rfl rfl)
theorem dX8_drop_8 : decode cX8_drop 8 = .ok (.bipush 33, 2) := dk_16 33 (dk_at dksX8_drop_0 8 rfl rfl)
theorem dX8_drop_10 : decode cX8_drop 10 = .ok (.iaload, 1) := dk_46 (dk_at dksX8_drop_0 10 rfl rfl)
theorem dX8_drop_11 : decode cX8_drop 11 = .ok (.i2l, 1) := dk_133 (dk_at dksX8_drop_0 11 rfl rfl)
theorem dX8_drop_12 : decode cX8_drop 12 = .ok (.invokestatic 53, 3) := dk_184 0 53 (dk_at dksX8_drop_0 12 rfl rfl)
theorem dX8_drop_15 : decode cX8_drop 15 = .ok (.bipush 33, 2) := dk_16 33 (dk_at dksX8_drop_0 15 rfl rfl)
theorem dX8_drop_17 : decode cX8_drop 17 = .ok (.iload_n 1, 1) := dk_27 (dk_at dksX8_drop_0 17 rfl rfl)
theorem dX8_drop_18 : decode cX8_drop 18 = .ok (.iconst 0, 1) := dk_3 (dk_at dksX8_drop_0 18 rfl rfl)
theorem dX8_drop_19 : decode cX8_drop 19 = .ok (.invokevirtual 161, 3) := dk_182 0 161 (dk_at dksX8_drop_0 19 rfl rfl)
theorem dX8_drop_22 : decode cX8_drop 22 = .ok (.ireturn, 1) := dk_172 (dk_at dksX8_drop_0 22 rfl rfl)
abbrev cX8_turn : ByteArray := prog_12_method_36_code
def yX8_turn : MethodName := ⟨RX8, "turn", "(I)I"⟩
def dkwX8_turn_2 : List UInt8 := [16, 35, 46, 172]
abbrev dktX8_turn_2 : List UInt8 := dkwX8_turn_2 ++ []
def dkwX8_turn_1 : List UInt8 := [17, 0, 200, 100, 182, 0, 144, 154, 0, 6, 16, 254, 172, 42, 3, 27, 3, 182, 0, 137, 42, 180, 0, 7]
abbrev dktX8_turn_1 : List UInt8 := dkwX8_turn_1 ++ dktX8_turn_2
def dkwX8_turn_0 : List UInt8 := [27, 133, 9, 20, 0, 165, 184, 0, 53, 154, 0, 5, 2, 172, 27, 17, 0, 200, 161, 0, 18, 42, 27]
abbrev dktX8_turn_0 : List UInt8 := dkwX8_turn_0 ++ dktX8_turn_1
theorem dksX8_turn_0 : cX8_turn.data.toList.drop 0 = dktX8_turn_0 := by decide +kernel
theorem dksX8_turn_1 : cX8_turn.data.toList.drop 23 = dktX8_turn_1 := dk_seg dksX8_turn_0 23 rfl rfl
theorem dksX8_turn_2 : cX8_turn.data.toList.drop 47 = dktX8_turn_2 := dk_seg dksX8_turn_1 24 rfl rfl
theorem dX8_turn_0 : decode cX8_turn 0 = .ok (.iload_n 1, 1) := dk_27 (dk_at dksX8_turn_0 0 rfl rfl)
theorem dX8_turn_1 : decode cX8_turn 1 = .ok (.i2l, 1) := dk_133 (dk_at dksX8_turn_0 1 rfl rfl)
theorem dX8_turn_2 : decode cX8_turn 2 = .ok (.lconst 0, 1) := dk_9 (dk_at dksX8_turn_0 2 rfl rfl)
theorem dX8_turn_3 : decode cX8_turn 3 = .ok (.ldc2_w 165, 3) := dk_20 0 165 (dk_at dksX8_turn_0 3 rfl rfl)
theorem dX8_turn_6 : decode cX8_turn 6 = .ok (.invokestatic 53, 3) := dk_184 0 53 (dk_at dksX8_turn_0 6 rfl rfl)
theorem dX8_turn_9 : decode cX8_turn 9 = .ok (.ifCond .ne 5, 3) := dk_154 0 5 (dk_at dksX8_turn_0 9 rfl rfl)
theorem dX8_turn_12 : decode cX8_turn 12 = .ok (.iconst (-1), 1) := dk_2 (dk_at dksX8_turn_0 12 rfl rfl)
theorem dX8_turn_13 : decode cX8_turn 13 = .ok (.ireturn, 1) := dk_172 (dk_at dksX8_turn_0 13 rfl rfl)
theorem dX8_turn_14 : decode cX8_turn 14 = .ok (.iload_n 1, 1) := dk_27 (dk_at dksX8_turn_0 14 rfl rfl)
theorem dX8_turn_15 : decode cX8_turn 15 = .ok (.sipush 200, 3) := dk_17 0 200 (dk_at dksX8_turn_0 15 rfl rfl)
theorem dX8_turn_18 : decode cX8_turn 18 = .ok (.if_icmp .lt 18, 3) := dk_161 0 18 (dk_at dksX8_turn_0 18 rfl rfl)
theorem dX8_turn_21 : decode cX8_turn 21 = .ok (.aload_n 0, 1) := dk_42 (dk_at dksX8_turn_0 21 rfl rfl)
theorem dX8_turn_22 : decode cX8_turn 22 = .ok (.iload_n 1, 1) := dk_27 (dk_at dksX8_turn_0 22 rfl rfl)
theorem dX8_turn_23 : decode cX8_turn 23 = .ok (.sipush 200, 3) := dk_17 0 200 (dk_at dksX8_turn_1 0 rfl rfl)
theorem dX8_turn_26 : decode cX8_turn 26 = .ok (.isub, 1) := dk_100 (dk_at dksX8_turn_1 3 rfl rfl)
theorem dX8_turn_27 : decode cX8_turn 27 = .ok (.invokevirtual 144, 3) := dk_182 0 144 (dk_at dksX8_turn_1 4 rfl rfl)
theorem dX8_turn_30 : decode cX8_turn 30 = .ok (.ifCond .ne 6, 3) := dk_154 0 6 (dk_at dksX8_turn_1 7 rfl rfl)
theorem dX8_turn_33 : decode cX8_turn 33 = .ok (.bipush (-2), 2) := dk_16 254 (dk_at dksX8_turn_1 10 rfl rfl)
theorem dX8_turn_35 : decode cX8_turn 35 = .ok (.ireturn, 1) := dk_172 (dk_at dksX8_turn_1 12 rfl rfl)
theorem dX8_turn_36 : decode cX8_turn 36 = .ok (.aload_n 0, 1) := dk_42 (dk_at dksX8_turn_1 13 rfl rfl)
theorem dX8_turn_37 : decode cX8_turn 37 = .ok (.iconst 0, 1) := dk_3 (dk_at dksX8_turn_1 14 rfl rfl)
theorem dX8_turn_38 : decode cX8_turn 38 = .ok (.iload_n 1, 1) := dk_27 (dk_at dksX8_turn_1 15 rfl rfl)
theorem dX8_turn_39 : decode cX8_turn 39 = .ok (.iconst 0, 1) := dk_3 (dk_at dksX8_turn_1 16 rfl rfl)
theorem dX8_turn_40 : decode cX8_turn 40 = .ok (.invokevirtual 137, 3) := dk_182 0 137 (dk_at dksX8_turn_1 17 rfl rfl)
theorem dX8_turn_43 : decode cX8_turn 43 = .ok (.aload_n 0, 1) := dk_42 (dk_at dksX8_turn_1 20 rfl rfl)
theorem dX8_turn_44 : decode cX8_turn 44 = .ok (.getfield 7, 3) := dk_180 0 7 (dk_at dksX8_turn_1 21 rfl rfl)
theorem dX8_turn_47 : decode cX8_turn 47 = .ok (.bipush 35, 2) := dk_16 35 (dk_at dksX8_turn_2 0 rfl rfl)
theorem dX8_turn_49 : decode cX8_turn 49 = .ok (.iaload, 1) := dk_46 (dk_at dksX8_turn_2 2 rfl rfl)
theorem dX8_turn_50 : decode cX8_turn 50 = .ok (.ireturn, 1) := dk_172 (dk_at dksX8_turn_2 3 rfl rfl)
abbrev cX8_actOn : ByteArray := prog_12_method_20_code
def yX8_actOn : MethodName := ⟨RX8, "actOn", "(IIZ)V"⟩
def dkwX8_actOn_9 : List UInt8 := [16, 12, 96, 21, 4, 96, 46, 100, 79, 177]
abbrev dktX8_actOn_9 : List UInt8 := dkwX8_actOn_9 ++ []
def dkwX8_actOn_8 : List UInt8 := [42, 27, 21, 4, 182, 0, 125, 79, 42, 180, 0, 7, 27, 16, 35, 96, 21, 5, 42, 180, 0, 7, 27]
abbrev dktX8_actOn_8 : List UInt8 := dkwX8_actOn_8 ++ dktX8_actOn_9
def dkwX8_actOn_7 : List UInt8 := [46, 42, 180, 0, 7, 27, 16, 35, 96, 46, 96, 54, 5, 42, 180, 0, 7, 27, 16, 12, 96, 21, 4, 96]
abbrev dktX8_actOn_7 : List UInt8 := dkwX8_actOn_7 ++ dktX8_actOn_8
def dkwX8_actOn_6 : List UInt8 := [180, 0, 25, 159, 0, 77, 28, 17, 0, 200, 100, 54, 4, 42, 180, 0, 7, 27, 16, 12, 96, 21, 4, 96]
abbrev dktX8_actOn_6 : List UInt8 := dkwX8_actOn_6 ++ dktX8_actOn_7
def dkwX8_actOn_5 : List UInt8 := [17, 0, 200, 100, 42, 180, 0, 7, 27, 16, 16, 96, 46, 162, 0, 89, 28, 17, 0, 200, 100, 42]
abbrev dktX8_actOn_5 : List UInt8 := dkwX8_actOn_5 ++ dktX8_actOn_6
def dkwX8_actOn_4 : List UInt8 := [42, 180, 0, 7, 27, 16, 38, 96, 92, 46, 28, 16, 100, 100, 21, 5, 100, 96, 79, 167, 0, 106, 28]
abbrev dktX8_actOn_4 : List UInt8 := dkwX8_actOn_4 ++ dktX8_actOn_5
def dkwX8_actOn_3 : List UInt8 := [27, 16, 35, 96, 21, 4, 21, 5, 100, 79, 42, 180, 0, 7, 27, 16, 37, 96, 92, 46, 21, 5, 96, 79]
abbrev dktX8_actOn_3 : List UInt8 := dkwX8_actOn_3 ++ dktX8_actOn_4
def dkwX8_actOn_2 : List UInt8 := [28, 16, 100, 100, 21, 4, 164, 0, 8, 21, 4, 167, 0, 7, 28, 16, 100, 100, 54, 5, 42, 180, 0, 7]
abbrev dktX8_actOn_2 : List UInt8 := dkwX8_actOn_2 ++ dktX8_actOn_3
def dkwX8_actOn_1 : List UInt8 := [28, 96, 79, 167, 0, 194, 28, 17, 0, 200, 162, 0, 84, 42, 180, 0, 7, 27, 16, 35, 96, 46, 54, 4]
abbrev dktX8_actOn_1 : List UInt8 := dkwX8_actOn_1 ++ dktX8_actOn_2
def dkwX8_actOn_0 : List UInt8 := [28, 16, 100, 162, 0, 27, 42, 180, 0, 7, 27, 16, 35, 96, 92, 46, 29, 153, 0, 7, 3, 167, 0, 4]
abbrev dktX8_actOn_0 : List UInt8 := dkwX8_actOn_0 ++ dktX8_actOn_1
theorem dksX8_actOn_0 : cX8_actOn.data.toList.drop 0 = dktX8_actOn_0 := by decide +kernel
theorem dksX8_actOn_1 : cX8_actOn.data.toList.drop 24 = dktX8_actOn_1 := dk_seg dksX8_actOn_0 24 rfl rfl
theorem dksX8_actOn_2 : cX8_actOn.data.toList.drop 48 = dktX8_actOn_2 := dk_seg dksX8_actOn_1 24 rfl rfl
theorem dksX8_actOn_3 : cX8_actOn.data.toList.drop 72 = dktX8_actOn_3 := dk_seg dksX8_actOn_2 24 rfl rfl
theorem dksX8_actOn_4 : cX8_actOn.data.toList.drop 96 = dktX8_actOn_4 := dk_seg dksX8_actOn_3 24 rfl rfl
theorem dksX8_actOn_5 : cX8_actOn.data.toList.drop 119 = dktX8_actOn_5 := dk_seg dksX8_actOn_4 23 rfl rfl
theorem dksX8_actOn_6 : cX8_actOn.data.toList.drop 141 = dktX8_actOn_6 := dk_seg dksX8_actOn_5 22 rfl rfl
theorem dksX8_actOn_7 : cX8_actOn.data.toList.drop 165 = dktX8_actOn_7 := dk_seg dksX8_actOn_6 24 rfl rfl
theorem dksX8_actOn_8 : cX8_actOn.data.toList.drop 189 = dktX8_actOn_8 := dk_seg dksX8_actOn_7 24 rfl rfl
theorem dksX8_actOn_9 : cX8_actOn.data.toList.drop 212 = dktX8_actOn_9 := dk_seg dksX8_actOn_8 23 rfl rfl
theorem dX8_actOn_0 : decode cX8_actOn 0 = .ok (.iload_n 2, 1) := dk_28 (dk_at dksX8_actOn_0 0 rfl rfl)
theorem dX8_actOn_1 : decode cX8_actOn 1 = .ok (.bipush 100, 2) := dk_16 100 (dk_at dksX8_actOn_0 1 rfl rfl)
theorem dX8_actOn_3 : decode cX8_actOn 3 = .ok (.if_icmp .ge 27, 3) := dk_162 0 27 (dk_at dksX8_actOn_0 3 rfl rfl)
theorem dX8_actOn_6 : decode cX8_actOn 6 = .ok (.aload_n 0, 1) := dk_42 (dk_at dksX8_actOn_0 6 rfl rfl)
theorem dX8_actOn_7 : decode cX8_actOn 7 = .ok (.getfield 7, 3) := dk_180 0 7 (dk_at dksX8_actOn_0 7 rfl rfl)
theorem dX8_actOn_10 : decode cX8_actOn 10 = .ok (.iload_n 1, 1) := dk_27 (dk_at dksX8_actOn_0 10 rfl rfl)
theorem dX8_actOn_11 : decode cX8_actOn 11 = .ok (.bipush 35, 2) := dk_16 35 (dk_at dksX8_actOn_0 11 rfl rfl)
theorem dX8_actOn_13 : decode cX8_actOn 13 = .ok (.iadd, 1) := dk_96 (dk_at dksX8_actOn_0 13 rfl rfl)
theorem dX8_actOn_14 : decode cX8_actOn 14 = .ok (.dup2, 1) := dk_92 (dk_at dksX8_actOn_0 14 rfl rfl)
theorem dX8_actOn_15 : decode cX8_actOn 15 = .ok (.iaload, 1) := dk_46 (dk_at dksX8_actOn_0 15 rfl rfl)
theorem dX8_actOn_16 : decode cX8_actOn 16 = .ok (.iload_n 3, 1) := dk_29 (dk_at dksX8_actOn_0 16 rfl rfl)
theorem dX8_actOn_17 : decode cX8_actOn 17 = .ok (.ifCond .eq 7, 3) := dk_153 0 7 (dk_at dksX8_actOn_0 17 rfl rfl)
theorem dX8_actOn_20 : decode cX8_actOn 20 = .ok (.iconst 0, 1) := dk_3 (dk_at dksX8_actOn_0 20 rfl rfl)
theorem dX8_actOn_21 : decode cX8_actOn 21 = .ok (.goto 4, 3) := dk_167 0 4 (dk_at dksX8_actOn_0 21 rfl rfl)
theorem dX8_actOn_24 : decode cX8_actOn 24 = .ok (.iload_n 2, 1) := dk_28 (dk_at dksX8_actOn_1 0 rfl rfl)
theorem dX8_actOn_25 : decode cX8_actOn 25 = .ok (.iadd, 1) := dk_96 (dk_at dksX8_actOn_1 1 rfl rfl)
theorem dX8_actOn_26 : decode cX8_actOn 26 = .ok (.iastore, 1) := dk_79 (dk_at dksX8_actOn_1 2 rfl rfl)
theorem dX8_actOn_27 : decode cX8_actOn 27 = .ok (.goto 194, 3) := dk_167 0 194 (dk_at dksX8_actOn_1 3 rfl rfl)
theorem dX8_actOn_30 : decode cX8_actOn 30 = .ok (.iload_n 2, 1) := dk_28 (dk_at dksX8_actOn_1 6 rfl rfl)
theorem dX8_actOn_31 : decode cX8_actOn 31 = .ok (.sipush 200, 3) := dk_17 0 200 (dk_at dksX8_actOn_1 7 rfl rfl)
theorem dX8_actOn_34 : decode cX8_actOn 34 = .ok (.if_icmp .ge 84, 3) := dk_162 0 84 (dk_at dksX8_actOn_1 10 rfl rfl)
theorem dX8_actOn_37 : decode cX8_actOn 37 = .ok (.aload_n 0, 1) := dk_42 (dk_at dksX8_actOn_1 13 rfl rfl)
theorem dX8_actOn_38 : decode cX8_actOn 38 = .ok (.getfield 7, 3) := dk_180 0 7 (dk_at dksX8_actOn_1 14 rfl rfl)
theorem dX8_actOn_41 : decode cX8_actOn 41 = .ok (.iload_n 1, 1) := dk_27 (dk_at dksX8_actOn_1 17 rfl rfl)
theorem dX8_actOn_42 : decode cX8_actOn 42 = .ok (.bipush 35, 2) := dk_16 35 (dk_at dksX8_actOn_1 18 rfl rfl)
theorem dX8_actOn_44 : decode cX8_actOn 44 = .ok (.iadd, 1) := dk_96 (dk_at dksX8_actOn_1 20 rfl rfl)
theorem dX8_actOn_45 : decode cX8_actOn 45 = .ok (.iaload, 1) := dk_46 (dk_at dksX8_actOn_1 21 rfl rfl)
theorem dX8_actOn_46 : decode cX8_actOn 46 = .ok (.istore 4, 2) := dk_54 4 (dk_at dksX8_actOn_1 22 rfl rfl)
theorem dX8_actOn_48 : decode cX8_actOn 48 = .ok (.iload_n 2, 1) := dk_28 (dk_at dksX8_actOn_2 0 rfl rfl)
theorem dX8_actOn_49 : decode cX8_actOn 49 = .ok (.bipush 100, 2) := dk_16 100 (dk_at dksX8_actOn_2 1 rfl rfl)
theorem dX8_actOn_51 : decode cX8_actOn 51 = .ok (.isub, 1) := dk_100 (dk_at dksX8_actOn_2 3 rfl rfl)
theorem dX8_actOn_52 : decode cX8_actOn 52 = .ok (.iload 4, 2) := dk_21 4 (dk_at dksX8_actOn_2 4 rfl rfl)
theorem dX8_actOn_54 : decode cX8_actOn 54 = .ok (.if_icmp .le 8, 3) := dk_164 0 8 (dk_at dksX8_actOn_2 6 rfl rfl)
theorem dX8_actOn_57 : decode cX8_actOn 57 = .ok (.iload 4, 2) := dk_21 4 (dk_at dksX8_actOn_2 9 rfl rfl)
theorem dX8_actOn_59 : decode cX8_actOn 59 = .ok (.goto 7, 3) := dk_167 0 7 (dk_at dksX8_actOn_2 11 rfl rfl)
theorem dX8_actOn_62 : decode cX8_actOn 62 = .ok (.iload_n 2, 1) := dk_28 (dk_at dksX8_actOn_2 14 rfl rfl)
theorem dX8_actOn_63 : decode cX8_actOn 63 = .ok (.bipush 100, 2) := dk_16 100 (dk_at dksX8_actOn_2 15 rfl rfl)
theorem dX8_actOn_65 : decode cX8_actOn 65 = .ok (.isub, 1) := dk_100 (dk_at dksX8_actOn_2 17 rfl rfl)
theorem dX8_actOn_66 : decode cX8_actOn 66 = .ok (.istore 5, 2) := dk_54 5 (dk_at dksX8_actOn_2 18 rfl rfl)
theorem dX8_actOn_68 : decode cX8_actOn 68 = .ok (.aload_n 0, 1) := dk_42 (dk_at dksX8_actOn_2 20 rfl rfl)
theorem dX8_actOn_69 : decode cX8_actOn 69 = .ok (.getfield 7, 3) := dk_180 0 7 (dk_at dksX8_actOn_2 21 rfl rfl)
theorem dX8_actOn_72 : decode cX8_actOn 72 = .ok (.iload_n 1, 1) := dk_27 (dk_at dksX8_actOn_3 0 rfl rfl)
theorem dX8_actOn_73 : decode cX8_actOn 73 = .ok (.bipush 35, 2) := dk_16 35 (dk_at dksX8_actOn_3 1 rfl rfl)
theorem dX8_actOn_75 : decode cX8_actOn 75 = .ok (.iadd, 1) := dk_96 (dk_at dksX8_actOn_3 3 rfl rfl)
theorem dX8_actOn_76 : decode cX8_actOn 76 = .ok (.iload 4, 2) := dk_21 4 (dk_at dksX8_actOn_3 4 rfl rfl)
theorem dX8_actOn_78 : decode cX8_actOn 78 = .ok (.iload 5, 2) := dk_21 5 (dk_at dksX8_actOn_3 6 rfl rfl)
theorem dX8_actOn_80 : decode cX8_actOn 80 = .ok (.isub, 1) := dk_100 (dk_at dksX8_actOn_3 8 rfl rfl)
theorem dX8_actOn_81 : decode cX8_actOn 81 = .ok (.iastore, 1) := dk_79 (dk_at dksX8_actOn_3 9 rfl rfl)
theorem dX8_actOn_82 : decode cX8_actOn 82 = .ok (.aload_n 0, 1) := dk_42 (dk_at dksX8_actOn_3 10 rfl rfl)
theorem dX8_actOn_83 : decode cX8_actOn 83 = .ok (.getfield 7, 3) := dk_180 0 7 (dk_at dksX8_actOn_3 11 rfl rfl)
theorem dX8_actOn_86 : decode cX8_actOn 86 = .ok (.iload_n 1, 1) := dk_27 (dk_at dksX8_actOn_3 14 rfl rfl)
theorem dX8_actOn_87 : decode cX8_actOn 87 = .ok (.bipush 37, 2) := dk_16 37 (dk_at dksX8_actOn_3 15 rfl rfl)
theorem dX8_actOn_89 : decode cX8_actOn 89 = .ok (.iadd, 1) := dk_96 (dk_at dksX8_actOn_3 17 rfl rfl)
theorem dX8_actOn_90 : decode cX8_actOn 90 = .ok (.dup2, 1) := dk_92 (dk_at dksX8_actOn_3 18 rfl rfl)
theorem dX8_actOn_91 : decode cX8_actOn 91 = .ok (.iaload, 1) := dk_46 (dk_at dksX8_actOn_3 19 rfl rfl)
theorem dX8_actOn_92 : decode cX8_actOn 92 = .ok (.iload 5, 2) := dk_21 5 (dk_at dksX8_actOn_3 20 rfl rfl)
theorem dX8_actOn_94 : decode cX8_actOn 94 = .ok (.iadd, 1) := dk_96 (dk_at dksX8_actOn_3 22 rfl rfl)
theorem dX8_actOn_95 : decode cX8_actOn 95 = .ok (.iastore, 1) := dk_79 (dk_at dksX8_actOn_3 23 rfl rfl)
theorem dX8_actOn_96 : decode cX8_actOn 96 = .ok (.aload_n 0, 1) := dk_42 (dk_at dksX8_actOn_4 0 rfl rfl)
theorem dX8_actOn_97 : decode cX8_actOn 97 = .ok (.getfield 7, 3) := dk_180 0 7 (dk_at dksX8_actOn_4 1 rfl rfl)
theorem dX8_actOn_100 : decode cX8_actOn 100 = .ok (.iload_n 1, 1) := dk_27 (dk_at dksX8_actOn_4 4 rfl rfl)
theorem dX8_actOn_101 : decode cX8_actOn 101 = .ok (.bipush 38, 2) := dk_16 38 (dk_at dksX8_actOn_4 5 rfl rfl)
theorem dX8_actOn_103 : decode cX8_actOn 103 = .ok (.iadd, 1) := dk_96 (dk_at dksX8_actOn_4 7 rfl rfl)
theorem dX8_actOn_104 : decode cX8_actOn 104 = .ok (.dup2, 1) := dk_92 (dk_at dksX8_actOn_4 8 rfl rfl)
theorem dX8_actOn_105 : decode cX8_actOn 105 = .ok (.iaload, 1) := dk_46 (dk_at dksX8_actOn_4 9 rfl rfl)
theorem dX8_actOn_106 : decode cX8_actOn 106 = .ok (.iload_n 2, 1) := dk_28 (dk_at dksX8_actOn_4 10 rfl rfl)
theorem dX8_actOn_107 : decode cX8_actOn 107 = .ok (.bipush 100, 2) := dk_16 100 (dk_at dksX8_actOn_4 11 rfl rfl)
theorem dX8_actOn_109 : decode cX8_actOn 109 = .ok (.isub, 1) := dk_100 (dk_at dksX8_actOn_4 13 rfl rfl)
theorem dX8_actOn_110 : decode cX8_actOn 110 = .ok (.iload 5, 2) := dk_21 5 (dk_at dksX8_actOn_4 14 rfl rfl)
theorem dX8_actOn_112 : decode cX8_actOn 112 = .ok (.isub, 1) := dk_100 (dk_at dksX8_actOn_4 16 rfl rfl)
theorem dX8_actOn_113 : decode cX8_actOn 113 = .ok (.iadd, 1) := dk_96 (dk_at dksX8_actOn_4 17 rfl rfl)
theorem dX8_actOn_114 : decode cX8_actOn 114 = .ok (.iastore, 1) := dk_79 (dk_at dksX8_actOn_4 18 rfl rfl)
theorem dX8_actOn_115 : decode cX8_actOn 115 = .ok (.goto 106, 3) := dk_167 0 106 (dk_at dksX8_actOn_4 19 rfl rfl)
theorem dX8_actOn_118 : decode cX8_actOn 118 = .ok (.iload_n 2, 1) := dk_28 (dk_at dksX8_actOn_4 22 rfl rfl)
theorem dX8_actOn_119 : decode cX8_actOn 119 = .ok (.sipush 200, 3) := dk_17 0 200 (dk_at dksX8_actOn_5 0 rfl rfl)
theorem dX8_actOn_122 : decode cX8_actOn 122 = .ok (.isub, 1) := dk_100 (dk_at dksX8_actOn_5 3 rfl rfl)
theorem dX8_actOn_123 : decode cX8_actOn 123 = .ok (.aload_n 0, 1) := dk_42 (dk_at dksX8_actOn_5 4 rfl rfl)
theorem dX8_actOn_124 : decode cX8_actOn 124 = .ok (.getfield 7, 3) := dk_180 0 7 (dk_at dksX8_actOn_5 5 rfl rfl)
theorem dX8_actOn_127 : decode cX8_actOn 127 = .ok (.iload_n 1, 1) := dk_27 (dk_at dksX8_actOn_5 8 rfl rfl)
theorem dX8_actOn_128 : decode cX8_actOn 128 = .ok (.bipush 16, 2) := dk_16 16 (dk_at dksX8_actOn_5 9 rfl rfl)
theorem dX8_actOn_130 : decode cX8_actOn 130 = .ok (.iadd, 1) := dk_96 (dk_at dksX8_actOn_5 11 rfl rfl)
theorem dX8_actOn_131 : decode cX8_actOn 131 = .ok (.iaload, 1) := dk_46 (dk_at dksX8_actOn_5 12 rfl rfl)
theorem dX8_actOn_132 : decode cX8_actOn 132 = .ok (.if_icmp .ge 89, 3) := dk_162 0 89 (dk_at dksX8_actOn_5 13 rfl rfl)
theorem dX8_actOn_135 : decode cX8_actOn 135 = .ok (.iload_n 2, 1) := dk_28 (dk_at dksX8_actOn_5 16 rfl rfl)
theorem dX8_actOn_136 : decode cX8_actOn 136 = .ok (.sipush 200, 3) := dk_17 0 200 (dk_at dksX8_actOn_5 17 rfl rfl)
theorem dX8_actOn_139 : decode cX8_actOn 139 = .ok (.isub, 1) := dk_100 (dk_at dksX8_actOn_5 20 rfl rfl)
theorem dX8_actOn_140 : decode cX8_actOn 140 = .ok (.aload_n 0, 1) := dk_42 (dk_at dksX8_actOn_5 21 rfl rfl)
theorem dX8_actOn_141 : decode cX8_actOn 141 = .ok (.getfield 25, 3) := dk_180 0 25 (dk_at dksX8_actOn_6 0 rfl rfl)
theorem dX8_actOn_144 : decode cX8_actOn 144 = .ok (.if_icmp .eq 77, 3) := dk_159 0 77 (dk_at dksX8_actOn_6 3 rfl rfl)
theorem dX8_actOn_147 : decode cX8_actOn 147 = .ok (.iload_n 2, 1) := dk_28 (dk_at dksX8_actOn_6 6 rfl rfl)
theorem dX8_actOn_148 : decode cX8_actOn 148 = .ok (.sipush 200, 3) := dk_17 0 200 (dk_at dksX8_actOn_6 7 rfl rfl)
theorem dX8_actOn_151 : decode cX8_actOn 151 = .ok (.isub, 1) := dk_100 (dk_at dksX8_actOn_6 10 rfl rfl)
theorem dX8_actOn_152 : decode cX8_actOn 152 = .ok (.istore 4, 2) := dk_54 4 (dk_at dksX8_actOn_6 11 rfl rfl)
theorem dX8_actOn_154 : decode cX8_actOn 154 = .ok (.aload_n 0, 1) := dk_42 (dk_at dksX8_actOn_6 13 rfl rfl)
theorem dX8_actOn_155 : decode cX8_actOn 155 = .ok (.getfield 7, 3) := dk_180 0 7 (dk_at dksX8_actOn_6 14 rfl rfl)
theorem dX8_actOn_158 : decode cX8_actOn 158 = .ok (.iload_n 1, 1) := dk_27 (dk_at dksX8_actOn_6 17 rfl rfl)
theorem dX8_actOn_159 : decode cX8_actOn 159 = .ok (.bipush 12, 2) := dk_16 12 (dk_at dksX8_actOn_6 18 rfl rfl)
theorem dX8_actOn_161 : decode cX8_actOn 161 = .ok (.iadd, 1) := dk_96 (dk_at dksX8_actOn_6 20 rfl rfl)
theorem dX8_actOn_162 : decode cX8_actOn 162 = .ok (.iload 4, 2) := dk_21 4 (dk_at dksX8_actOn_6 21 rfl rfl)
theorem dX8_actOn_164 : decode cX8_actOn 164 = .ok (.iadd, 1) := dk_96 (dk_at dksX8_actOn_6 23 rfl rfl)
theorem dX8_actOn_165 : decode cX8_actOn 165 = .ok (.iaload, 1) := dk_46 (dk_at dksX8_actOn_7 0 rfl rfl)
theorem dX8_actOn_166 : decode cX8_actOn 166 = .ok (.aload_n 0, 1) := dk_42 (dk_at dksX8_actOn_7 1 rfl rfl)
theorem dX8_actOn_167 : decode cX8_actOn 167 = .ok (.getfield 7, 3) := dk_180 0 7 (dk_at dksX8_actOn_7 2 rfl rfl)
theorem dX8_actOn_170 : decode cX8_actOn 170 = .ok (.iload_n 1, 1) := dk_27 (dk_at dksX8_actOn_7 5 rfl rfl)
theorem dX8_actOn_171 : decode cX8_actOn 171 = .ok (.bipush 35, 2) := dk_16 35 (dk_at dksX8_actOn_7 6 rfl rfl)
theorem dX8_actOn_173 : decode cX8_actOn 173 = .ok (.iadd, 1) := dk_96 (dk_at dksX8_actOn_7 8 rfl rfl)
theorem dX8_actOn_174 : decode cX8_actOn 174 = .ok (.iaload, 1) := dk_46 (dk_at dksX8_actOn_7 9 rfl rfl)
theorem dX8_actOn_175 : decode cX8_actOn 175 = .ok (.iadd, 1) := dk_96 (dk_at dksX8_actOn_7 10 rfl rfl)
theorem dX8_actOn_176 : decode cX8_actOn 176 = .ok (.istore 5, 2) := dk_54 5 (dk_at dksX8_actOn_7 11 rfl rfl)
theorem dX8_actOn_178 : decode cX8_actOn 178 = .ok (.aload_n 0, 1) := dk_42 (dk_at dksX8_actOn_7 13 rfl rfl)
theorem dX8_actOn_179 : decode cX8_actOn 179 = .ok (.getfield 7, 3) := dk_180 0 7 (dk_at dksX8_actOn_7 14 rfl rfl)
theorem dX8_actOn_182 : decode cX8_actOn 182 = .ok (.iload_n 1, 1) := dk_27 (dk_at dksX8_actOn_7 17 rfl rfl)
theorem dX8_actOn_183 : decode cX8_actOn 183 = .ok (.bipush 12, 2) := dk_16 12 (dk_at dksX8_actOn_7 18 rfl rfl)
theorem dX8_actOn_185 : decode cX8_actOn 185 = .ok (.iadd, 1) := dk_96 (dk_at dksX8_actOn_7 20 rfl rfl)
theorem dX8_actOn_186 : decode cX8_actOn 186 = .ok (.iload 4, 2) := dk_21 4 (dk_at dksX8_actOn_7 21 rfl rfl)
theorem dX8_actOn_188 : decode cX8_actOn 188 = .ok (.iadd, 1) := dk_96 (dk_at dksX8_actOn_7 23 rfl rfl)
theorem dX8_actOn_189 : decode cX8_actOn 189 = .ok (.aload_n 0, 1) := dk_42 (dk_at dksX8_actOn_8 0 rfl rfl)
theorem dX8_actOn_190 : decode cX8_actOn 190 = .ok (.iload_n 1, 1) := dk_27 (dk_at dksX8_actOn_8 1 rfl rfl)
theorem dX8_actOn_191 : decode cX8_actOn 191 = .ok (.iload 4, 2) := dk_21 4 (dk_at dksX8_actOn_8 2 rfl rfl)
theorem dX8_actOn_193 : decode cX8_actOn 193 = .ok (.invokevirtual 125, 3) := dk_182 0 125 (dk_at dksX8_actOn_8 4 rfl rfl)
theorem dX8_actOn_196 : decode cX8_actOn 196 = .ok (.iastore, 1) := dk_79 (dk_at dksX8_actOn_8 7 rfl rfl)
theorem dX8_actOn_197 : decode cX8_actOn 197 = .ok (.aload_n 0, 1) := dk_42 (dk_at dksX8_actOn_8 8 rfl rfl)
theorem dX8_actOn_198 : decode cX8_actOn 198 = .ok (.getfield 7, 3) := dk_180 0 7 (dk_at dksX8_actOn_8 9 rfl rfl)
theorem dX8_actOn_201 : decode cX8_actOn 201 = .ok (.iload_n 1, 1) := dk_27 (dk_at dksX8_actOn_8 12 rfl rfl)
theorem dX8_actOn_202 : decode cX8_actOn 202 = .ok (.bipush 35, 2) := dk_16 35 (dk_at dksX8_actOn_8 13 rfl rfl)
theorem dX8_actOn_204 : decode cX8_actOn 204 = .ok (.iadd, 1) := dk_96 (dk_at dksX8_actOn_8 15 rfl rfl)
theorem dX8_actOn_205 : decode cX8_actOn 205 = .ok (.iload 5, 2) := dk_21 5 (dk_at dksX8_actOn_8 16 rfl rfl)
theorem dX8_actOn_207 : decode cX8_actOn 207 = .ok (.aload_n 0, 1) := dk_42 (dk_at dksX8_actOn_8 18 rfl rfl)
theorem dX8_actOn_208 : decode cX8_actOn 208 = .ok (.getfield 7, 3) := dk_180 0 7 (dk_at dksX8_actOn_8 19 rfl rfl)
theorem dX8_actOn_211 : decode cX8_actOn 211 = .ok (.iload_n 1, 1) := dk_27 (dk_at dksX8_actOn_8 22 rfl rfl)
theorem dX8_actOn_212 : decode cX8_actOn 212 = .ok (.bipush 12, 2) := dk_16 12 (dk_at dksX8_actOn_9 0 rfl rfl)
theorem dX8_actOn_214 : decode cX8_actOn 214 = .ok (.iadd, 1) := dk_96 (dk_at dksX8_actOn_9 2 rfl rfl)
theorem dX8_actOn_215 : decode cX8_actOn 215 = .ok (.iload 4, 2) := dk_21 4 (dk_at dksX8_actOn_9 3 rfl rfl)
theorem dX8_actOn_217 : decode cX8_actOn 217 = .ok (.iadd, 1) := dk_96 (dk_at dksX8_actOn_9 5 rfl rfl)
theorem dX8_actOn_218 : decode cX8_actOn 218 = .ok (.iaload, 1) := dk_46 (dk_at dksX8_actOn_9 6 rfl rfl)
theorem dX8_actOn_219 : decode cX8_actOn 219 = .ok (.isub, 1) := dk_100 (dk_at dksX8_actOn_9 7 rfl rfl)
theorem dX8_actOn_220 : decode cX8_actOn 220 = .ok (.iastore, 1) := dk_79 (dk_at dksX8_actOn_9 8 rfl rfl)
theorem dX8_actOn_221 : decode cX8_actOn 221 = .ok (.return_, 1) := dk_177 (dk_at dksX8_actOn_9 9 rfl rfl)
abbrev cX8_ticks : ByteArray := prog_12_method_37_code
def yX8_ticks : MethodName := ⟨RX8, "ticks", "(I)I"⟩
def dkwX8_ticks_2 : List UInt8 := [42, 3, 3, 182, 0, 172, 132, 3, 1, 167, 255, 242, 42, 180, 0, 7, 16, 37, 46, 28, 100, 172]
abbrev dktX8_ticks_2 : List UInt8 := dkwX8_ticks_2 ++ []
def dkwX8_ticks_1 : List UInt8 := [17, 39, 15, 164, 0, 6, 16, 253, 172, 42, 180, 0, 7, 16, 37, 46, 61, 3, 62, 29, 27, 162, 0, 15]
abbrev dktX8_ticks_1 : List UInt8 := dkwX8_ticks_1 ++ dktX8_ticks_2
def dkwX8_ticks_0 : List UInt8 := [27, 133, 9, 20, 0, 170, 184, 0, 53, 154, 0, 5, 2, 172, 42, 180, 0, 7, 16, 36, 46, 27, 96]
abbrev dktX8_ticks_0 : List UInt8 := dkwX8_ticks_0 ++ dktX8_ticks_1
theorem dksX8_ticks_0 : cX8_ticks.data.toList.drop 0 = dktX8_ticks_0 := by decide +kernel
theorem dksX8_ticks_1 : cX8_ticks.data.toList.drop 23 = dktX8_ticks_1 := dk_seg dksX8_ticks_0 23 rfl rfl
theorem dksX8_ticks_2 : cX8_ticks.data.toList.drop 47 = dktX8_ticks_2 := dk_seg dksX8_ticks_1 24 rfl rfl
theorem dX8_ticks_0 : decode cX8_ticks 0 = .ok (.iload_n 1, 1) := dk_27 (dk_at dksX8_ticks_0 0 rfl rfl)
theorem dX8_ticks_1 : decode cX8_ticks 1 = .ok (.i2l, 1) := dk_133 (dk_at dksX8_ticks_0 1 rfl rfl)
theorem dX8_ticks_2 : decode cX8_ticks 2 = .ok (.lconst 0, 1) := dk_9 (dk_at dksX8_ticks_0 2 rfl rfl)
theorem dX8_ticks_3 : decode cX8_ticks 3 = .ok (.ldc2_w 170, 3) := dk_20 0 170 (dk_at dksX8_ticks_0 3 rfl rfl)
theorem dX8_ticks_6 : decode cX8_ticks 6 = .ok (.invokestatic 53, 3) := dk_184 0 53 (dk_at dksX8_ticks_0 6 rfl rfl)
theorem dX8_ticks_9 : decode cX8_ticks 9 = .ok (.ifCond .ne 5, 3) := dk_154 0 5 (dk_at dksX8_ticks_0 9 rfl rfl)
theorem dX8_ticks_12 : decode cX8_ticks 12 = .ok (.iconst (-1), 1) := dk_2 (dk_at dksX8_ticks_0 12 rfl rfl)
theorem dX8_ticks_13 : decode cX8_ticks 13 = .ok (.ireturn, 1) := dk_172 (dk_at dksX8_ticks_0 13 rfl rfl)
theorem dX8_ticks_14 : decode cX8_ticks 14 = .ok (.aload_n 0, 1) := dk_42 (dk_at dksX8_ticks_0 14 rfl rfl)
theorem dX8_ticks_15 : decode cX8_ticks 15 = .ok (.getfield 7, 3) := dk_180 0 7 (dk_at dksX8_ticks_0 15 rfl rfl)
theorem dX8_ticks_18 : decode cX8_ticks 18 = .ok (.bipush 36, 2) := dk_16 36 (dk_at dksX8_ticks_0 18 rfl rfl)
theorem dX8_ticks_20 : decode cX8_ticks 20 = .ok (.iaload, 1) := dk_46 (dk_at dksX8_ticks_0 20 rfl rfl)
theorem dX8_ticks_21 : decode cX8_ticks 21 = .ok (.iload_n 1, 1) := dk_27 (dk_at dksX8_ticks_0 21 rfl rfl)
theorem dX8_ticks_22 : decode cX8_ticks 22 = .ok (.iadd, 1) := dk_96 (dk_at dksX8_ticks_0 22 rfl rfl)
theorem dX8_ticks_23 : decode cX8_ticks 23 = .ok (.sipush 9999, 3) := dk_17 39 15 (dk_at dksX8_ticks_1 0 rfl rfl)
theorem dX8_ticks_26 : decode cX8_ticks 26 = .ok (.if_icmp .le 6, 3) := dk_164 0 6 (dk_at dksX8_ticks_1 3 rfl rfl)
theorem dX8_ticks_29 : decode cX8_ticks 29 = .ok (.bipush (-3), 2) := dk_16 253 (dk_at dksX8_ticks_1 6 rfl rfl)
theorem dX8_ticks_31 : decode cX8_ticks 31 = .ok (.ireturn, 1) := dk_172 (dk_at dksX8_ticks_1 8 rfl rfl)
theorem dX8_ticks_32 : decode cX8_ticks 32 = .ok (.aload_n 0, 1) := dk_42 (dk_at dksX8_ticks_1 9 rfl rfl)
theorem dX8_ticks_33 : decode cX8_ticks 33 = .ok (.getfield 7, 3) := dk_180 0 7 (dk_at dksX8_ticks_1 10 rfl rfl)
theorem dX8_ticks_36 : decode cX8_ticks 36 = .ok (.bipush 37, 2) := dk_16 37 (dk_at dksX8_ticks_1 13 rfl rfl)
theorem dX8_ticks_38 : decode cX8_ticks 38 = .ok (.iaload, 1) := dk_46 (dk_at dksX8_ticks_1 15 rfl rfl)
theorem dX8_ticks_39 : decode cX8_ticks 39 = .ok (.istore_n 2, 1) := dk_61 (dk_at dksX8_ticks_1 16 rfl rfl)
theorem dX8_ticks_40 : decode cX8_ticks 40 = .ok (.iconst 0, 1) := dk_3 (dk_at dksX8_ticks_1 17 rfl rfl)
theorem dX8_ticks_41 : decode cX8_ticks 41 = .ok (.istore_n 3, 1) := dk_62 (dk_at dksX8_ticks_1 18 rfl rfl)
theorem dX8_ticks_42 : decode cX8_ticks 42 = .ok (.iload_n 3, 1) := dk_29 (dk_at dksX8_ticks_1 19 rfl rfl)
theorem dX8_ticks_43 : decode cX8_ticks 43 = .ok (.iload_n 1, 1) := dk_27 (dk_at dksX8_ticks_1 20 rfl rfl)
theorem dX8_ticks_44 : decode cX8_ticks 44 = .ok (.if_icmp .ge 15, 3) := dk_162 0 15 (dk_at dksX8_ticks_1 21 rfl rfl)
theorem dX8_ticks_47 : decode cX8_ticks 47 = .ok (.aload_n 0, 1) := dk_42 (dk_at dksX8_ticks_2 0 rfl rfl)
theorem dX8_ticks_48 : decode cX8_ticks 48 = .ok (.iconst 0, 1) := dk_3 (dk_at dksX8_ticks_2 1 rfl rfl)
theorem dX8_ticks_49 : decode cX8_ticks 49 = .ok (.iconst 0, 1) := dk_3 (dk_at dksX8_ticks_2 2 rfl rfl)
theorem dX8_ticks_50 : decode cX8_ticks 50 = .ok (.invokevirtual 172, 3) := dk_182 0 172 (dk_at dksX8_ticks_2 3 rfl rfl)
theorem dX8_ticks_53 : decode cX8_ticks 53 = .ok (.iinc 3 1, 3) := dk_132 3 1 (dk_at dksX8_ticks_2 6 rfl rfl)
theorem dX8_ticks_56 : decode cX8_ticks 56 = .ok (.goto (-14), 3) := dk_167 255 242 (dk_at dksX8_ticks_2 9 rfl rfl)
theorem dX8_ticks_59 : decode cX8_ticks 59 = .ok (.aload_n 0, 1) := dk_42 (dk_at dksX8_ticks_2 12 rfl rfl)
theorem dX8_ticks_60 : decode cX8_ticks 60 = .ok (.getfield 7, 3) := dk_180 0 7 (dk_at dksX8_ticks_2 13 rfl rfl)
theorem dX8_ticks_63 : decode cX8_ticks 63 = .ok (.bipush 37, 2) := dk_16 37 (dk_at dksX8_ticks_2 16 rfl rfl)
theorem dX8_ticks_65 : decode cX8_ticks 65 = .ok (.iaload, 1) := dk_46 (dk_at dksX8_ticks_2 18 rfl rfl)
theorem dX8_ticks_66 : decode cX8_ticks 66 = .ok (.iload_n 2, 1) := dk_28 (dk_at dksX8_ticks_2 19 rfl rfl)
theorem dX8_ticks_67 : decode cX8_ticks 67 = .ok (.isub, 1) := dk_100 (dk_at dksX8_ticks_2 20 rfl rfl)
theorem dX8_ticks_68 : decode cX8_ticks 68 = .ok (.ireturn, 1) := dk_172 (dk_at dksX8_ticks_2 21 rfl rfl)
abbrev cX8_tickOn : ByteArray := prog_12_method_22_code
def yX8_tickOn : MethodName := ⟨RX8, "tickOn", "(IZ)V"⟩
def dkwX8_tickOn_2 : List UInt8 := [16, 36, 96, 46, 29, 112, 96, 46, 28, 182, 0, 137, 42, 27, 182, 0, 141, 177]
abbrev dktX8_tickOn_2 : List UInt8 := dkwX8_tickOn_2 ++ []
def dkwX8_tickOn_1 : List UInt8 := [112, 42, 180, 0, 29, 159, 0, 30, 42, 27, 42, 180, 0, 7, 27, 16, 17, 96, 42, 180, 0, 7, 27]
abbrev dktX8_tickOn_1 : List UInt8 := dkwX8_tickOn_1 ++ dktX8_tickOn_2
def dkwX8_tickOn_0 : List UInt8 := [42, 180, 0, 7, 27, 16, 33, 96, 46, 62, 29, 158, 0, 48, 42, 180, 0, 7, 27, 16, 36, 96, 46, 29]
abbrev dktX8_tickOn_0 : List UInt8 := dkwX8_tickOn_0 ++ dktX8_tickOn_1
theorem dksX8_tickOn_0 : cX8_tickOn.data.toList.drop 0 = dktX8_tickOn_0 := by decide +kernel
theorem dksX8_tickOn_1 : cX8_tickOn.data.toList.drop 24 = dktX8_tickOn_1 := dk_seg dksX8_tickOn_0 24 rfl rfl
theorem dksX8_tickOn_2 : cX8_tickOn.data.toList.drop 47 = dktX8_tickOn_2 := dk_seg dksX8_tickOn_1 23 rfl rfl
theorem dX8_tickOn_0 : decode cX8_tickOn 0 = .ok (.aload_n 0, 1) := dk_42 (dk_at dksX8_tickOn_0 0 rfl rfl)
theorem dX8_tickOn_1 : decode cX8_tickOn 1 = .ok (.getfield 7, 3) := dk_180 0 7 (dk_at dksX8_tickOn_0 1 rfl rfl)
theorem dX8_tickOn_4 : decode cX8_tickOn 4 = .ok (.iload_n 1, 1) := dk_27 (dk_at dksX8_tickOn_0 4 rfl rfl)
theorem dX8_tickOn_5 : decode cX8_tickOn 5 = .ok (.bipush 33, 2) := dk_16 33 (dk_at dksX8_tickOn_0 5 rfl rfl)
theorem dX8_tickOn_7 : decode cX8_tickOn 7 = .ok (.iadd, 1) := dk_96 (dk_at dksX8_tickOn_0 7 rfl rfl)
theorem dX8_tickOn_8 : decode cX8_tickOn 8 = .ok (.iaload, 1) := dk_46 (dk_at dksX8_tickOn_0 8 rfl rfl)
theorem dX8_tickOn_9 : decode cX8_tickOn 9 = .ok (.istore_n 3, 1) := dk_62 (dk_at dksX8_tickOn_0 9 rfl rfl)
theorem dX8_tickOn_10 : decode cX8_tickOn 10 = .ok (.iload_n 3, 1) := dk_29 (dk_at dksX8_tickOn_0 10 rfl rfl)
theorem dX8_tickOn_11 : decode cX8_tickOn 11 = .ok (.ifCond .le 48, 3) := dk_158 0 48 (dk_at dksX8_tickOn_0 11 rfl rfl)
theorem dX8_tickOn_14 : decode cX8_tickOn 14 = .ok (.aload_n 0, 1) := dk_42 (dk_at dksX8_tickOn_0 14 rfl rfl)
theorem dX8_tickOn_15 : decode cX8_tickOn 15 = .ok (.getfield 7, 3) := dk_180 0 7 (dk_at dksX8_tickOn_0 15 rfl rfl)
theorem dX8_tickOn_18 : decode cX8_tickOn 18 = .ok (.iload_n 1, 1) := dk_27 (dk_at dksX8_tickOn_0 18 rfl rfl)
theorem dX8_tickOn_19 : decode cX8_tickOn 19 = .ok (.bipush 36, 2) := dk_16 36 (dk_at dksX8_tickOn_0 19 rfl rfl)
theorem dX8_tickOn_21 : decode cX8_tickOn 21 = .ok (.iadd, 1) := dk_96 (dk_at dksX8_tickOn_0 21 rfl rfl)
theorem dX8_tickOn_22 : decode cX8_tickOn 22 = .ok (.iaload, 1) := dk_46 (dk_at dksX8_tickOn_0 22 rfl rfl)
theorem dX8_tickOn_23 : decode cX8_tickOn 23 = .ok (.iload_n 3, 1) := dk_29 (dk_at dksX8_tickOn_0 23 rfl rfl)
theorem dX8_tickOn_24 : decode cX8_tickOn 24 = .ok (.irem, 1) := dk_112 (dk_at dksX8_tickOn_1 0 rfl rfl)
theorem dX8_tickOn_25 : decode cX8_tickOn 25 = .ok (.aload_n 0, 1) := dk_42 (dk_at dksX8_tickOn_1 1 rfl rfl)
theorem dX8_tickOn_26 : decode cX8_tickOn 26 = .ok (.getfield 29, 3) := dk_180 0 29 (dk_at dksX8_tickOn_1 2 rfl rfl)
theorem dX8_tickOn_29 : decode cX8_tickOn 29 = .ok (.if_icmp .eq 30, 3) := dk_159 0 30 (dk_at dksX8_tickOn_1 5 rfl rfl)
theorem dX8_tickOn_32 : decode cX8_tickOn 32 = .ok (.aload_n 0, 1) := dk_42 (dk_at dksX8_tickOn_1 8 rfl rfl)
theorem dX8_tickOn_33 : decode cX8_tickOn 33 = .ok (.iload_n 1, 1) := dk_27 (dk_at dksX8_tickOn_1 9 rfl rfl)
theorem dX8_tickOn_34 : decode cX8_tickOn 34 = .ok (.aload_n 0, 1) := dk_42 (dk_at dksX8_tickOn_1 10 rfl rfl)
theorem dX8_tickOn_35 : decode cX8_tickOn 35 = .ok (.getfield 7, 3) := dk_180 0 7 (dk_at dksX8_tickOn_1 11 rfl rfl)
theorem dX8_tickOn_38 : decode cX8_tickOn 38 = .ok (.iload_n 1, 1) := dk_27 (dk_at dksX8_tickOn_1 14 rfl rfl)
theorem dX8_tickOn_39 : decode cX8_tickOn 39 = .ok (.bipush 17, 2) := dk_16 17 (dk_at dksX8_tickOn_1 15 rfl rfl)
theorem dX8_tickOn_41 : decode cX8_tickOn 41 = .ok (.iadd, 1) := dk_96 (dk_at dksX8_tickOn_1 17 rfl rfl)
theorem dX8_tickOn_42 : decode cX8_tickOn 42 = .ok (.aload_n 0, 1) := dk_42 (dk_at dksX8_tickOn_1 18 rfl rfl)
theorem dX8_tickOn_43 : decode cX8_tickOn 43 = .ok (.getfield 7, 3) := dk_180 0 7 (dk_at dksX8_tickOn_1 19 rfl rfl)
theorem dX8_tickOn_46 : decode cX8_tickOn 46 = .ok (.iload_n 1, 1) := dk_27 (dk_at dksX8_tickOn_1 22 rfl rfl)
theorem dX8_tickOn_47 : decode cX8_tickOn 47 = .ok (.bipush 36, 2) := dk_16 36 (dk_at dksX8_tickOn_2 0 rfl rfl)
theorem dX8_tickOn_49 : decode cX8_tickOn 49 = .ok (.iadd, 1) := dk_96 (dk_at dksX8_tickOn_2 2 rfl rfl)
theorem dX8_tickOn_50 : decode cX8_tickOn 50 = .ok (.iaload, 1) := dk_46 (dk_at dksX8_tickOn_2 3 rfl rfl)
theorem dX8_tickOn_51 : decode cX8_tickOn 51 = .ok (.iload_n 3, 1) := dk_29 (dk_at dksX8_tickOn_2 4 rfl rfl)
theorem dX8_tickOn_52 : decode cX8_tickOn 52 = .ok (.irem, 1) := dk_112 (dk_at dksX8_tickOn_2 5 rfl rfl)
theorem dX8_tickOn_53 : decode cX8_tickOn 53 = .ok (.iadd, 1) := dk_96 (dk_at dksX8_tickOn_2 6 rfl rfl)
theorem dX8_tickOn_54 : decode cX8_tickOn 54 = .ok (.iaload, 1) := dk_46 (dk_at dksX8_tickOn_2 7 rfl rfl)
theorem dX8_tickOn_55 : decode cX8_tickOn 55 = .ok (.iload_n 2, 1) := dk_28 (dk_at dksX8_tickOn_2 8 rfl rfl)
theorem dX8_tickOn_56 : decode cX8_tickOn 56 = .ok (.invokevirtual 137, 3) := dk_182 0 137 (dk_at dksX8_tickOn_2 9 rfl rfl)
theorem dX8_tickOn_59 : decode cX8_tickOn 59 = .ok (.aload_n 0, 1) := dk_42 (dk_at dksX8_tickOn_2 12 rfl rfl)
theorem dX8_tickOn_60 : decode cX8_tickOn 60 = .ok (.iload_n 1, 1) := dk_27 (dk_at dksX8_tickOn_2 13 rfl rfl)
theorem dX8_tickOn_61 : decode cX8_tickOn 61 = .ok (.invokevirtual 141, 3) := dk_182 0 141 (dk_at dksX8_tickOn_2 14 rfl rfl)
theorem dX8_tickOn_64 : decode cX8_tickOn 64 = .ok (.return_, 1) := dk_177 (dk_at dksX8_tickOn_2 17 rfl rfl)
abbrev cX8_lossesOn : ByteArray := prog_12_method_21_code
def yX8_lossesOn : MethodName := ⟨RX8, "lossesOn", "(I)V"⟩
def dkwX8_lossesOn_5 : List UInt8 := [180, 0, 134, 181, 0, 134, 177]
abbrev dktX8_lossesOn_5 : List UInt8 := dkwX8_lossesOn_5 ++ []
def dkwX8_lossesOn_4 : List UInt8 := [46, 4, 96, 79, 42, 27, 182, 0, 131, 61, 42, 28, 42, 180, 0, 134, 164, 0, 7, 28, 167, 0, 7, 42]
abbrev dktX8_lossesOn_4 : List UInt8 := dkwX8_lossesOn_4 ++ dktX8_lossesOn_5
def dkwX8_lossesOn_3 : List UInt8 := [180, 0, 128, 21, 5, 96, 181, 0, 128, 132, 2, 1, 167, 255, 174, 42, 180, 0, 7, 27, 16, 36, 96, 92]
abbrev dktX8_lossesOn_3 : List UInt8 := dkwX8_lossesOn_3 ++ dktX8_lossesOn_4
def dkwX8_lossesOn_2 : List UInt8 := [167, 0, 4, 29, 54, 5, 42, 180, 0, 7, 27, 16, 12, 96, 28, 96, 21, 4, 21, 5, 100, 79, 42, 89]
abbrev dktX8_lossesOn_2 : List UInt8 := dkwX8_lossesOn_2 ++ dktX8_lossesOn_3
def dkwX8_lossesOn_1 : List UInt8 := [96, 46, 62, 42, 180, 0, 7, 27, 16, 12, 96, 28, 96, 46, 54, 4, 29, 21, 4, 164, 0, 8, 21, 4]
abbrev dktX8_lossesOn_1 : List UInt8 := dkwX8_lossesOn_1 ++ dktX8_lossesOn_2
def dkwX8_lossesOn_0 : List UInt8 := [3, 61, 28, 42, 180, 0, 7, 27, 16, 16, 96, 46, 162, 0, 75, 42, 180, 0, 7, 27, 16, 8, 96, 28]
abbrev dktX8_lossesOn_0 : List UInt8 := dkwX8_lossesOn_0 ++ dktX8_lossesOn_1
theorem dksX8_lossesOn_0 : cX8_lossesOn.data.toList.drop 0 = dktX8_lossesOn_0 := by decide +kernel
theorem dksX8_lossesOn_1 : cX8_lossesOn.data.toList.drop 24 = dktX8_lossesOn_1 := dk_seg dksX8_lossesOn_0 24 rfl rfl
theorem dksX8_lossesOn_2 : cX8_lossesOn.data.toList.drop 48 = dktX8_lossesOn_2 := dk_seg dksX8_lossesOn_1 24 rfl rfl
theorem dksX8_lossesOn_3 : cX8_lossesOn.data.toList.drop 72 = dktX8_lossesOn_3 := dk_seg dksX8_lossesOn_2 24 rfl rfl
theorem dksX8_lossesOn_4 : cX8_lossesOn.data.toList.drop 96 = dktX8_lossesOn_4 := dk_seg dksX8_lossesOn_3 24 rfl rfl
theorem dksX8_lossesOn_5 : cX8_lossesOn.data.toList.drop 120 = dktX8_lossesOn_5 := dk_seg dksX8_lossesOn_4 24 rfl rfl
theorem dX8_lossesOn_0 : decode cX8_lossesOn 0 = .ok (.iconst 0, 1) := dk_3 (dk_at dksX8_lossesOn_0 0 rfl rfl)
theorem dX8_lossesOn_1 : decode cX8_lossesOn 1 = .ok (.istore_n 2, 1) := dk_61 (dk_at dksX8_lossesOn_0 1 rfl rfl)
theorem dX8_lossesOn_2 : decode cX8_lossesOn 2 = .ok (.iload_n 2, 1) := dk_28 (dk_at dksX8_lossesOn_0 2 rfl rfl)
theorem dX8_lossesOn_3 : decode cX8_lossesOn 3 = .ok (.aload_n 0, 1) := dk_42 (dk_at dksX8_lossesOn_0 3 rfl rfl)
theorem dX8_lossesOn_4 : decode cX8_lossesOn 4 = .ok (.getfield 7, 3) := dk_180 0 7 (dk_at dksX8_lossesOn_0 4 rfl rfl)
theorem dX8_lossesOn_7 : decode cX8_lossesOn 7 = .ok (.iload_n 1, 1) := dk_27 (dk_at dksX8_lossesOn_0 7 rfl rfl)
theorem dX8_lossesOn_8 : decode cX8_lossesOn 8 = .ok (.bipush 16, 2) := dk_16 16 (dk_at dksX8_lossesOn_0 8 rfl rfl)
theorem dX8_lossesOn_10 : decode cX8_lossesOn 10 = .ok (.iadd, 1) := dk_96 (dk_at dksX8_lossesOn_0 10 rfl rfl)
theorem dX8_lossesOn_11 : decode cX8_lossesOn 11 = .ok (.iaload, 1) := dk_46 (dk_at dksX8_lossesOn_0 11 rfl rfl)
theorem dX8_lossesOn_12 : decode cX8_lossesOn 12 = .ok (.if_icmp .ge 75, 3) := dk_162 0 75 (dk_at dksX8_lossesOn_0 12 rfl rfl)
theorem dX8_lossesOn_15 : decode cX8_lossesOn 15 = .ok (.aload_n 0, 1) := dk_42 (dk_at dksX8_lossesOn_0 15 rfl rfl)
theorem dX8_lossesOn_16 : decode cX8_lossesOn 16 = .ok (.getfield 7, 3) := dk_180 0 7 (dk_at dksX8_lossesOn_0 16 rfl rfl)
theorem dX8_lossesOn_19 : decode cX8_lossesOn 19 = .ok (.iload_n 1, 1) := dk_27 (dk_at dksX8_lossesOn_0 19 rfl rfl)
theorem dX8_lossesOn_20 : decode cX8_lossesOn 20 = .ok (.bipush 8, 2) := dk_16 8 (dk_at dksX8_lossesOn_0 20 rfl rfl)
theorem dX8_lossesOn_22 : decode cX8_lossesOn 22 = .ok (.iadd, 1) := dk_96 (dk_at dksX8_lossesOn_0 22 rfl rfl)
theorem dX8_lossesOn_23 : decode cX8_lossesOn 23 = .ok (.iload_n 2, 1) := dk_28 (dk_at dksX8_lossesOn_0 23 rfl rfl)
theorem dX8_lossesOn_24 : decode cX8_lossesOn 24 = .ok (.iadd, 1) := dk_96 (dk_at dksX8_lossesOn_1 0 rfl rfl)
theorem dX8_lossesOn_25 : decode cX8_lossesOn 25 = .ok (.iaload, 1) := dk_46 (dk_at dksX8_lossesOn_1 1 rfl rfl)
theorem dX8_lossesOn_26 : decode cX8_lossesOn 26 = .ok (.istore_n 3, 1) := dk_62 (dk_at dksX8_lossesOn_1 2 rfl rfl)
theorem dX8_lossesOn_27 : decode cX8_lossesOn 27 = .ok (.aload_n 0, 1) := dk_42 (dk_at dksX8_lossesOn_1 3 rfl rfl)
theorem dX8_lossesOn_28 : decode cX8_lossesOn 28 = .ok (.getfield 7, 3) := dk_180 0 7 (dk_at dksX8_lossesOn_1 4 rfl rfl)
theorem dX8_lossesOn_31 : decode cX8_lossesOn 31 = .ok (.iload_n 1, 1) := dk_27 (dk_at dksX8_lossesOn_1 7 rfl rfl)
theorem dX8_lossesOn_32 : decode cX8_lossesOn 32 = .ok (.bipush 12, 2) := dk_16 12 (dk_at dksX8_lossesOn_1 8 rfl rfl)
theorem dX8_lossesOn_34 : decode cX8_lossesOn 34 = .ok (.iadd, 1) := dk_96 (dk_at dksX8_lossesOn_1 10 rfl rfl)
theorem dX8_lossesOn_35 : decode cX8_lossesOn 35 = .ok (.iload_n 2, 1) := dk_28 (dk_at dksX8_lossesOn_1 11 rfl rfl)
theorem dX8_lossesOn_36 : decode cX8_lossesOn 36 = .ok (.iadd, 1) := dk_96 (dk_at dksX8_lossesOn_1 12 rfl rfl)
theorem dX8_lossesOn_37 : decode cX8_lossesOn 37 = .ok (.iaload, 1) := dk_46 (dk_at dksX8_lossesOn_1 13 rfl rfl)
theorem dX8_lossesOn_38 : decode cX8_lossesOn 38 = .ok (.istore 4, 2) := dk_54 4 (dk_at dksX8_lossesOn_1 14 rfl rfl)
theorem dX8_lossesOn_40 : decode cX8_lossesOn 40 = .ok (.iload_n 3, 1) := dk_29 (dk_at dksX8_lossesOn_1 16 rfl rfl)
theorem dX8_lossesOn_41 : decode cX8_lossesOn 41 = .ok (.iload 4, 2) := dk_21 4 (dk_at dksX8_lossesOn_1 17 rfl rfl)
theorem dX8_lossesOn_43 : decode cX8_lossesOn 43 = .ok (.if_icmp .le 8, 3) := dk_164 0 8 (dk_at dksX8_lossesOn_1 19 rfl rfl)
theorem dX8_lossesOn_46 : decode cX8_lossesOn 46 = .ok (.iload 4, 2) := dk_21 4 (dk_at dksX8_lossesOn_1 22 rfl rfl)
theorem dX8_lossesOn_48 : decode cX8_lossesOn 48 = .ok (.goto 4, 3) := dk_167 0 4 (dk_at dksX8_lossesOn_2 0 rfl rfl)
theorem dX8_lossesOn_51 : decode cX8_lossesOn 51 = .ok (.iload_n 3, 1) := dk_29 (dk_at dksX8_lossesOn_2 3 rfl rfl)
theorem dX8_lossesOn_52 : decode cX8_lossesOn 52 = .ok (.istore 5, 2) := dk_54 5 (dk_at dksX8_lossesOn_2 4 rfl rfl)
theorem dX8_lossesOn_54 : decode cX8_lossesOn 54 = .ok (.aload_n 0, 1) := dk_42 (dk_at dksX8_lossesOn_2 6 rfl rfl)
theorem dX8_lossesOn_55 : decode cX8_lossesOn 55 = .ok (.getfield 7, 3) := dk_180 0 7 (dk_at dksX8_lossesOn_2 7 rfl rfl)
theorem dX8_lossesOn_58 : decode cX8_lossesOn 58 = .ok (.iload_n 1, 1) := dk_27 (dk_at dksX8_lossesOn_2 10 rfl rfl)
theorem dX8_lossesOn_59 : decode cX8_lossesOn 59 = .ok (.bipush 12, 2) := dk_16 12 (dk_at dksX8_lossesOn_2 11 rfl rfl)
theorem dX8_lossesOn_61 : decode cX8_lossesOn 61 = .ok (.iadd, 1) := dk_96 (dk_at dksX8_lossesOn_2 13 rfl rfl)
theorem dX8_lossesOn_62 : decode cX8_lossesOn 62 = .ok (.iload_n 2, 1) := dk_28 (dk_at dksX8_lossesOn_2 14 rfl rfl)
theorem dX8_lossesOn_63 : decode cX8_lossesOn 63 = .ok (.iadd, 1) := dk_96 (dk_at dksX8_lossesOn_2 15 rfl rfl)
theorem dX8_lossesOn_64 : decode cX8_lossesOn 64 = .ok (.iload 4, 2) := dk_21 4 (dk_at dksX8_lossesOn_2 16 rfl rfl)
theorem dX8_lossesOn_66 : decode cX8_lossesOn 66 = .ok (.iload 5, 2) := dk_21 5 (dk_at dksX8_lossesOn_2 18 rfl rfl)
theorem dX8_lossesOn_68 : decode cX8_lossesOn 68 = .ok (.isub, 1) := dk_100 (dk_at dksX8_lossesOn_2 20 rfl rfl)
theorem dX8_lossesOn_69 : decode cX8_lossesOn 69 = .ok (.iastore, 1) := dk_79 (dk_at dksX8_lossesOn_2 21 rfl rfl)
theorem dX8_lossesOn_70 : decode cX8_lossesOn 70 = .ok (.aload_n 0, 1) := dk_42 (dk_at dksX8_lossesOn_2 22 rfl rfl)
theorem dX8_lossesOn_71 : decode cX8_lossesOn 71 = .ok (.dup, 1) := dk_89 (dk_at dksX8_lossesOn_2 23 rfl rfl)
theorem dX8_lossesOn_72 : decode cX8_lossesOn 72 = .ok (.getfield 128, 3) := dk_180 0 128 (dk_at dksX8_lossesOn_3 0 rfl rfl)
theorem dX8_lossesOn_75 : decode cX8_lossesOn 75 = .ok (.iload 5, 2) := dk_21 5 (dk_at dksX8_lossesOn_3 3 rfl rfl)
theorem dX8_lossesOn_77 : decode cX8_lossesOn 77 = .ok (.iadd, 1) := dk_96 (dk_at dksX8_lossesOn_3 5 rfl rfl)
theorem dX8_lossesOn_78 : decode cX8_lossesOn 78 = .ok (.putfield 128, 3) := dk_181 0 128 (dk_at dksX8_lossesOn_3 6 rfl rfl)
theorem dX8_lossesOn_81 : decode cX8_lossesOn 81 = .ok (.iinc 2 1, 3) := dk_132 2 1 (dk_at dksX8_lossesOn_3 9 rfl rfl)
theorem dX8_lossesOn_84 : decode cX8_lossesOn 84 = .ok (.goto (-82), 3) := dk_167 255 174 (dk_at dksX8_lossesOn_3 12 rfl rfl)
theorem dX8_lossesOn_87 : decode cX8_lossesOn 87 = .ok (.aload_n 0, 1) := dk_42 (dk_at dksX8_lossesOn_3 15 rfl rfl)
theorem dX8_lossesOn_88 : decode cX8_lossesOn 88 = .ok (.getfield 7, 3) := dk_180 0 7 (dk_at dksX8_lossesOn_3 16 rfl rfl)
theorem dX8_lossesOn_91 : decode cX8_lossesOn 91 = .ok (.iload_n 1, 1) := dk_27 (dk_at dksX8_lossesOn_3 19 rfl rfl)
theorem dX8_lossesOn_92 : decode cX8_lossesOn 92 = .ok (.bipush 36, 2) := dk_16 36 (dk_at dksX8_lossesOn_3 20 rfl rfl)
theorem dX8_lossesOn_94 : decode cX8_lossesOn 94 = .ok (.iadd, 1) := dk_96 (dk_at dksX8_lossesOn_3 22 rfl rfl)
theorem dX8_lossesOn_95 : decode cX8_lossesOn 95 = .ok (.dup2, 1) := dk_92 (dk_at dksX8_lossesOn_3 23 rfl rfl)
theorem dX8_lossesOn_96 : decode cX8_lossesOn 96 = .ok (.iaload, 1) := dk_46 (dk_at dksX8_lossesOn_4 0 rfl rfl)
theorem dX8_lossesOn_97 : decode cX8_lossesOn 97 = .ok (.iconst 1, 1) := dk_4 (dk_at dksX8_lossesOn_4 1 rfl rfl)
theorem dX8_lossesOn_98 : decode cX8_lossesOn 98 = .ok (.iadd, 1) := dk_96 (dk_at dksX8_lossesOn_4 2 rfl rfl)
theorem dX8_lossesOn_99 : decode cX8_lossesOn 99 = .ok (.iastore, 1) := dk_79 (dk_at dksX8_lossesOn_4 3 rfl rfl)
theorem dX8_lossesOn_100 : decode cX8_lossesOn 100 = .ok (.aload_n 0, 1) := dk_42 (dk_at dksX8_lossesOn_4 4 rfl rfl)
theorem dX8_lossesOn_101 : decode cX8_lossesOn 101 = .ok (.iload_n 1, 1) := dk_27 (dk_at dksX8_lossesOn_4 5 rfl rfl)
theorem dX8_lossesOn_102 : decode cX8_lossesOn 102 = .ok (.invokevirtual 131, 3) := dk_182 0 131 (dk_at dksX8_lossesOn_4 6 rfl rfl)
theorem dX8_lossesOn_105 : decode cX8_lossesOn 105 = .ok (.istore_n 2, 1) := dk_61 (dk_at dksX8_lossesOn_4 9 rfl rfl)
theorem dX8_lossesOn_106 : decode cX8_lossesOn 106 = .ok (.aload_n 0, 1) := dk_42 (dk_at dksX8_lossesOn_4 10 rfl rfl)
theorem dX8_lossesOn_107 : decode cX8_lossesOn 107 = .ok (.iload_n 2, 1) := dk_28 (dk_at dksX8_lossesOn_4 11 rfl rfl)
theorem dX8_lossesOn_108 : decode cX8_lossesOn 108 = .ok (.aload_n 0, 1) := dk_42 (dk_at dksX8_lossesOn_4 12 rfl rfl)
theorem dX8_lossesOn_109 : decode cX8_lossesOn 109 = .ok (.getfield 134, 3) := dk_180 0 134 (dk_at dksX8_lossesOn_4 13 rfl rfl)
theorem dX8_lossesOn_112 : decode cX8_lossesOn 112 = .ok (.if_icmp .le 7, 3) := dk_164 0 7 (dk_at dksX8_lossesOn_4 16 rfl rfl)
theorem dX8_lossesOn_115 : decode cX8_lossesOn 115 = .ok (.iload_n 2, 1) := dk_28 (dk_at dksX8_lossesOn_4 19 rfl rfl)
theorem dX8_lossesOn_116 : decode cX8_lossesOn 116 = .ok (.goto 7, 3) := dk_167 0 7 (dk_at dksX8_lossesOn_4 20 rfl rfl)
theorem dX8_lossesOn_119 : decode cX8_lossesOn 119 = .ok (.aload_n 0, 1) := dk_42 (dk_at dksX8_lossesOn_4 23 rfl rfl)
theorem dX8_lossesOn_120 : decode cX8_lossesOn 120 = .ok (.getfield 134, 3) := dk_180 0 134 (dk_at dksX8_lossesOn_5 0 rfl rfl)
theorem dX8_lossesOn_123 : decode cX8_lossesOn 123 = .ok (.putfield 134, 3) := dk_181 0 134 (dk_at dksX8_lossesOn_5 3 rfl rfl)
theorem dX8_lossesOn_126 : decode cX8_lossesOn 126 = .ok (.return_, 1) := dk_177 (dk_at dksX8_lossesOn_5 6 rfl rfl)
abbrev cX8_runs : ByteArray := prog_12_method_41_code
def yX8_runs : MethodName := ⟨RX8, "runs", "(II)I"⟩
def dkwX8_runs_4 : List UInt8 := [172]
abbrev dktX8_runs_4 : List UInt8 := dkwX8_runs_4 ++ []
def dkwX8_runs_3 : List UInt8 := [29, 172, 42, 182, 0, 188, 172, 42, 180, 0, 128, 172, 42, 17, 0, 156, 182, 0, 191, 172, 42, 180, 0, 134]
abbrev dktX8_runs_3 : List UInt8 := dkwX8_runs_3 ++ dktX8_runs_4
def dkwX8_runs_2 : List UInt8 := [170, 0, 0, 0, 0, 0, 51, 0, 0, 0, 0, 0, 0, 0, 3, 0, 0, 0, 31, 0, 0, 0, 33, 0, 0, 0, 38, 0, 0, 0, 43]
abbrev dktX8_runs_2 : List UInt8 := dkwX8_runs_2 ++ dktX8_runs_3
def dkwX8_runs_1 : List UInt8 := [182, 0, 185, 62, 28]
abbrev dktX8_runs_1 : List UInt8 := dkwX8_runs_1 ++ dktX8_runs_2
def dkwX8_runs_0 : List UInt8 := [27, 184, 0, 180, 153, 0, 15, 28, 133, 9, 20, 0, 183, 184, 0, 53, 154, 0, 5, 2, 172, 42, 3, 27]
abbrev dktX8_runs_0 : List UInt8 := dkwX8_runs_0 ++ dktX8_runs_1
theorem dksX8_runs_0 : cX8_runs.data.toList.drop 0 = dktX8_runs_0 := by decide +kernel
theorem dksX8_runs_1 : cX8_runs.data.toList.drop 24 = dktX8_runs_1 := dk_seg dksX8_runs_0 24 rfl rfl
theorem dksX8_runs_2 : cX8_runs.data.toList.drop 29 = dktX8_runs_2 := dk_seg dksX8_runs_1 5 rfl rfl
theorem dksX8_runs_3 : cX8_runs.data.toList.drop 60 = dktX8_runs_3 := dk_seg dksX8_runs_2 31 rfl rfl
theorem dksX8_runs_4 : cX8_runs.data.toList.drop 84 = dktX8_runs_4 := dk_seg dksX8_runs_3 24 rfl rfl
theorem dX8_runs_0 : decode cX8_runs 0 = .ok (.iload_n 1, 1) := dk_27 (dk_at dksX8_runs_0 0 rfl rfl)
theorem dX8_runs_1 : decode cX8_runs 1 = .ok (.invokestatic 180, 3) := dk_184 0 180 (dk_at dksX8_runs_0 1 rfl rfl)
theorem dX8_runs_4 : decode cX8_runs 4 = .ok (.ifCond .eq 15, 3) := dk_153 0 15 (dk_at dksX8_runs_0 4 rfl rfl)
theorem dX8_runs_7 : decode cX8_runs 7 = .ok (.iload_n 2, 1) := dk_28 (dk_at dksX8_runs_0 7 rfl rfl)
theorem dX8_runs_8 : decode cX8_runs 8 = .ok (.i2l, 1) := dk_133 (dk_at dksX8_runs_0 8 rfl rfl)
theorem dX8_runs_9 : decode cX8_runs 9 = .ok (.lconst 0, 1) := dk_9 (dk_at dksX8_runs_0 9 rfl rfl)
theorem dX8_runs_10 : decode cX8_runs 10 = .ok (.ldc2_w 183, 3) := dk_20 0 183 (dk_at dksX8_runs_0 10 rfl rfl)
theorem dX8_runs_13 : decode cX8_runs 13 = .ok (.invokestatic 53, 3) := dk_184 0 53 (dk_at dksX8_runs_0 13 rfl rfl)
theorem dX8_runs_16 : decode cX8_runs 16 = .ok (.ifCond .ne 5, 3) := dk_154 0 5 (dk_at dksX8_runs_0 16 rfl rfl)
theorem dX8_runs_19 : decode cX8_runs 19 = .ok (.iconst (-1), 1) := dk_2 (dk_at dksX8_runs_0 19 rfl rfl)
theorem dX8_runs_20 : decode cX8_runs 20 = .ok (.ireturn, 1) := dk_172 (dk_at dksX8_runs_0 20 rfl rfl)
theorem dX8_runs_21 : decode cX8_runs 21 = .ok (.aload_n 0, 1) := dk_42 (dk_at dksX8_runs_0 21 rfl rfl)
theorem dX8_runs_22 : decode cX8_runs 22 = .ok (.iconst 0, 1) := dk_3 (dk_at dksX8_runs_0 22 rfl rfl)
theorem dX8_runs_23 : decode cX8_runs 23 = .ok (.iload_n 1, 1) := dk_27 (dk_at dksX8_runs_0 23 rfl rfl)
theorem dX8_runs_24 : decode cX8_runs 24 = .ok (.invokevirtual 185, 3) := dk_182 0 185 (dk_at dksX8_runs_1 0 rfl rfl)
theorem dX8_runs_27 : decode cX8_runs 27 = .ok (.istore_n 3, 1) := dk_62 (dk_at dksX8_runs_1 3 rfl rfl)
theorem dX8_runs_28 : decode cX8_runs 28 = .ok (.iload_n 2, 1) := dk_28 (dk_at dksX8_runs_1 4 rfl rfl)
theorem dX8_runs_29 : decode cX8_runs 29 = .ok (.tableswitch 51 0 3 #[31, 33, 38, 43], 31) := by decide +kernel
theorem dX8_runs_60 : decode cX8_runs 60 = .ok (.iload_n 3, 1) := dk_29 (dk_at dksX8_runs_3 0 rfl rfl)
theorem dX8_runs_61 : decode cX8_runs 61 = .ok (.ireturn, 1) := dk_172 (dk_at dksX8_runs_3 1 rfl rfl)
theorem dX8_runs_62 : decode cX8_runs 62 = .ok (.aload_n 0, 1) := dk_42 (dk_at dksX8_runs_3 2 rfl rfl)
theorem dX8_runs_63 : decode cX8_runs 63 = .ok (.invokevirtual 188, 3) := dk_182 0 188 (dk_at dksX8_runs_3 3 rfl rfl)
theorem dX8_runs_66 : decode cX8_runs 66 = .ok (.ireturn, 1) := dk_172 (dk_at dksX8_runs_3 6 rfl rfl)
theorem dX8_runs_67 : decode cX8_runs 67 = .ok (.aload_n 0, 1) := dk_42 (dk_at dksX8_runs_3 7 rfl rfl)
theorem dX8_runs_68 : decode cX8_runs 68 = .ok (.getfield 128, 3) := dk_180 0 128 (dk_at dksX8_runs_3 8 rfl rfl)
theorem dX8_runs_71 : decode cX8_runs 71 = .ok (.ireturn, 1) := dk_172 (dk_at dksX8_runs_3 11 rfl rfl)
theorem dX8_runs_72 : decode cX8_runs 72 = .ok (.aload_n 0, 1) := dk_42 (dk_at dksX8_runs_3 12 rfl rfl)
theorem dX8_runs_73 : decode cX8_runs 73 = .ok (.sipush 156, 3) := dk_17 0 156 (dk_at dksX8_runs_3 13 rfl rfl)
theorem dX8_runs_76 : decode cX8_runs 76 = .ok (.invokevirtual 191, 3) := dk_182 0 191 (dk_at dksX8_runs_3 16 rfl rfl)
theorem dX8_runs_79 : decode cX8_runs 79 = .ok (.ireturn, 1) := dk_172 (dk_at dksX8_runs_3 19 rfl rfl)
theorem dX8_runs_80 : decode cX8_runs 80 = .ok (.aload_n 0, 1) := dk_42 (dk_at dksX8_runs_3 20 rfl rfl)
theorem dX8_runs_81 : decode cX8_runs 81 = .ok (.getfield 134, 3) := dk_180 0 134 (dk_at dksX8_runs_3 21 rfl rfl)
theorem dX8_runs_84 : decode cX8_runs 84 = .ok (.ireturn, 1) := dk_172 (dk_at dksX8_runs_4 0 rfl rfl)
abbrev cX8_isLong : ByteArray := prog_12_method_17_code
def yX8_isLong : MethodName := ⟨RX8, "isLong", "(I)Z"⟩
def dkwX8_isLong_0 : List UInt8 := [26, 133, 9, 20, 0, 123, 184, 0, 53, 172]
abbrev dktX8_isLong_0 : List UInt8 := dkwX8_isLong_0 ++ []
theorem dksX8_isLong_0 : cX8_isLong.data.toList.drop 0 = dktX8_isLong_0 := by decide +kernel
theorem dX8_isLong_0 : decode cX8_isLong 0 = .ok (.iload_n 0, 1) := dk_26 (dk_at dksX8_isLong_0 0 rfl rfl)
theorem dX8_isLong_1 : decode cX8_isLong 1 = .ok (.i2l, 1) := dk_133 (dk_at dksX8_isLong_0 1 rfl rfl)
theorem dX8_isLong_2 : decode cX8_isLong 2 = .ok (.lconst 0, 1) := dk_9 (dk_at dksX8_isLong_0 2 rfl rfl)
theorem dX8_isLong_3 : decode cX8_isLong 3 = .ok (.ldc2_w 123, 3) := dk_20 0 123 (dk_at dksX8_isLong_0 3 rfl rfl)
theorem dX8_isLong_6 : decode cX8_isLong 6 = .ok (.invokestatic 53, 3) := dk_184 0 53 (dk_at dksX8_isLong_0 6 rfl rfl)
theorem dX8_isLong_9 : decode cX8_isLong 9 = .ok (.ireturn, 1) := dk_172 (dk_at dksX8_isLong_0 9 rfl rfl)
abbrev cX8_ticksGo : ByteArray := prog_12_method_39_code
def yX8_ticksGo : MethodName := ⟨RX8, "ticksGo", "(II)I"⟩
def dkwX8_ticksGo_2 : List UInt8 := [180, 0, 7, 17, 0, 193, 46, 42, 180, 0, 7, 16, 37, 46, 100, 172]
abbrev dktX8_ticksGo_2 : List UInt8 := dkwX8_ticksGo_2 ++ []
def dkwX8_ticksGo_1 : List UInt8 := [3, 62, 29, 28, 162, 0, 17, 42, 17, 0, 156, 3, 182, 0, 172, 132, 3, 1, 167, 255, 240, 42]
abbrev dktX8_ticksGo_1 : List UInt8 := dkwX8_ticksGo_1 ++ dktX8_ticksGo_2
def dkwX8_ticksGo_0 : List UInt8 := [42, 27, 17, 0, 156, 182, 0, 176, 42, 3, 181, 0, 128, 42, 42, 17, 0, 156, 182, 0, 131, 181, 0, 134]
abbrev dktX8_ticksGo_0 : List UInt8 := dkwX8_ticksGo_0 ++ dktX8_ticksGo_1
theorem dksX8_ticksGo_0 : cX8_ticksGo.data.toList.drop 0 = dktX8_ticksGo_0 := by decide +kernel
theorem dksX8_ticksGo_1 : cX8_ticksGo.data.toList.drop 24 = dktX8_ticksGo_1 := dk_seg dksX8_ticksGo_0 24 rfl rfl
theorem dksX8_ticksGo_2 : cX8_ticksGo.data.toList.drop 46 = dktX8_ticksGo_2 := dk_seg dksX8_ticksGo_1 22 rfl rfl
theorem dX8_ticksGo_0 : decode cX8_ticksGo 0 = .ok (.aload_n 0, 1) := dk_42 (dk_at dksX8_ticksGo_0 0 rfl rfl)
theorem dX8_ticksGo_1 : decode cX8_ticksGo 1 = .ok (.iload_n 1, 1) := dk_27 (dk_at dksX8_ticksGo_0 1 rfl rfl)
theorem dX8_ticksGo_2 : decode cX8_ticksGo 2 = .ok (.sipush 156, 3) := dk_17 0 156 (dk_at dksX8_ticksGo_0 2 rfl rfl)
theorem dX8_ticksGo_5 : decode cX8_ticksGo 5 = .ok (.invokevirtual 176, 3) := dk_182 0 176 (dk_at dksX8_ticksGo_0 5 rfl rfl)
theorem dX8_ticksGo_8 : decode cX8_ticksGo 8 = .ok (.aload_n 0, 1) := dk_42 (dk_at dksX8_ticksGo_0 8 rfl rfl)
theorem dX8_ticksGo_9 : decode cX8_ticksGo 9 = .ok (.iconst 0, 1) := dk_3 (dk_at dksX8_ticksGo_0 9 rfl rfl)
theorem dX8_ticksGo_10 : decode cX8_ticksGo 10 = .ok (.putfield 128, 3) := dk_181 0 128 (dk_at dksX8_ticksGo_0 10 rfl rfl)
theorem dX8_ticksGo_13 : decode cX8_ticksGo 13 = .ok (.aload_n 0, 1) := dk_42 (dk_at dksX8_ticksGo_0 13 rfl rfl)
theorem dX8_ticksGo_14 : decode cX8_ticksGo 14 = .ok (.aload_n 0, 1) := dk_42 (dk_at dksX8_ticksGo_0 14 rfl rfl)
theorem dX8_ticksGo_15 : decode cX8_ticksGo 15 = .ok (.sipush 156, 3) := dk_17 0 156 (dk_at dksX8_ticksGo_0 15 rfl rfl)
theorem dX8_ticksGo_18 : decode cX8_ticksGo 18 = .ok (.invokevirtual 131, 3) := dk_182 0 131 (dk_at dksX8_ticksGo_0 18 rfl rfl)
theorem dX8_ticksGo_21 : decode cX8_ticksGo 21 = .ok (.putfield 134, 3) := dk_181 0 134 (dk_at dksX8_ticksGo_0 21 rfl rfl)
theorem dX8_ticksGo_24 : decode cX8_ticksGo 24 = .ok (.iconst 0, 1) := dk_3 (dk_at dksX8_ticksGo_1 0 rfl rfl)
theorem dX8_ticksGo_25 : decode cX8_ticksGo 25 = .ok (.istore_n 3, 1) := dk_62 (dk_at dksX8_ticksGo_1 1 rfl rfl)
theorem dX8_ticksGo_26 : decode cX8_ticksGo 26 = .ok (.iload_n 3, 1) := dk_29 (dk_at dksX8_ticksGo_1 2 rfl rfl)
theorem dX8_ticksGo_27 : decode cX8_ticksGo 27 = .ok (.iload_n 2, 1) := dk_28 (dk_at dksX8_ticksGo_1 3 rfl rfl)
theorem dX8_ticksGo_28 : decode cX8_ticksGo 28 = .ok (.if_icmp .ge 17, 3) := dk_162 0 17 (dk_at dksX8_ticksGo_1 4 rfl rfl)
theorem dX8_ticksGo_31 : decode cX8_ticksGo 31 = .ok (.aload_n 0, 1) := dk_42 (dk_at dksX8_ticksGo_1 7 rfl rfl)
theorem dX8_ticksGo_32 : decode cX8_ticksGo 32 = .ok (.sipush 156, 3) := dk_17 0 156 (dk_at dksX8_ticksGo_1 8 rfl rfl)
theorem dX8_ticksGo_35 : decode cX8_ticksGo 35 = .ok (.iconst 0, 1) := dk_3 (dk_at dksX8_ticksGo_1 11 rfl rfl)
theorem dX8_ticksGo_36 : decode cX8_ticksGo 36 = .ok (.invokevirtual 172, 3) := dk_182 0 172 (dk_at dksX8_ticksGo_1 12 rfl rfl)
theorem dX8_ticksGo_39 : decode cX8_ticksGo 39 = .ok (.iinc 3 1, 3) := dk_132 3 1 (dk_at dksX8_ticksGo_1 15 rfl rfl)
theorem dX8_ticksGo_42 : decode cX8_ticksGo 42 = .ok (.goto (-16), 3) := dk_167 255 240 (dk_at dksX8_ticksGo_1 18 rfl rfl)
theorem dX8_ticksGo_45 : decode cX8_ticksGo 45 = .ok (.aload_n 0, 1) := dk_42 (dk_at dksX8_ticksGo_1 21 rfl rfl)
theorem dX8_ticksGo_46 : decode cX8_ticksGo 46 = .ok (.getfield 7, 3) := dk_180 0 7 (dk_at dksX8_ticksGo_2 0 rfl rfl)
theorem dX8_ticksGo_49 : decode cX8_ticksGo 49 = .ok (.sipush 193, 3) := dk_17 0 193 (dk_at dksX8_ticksGo_2 3 rfl rfl)
theorem dX8_ticksGo_52 : decode cX8_ticksGo 52 = .ok (.iaload, 1) := dk_46 (dk_at dksX8_ticksGo_2 6 rfl rfl)
theorem dX8_ticksGo_53 : decode cX8_ticksGo 53 = .ok (.aload_n 0, 1) := dk_42 (dk_at dksX8_ticksGo_2 7 rfl rfl)
theorem dX8_ticksGo_54 : decode cX8_ticksGo 54 = .ok (.getfield 7, 3) := dk_180 0 7 (dk_at dksX8_ticksGo_2 8 rfl rfl)
theorem dX8_ticksGo_57 : decode cX8_ticksGo 57 = .ok (.bipush 37, 2) := dk_16 37 (dk_at dksX8_ticksGo_2 11 rfl rfl)
theorem dX8_ticksGo_59 : decode cX8_ticksGo 59 = .ok (.iaload, 1) := dk_46 (dk_at dksX8_ticksGo_2 13 rfl rfl)
theorem dX8_ticksGo_60 : decode cX8_ticksGo 60 = .ok (.isub, 1) := dk_100 (dk_at dksX8_ticksGo_2 14 rfl rfl)
theorem dX8_ticksGo_61 : decode cX8_ticksGo 61 = .ok (.ireturn, 1) := dk_172 (dk_at dksX8_ticksGo_2 15 rfl rfl)
abbrev cX8_copies : ByteArray := prog_12_method_38_code
def yX8_copies : MethodName := ⟨RX8, "copies", "(II)V"⟩
def dkwX8_copies_1 : List UInt8 := [132, 3, 1, 167, 255, 231, 177]
abbrev dktX8_copies_1 : List UInt8 := dkwX8_copies_1 ++ []
def dkwX8_copies_0 : List UInt8 := [3, 62, 29, 16, 39, 162, 0, 25, 42, 180, 0, 7, 28, 29, 96, 42, 180, 0, 7, 27, 29, 96, 46, 79]
abbrev dktX8_copies_0 : List UInt8 := dkwX8_copies_0 ++ dktX8_copies_1
theorem dksX8_copies_0 : cX8_copies.data.toList.drop 0 = dktX8_copies_0 := by decide +kernel
theorem dksX8_copies_1 : cX8_copies.data.toList.drop 24 = dktX8_copies_1 := dk_seg dksX8_copies_0 24 rfl rfl
theorem dX8_copies_0 : decode cX8_copies 0 = .ok (.iconst 0, 1) := dk_3 (dk_at dksX8_copies_0 0 rfl rfl)
theorem dX8_copies_1 : decode cX8_copies 1 = .ok (.istore_n 3, 1) := dk_62 (dk_at dksX8_copies_0 1 rfl rfl)
theorem dX8_copies_2 : decode cX8_copies 2 = .ok (.iload_n 3, 1) := dk_29 (dk_at dksX8_copies_0 2 rfl rfl)
theorem dX8_copies_3 : decode cX8_copies 3 = .ok (.bipush 39, 2) := dk_16 39 (dk_at dksX8_copies_0 3 rfl rfl)
theorem dX8_copies_5 : decode cX8_copies 5 = .ok (.if_icmp .ge 25, 3) := dk_162 0 25 (dk_at dksX8_copies_0 5 rfl rfl)
theorem dX8_copies_8 : decode cX8_copies 8 = .ok (.aload_n 0, 1) := dk_42 (dk_at dksX8_copies_0 8 rfl rfl)
theorem dX8_copies_9 : decode cX8_copies 9 = .ok (.getfield 7, 3) := dk_180 0 7 (dk_at dksX8_copies_0 9 rfl rfl)
theorem dX8_copies_12 : decode cX8_copies 12 = .ok (.iload_n 2, 1) := dk_28 (dk_at dksX8_copies_0 12 rfl rfl)
theorem dX8_copies_13 : decode cX8_copies 13 = .ok (.iload_n 3, 1) := dk_29 (dk_at dksX8_copies_0 13 rfl rfl)
theorem dX8_copies_14 : decode cX8_copies 14 = .ok (.iadd, 1) := dk_96 (dk_at dksX8_copies_0 14 rfl rfl)
theorem dX8_copies_15 : decode cX8_copies 15 = .ok (.aload_n 0, 1) := dk_42 (dk_at dksX8_copies_0 15 rfl rfl)
theorem dX8_copies_16 : decode cX8_copies 16 = .ok (.getfield 7, 3) := dk_180 0 7 (dk_at dksX8_copies_0 16 rfl rfl)
theorem dX8_copies_19 : decode cX8_copies 19 = .ok (.iload_n 1, 1) := dk_27 (dk_at dksX8_copies_0 19 rfl rfl)
theorem dX8_copies_20 : decode cX8_copies 20 = .ok (.iload_n 3, 1) := dk_29 (dk_at dksX8_copies_0 20 rfl rfl)
theorem dX8_copies_21 : decode cX8_copies 21 = .ok (.iadd, 1) := dk_96 (dk_at dksX8_copies_0 21 rfl rfl)
theorem dX8_copies_22 : decode cX8_copies 22 = .ok (.iaload, 1) := dk_46 (dk_at dksX8_copies_0 22 rfl rfl)
theorem dX8_copies_23 : decode cX8_copies 23 = .ok (.iastore, 1) := dk_79 (dk_at dksX8_copies_0 23 rfl rfl)
theorem dX8_copies_24 : decode cX8_copies 24 = .ok (.iinc 3 1, 3) := dk_132 3 1 (dk_at dksX8_copies_1 0 rfl rfl)
theorem dX8_copies_27 : decode cX8_copies 27 = .ok (.goto (-25), 3) := dk_167 255 231 (dk_at dksX8_copies_1 3 rfl rfl)
theorem dX8_copies_30 : decode cX8_copies 30 = .ok (.return_, 1) := dk_177 (dk_at dksX8_copies_1 6 rfl rfl)
abbrev cX8_lackThen : ByteArray := prog_12_method_40_code
def yX8_lackThen : MethodName := ⟨RX8, "lackThen", "()I"⟩
def dkwX8_lackThen_0 : List UInt8 := [42, 180, 0, 7, 17, 0, 194, 46, 42, 180, 0, 7, 16, 38, 46, 100, 172]
abbrev dktX8_lackThen_0 : List UInt8 := dkwX8_lackThen_0 ++ []
theorem dksX8_lackThen_0 : cX8_lackThen.data.toList.drop 0 = dktX8_lackThen_0 := by decide +kernel
theorem dX8_lackThen_0 : decode cX8_lackThen 0 = .ok (.aload_n 0, 1) := dk_42 (dk_at dksX8_lackThen_0 0 rfl rfl)
theorem dX8_lackThen_1 : decode cX8_lackThen 1 = .ok (.getfield 7, 3) := dk_180 0 7 (dk_at dksX8_lackThen_0 1 rfl rfl)
theorem dX8_lackThen_4 : decode cX8_lackThen 4 = .ok (.sipush 194, 3) := dk_17 0 194 (dk_at dksX8_lackThen_0 4 rfl rfl)
theorem dX8_lackThen_7 : decode cX8_lackThen 7 = .ok (.iaload, 1) := dk_46 (dk_at dksX8_lackThen_0 7 rfl rfl)
theorem dX8_lackThen_8 : decode cX8_lackThen 8 = .ok (.aload_n 0, 1) := dk_42 (dk_at dksX8_lackThen_0 8 rfl rfl)
theorem dX8_lackThen_9 : decode cX8_lackThen 9 = .ok (.getfield 7, 3) := dk_180 0 7 (dk_at dksX8_lackThen_0 9 rfl rfl)
theorem dX8_lackThen_12 : decode cX8_lackThen 12 = .ok (.bipush 38, 2) := dk_16 38 (dk_at dksX8_lackThen_0 12 rfl rfl)
theorem dX8_lackThen_14 : decode cX8_lackThen 14 = .ok (.iaload, 1) := dk_46 (dk_at dksX8_lackThen_0 14 rfl rfl)
theorem dX8_lackThen_15 : decode cX8_lackThen 15 = .ok (.isub, 1) := dk_100 (dk_at dksX8_lackThen_0 15 rfl rfl)
theorem dX8_lackThen_16 : decode cX8_lackThen 16 = .ok (.ireturn, 1) := dk_172 (dk_at dksX8_lackThen_0 16 rfl rfl)
abbrev cX8_swingOn : ByteArray := prog_12_method_23_code
def yX8_swingOn : MethodName := ⟨RX8, "swingOn", "(I)I"⟩
def dkwX8_swingOn_2 : List UInt8 := [172]
abbrev dktX8_swingOn_2 : List UInt8 := dkwX8_swingOn_2 ++ []
def dkwX8_swingOn_1 : List UInt8 := [162, 0, 23, 28, 42, 180, 0, 7, 27, 16, 12, 96, 29, 96, 46, 96, 61, 132, 3, 1, 167, 255, 226, 28]
abbrev dktX8_swingOn_1 : List UInt8 := dkwX8_swingOn_1 ++ dktX8_swingOn_2
def dkwX8_swingOn_0 : List UInt8 := [42, 180, 0, 7, 27, 16, 35, 96, 46, 61, 3, 62, 29, 42, 180, 0, 7, 27, 16, 16, 96, 46]
abbrev dktX8_swingOn_0 : List UInt8 := dkwX8_swingOn_0 ++ dktX8_swingOn_1
theorem dksX8_swingOn_0 : cX8_swingOn.data.toList.drop 0 = dktX8_swingOn_0 := by decide +kernel
theorem dksX8_swingOn_1 : cX8_swingOn.data.toList.drop 22 = dktX8_swingOn_1 := dk_seg dksX8_swingOn_0 22 rfl rfl
theorem dksX8_swingOn_2 : cX8_swingOn.data.toList.drop 46 = dktX8_swingOn_2 := dk_seg dksX8_swingOn_1 24 rfl rfl
theorem dX8_swingOn_0 : decode cX8_swingOn 0 = .ok (.aload_n 0, 1) := dk_42 (dk_at dksX8_swingOn_0 0 rfl rfl)
theorem dX8_swingOn_1 : decode cX8_swingOn 1 = .ok (.getfield 7, 3) := dk_180 0 7 (dk_at dksX8_swingOn_0 1 rfl rfl)
theorem dX8_swingOn_4 : decode cX8_swingOn 4 = .ok (.iload_n 1, 1) := dk_27 (dk_at dksX8_swingOn_0 4 rfl rfl)
theorem dX8_swingOn_5 : decode cX8_swingOn 5 = .ok (.bipush 35, 2) := dk_16 35 (dk_at dksX8_swingOn_0 5 rfl rfl)
theorem dX8_swingOn_7 : decode cX8_swingOn 7 = .ok (.iadd, 1) := dk_96 (dk_at dksX8_swingOn_0 7 rfl rfl)
theorem dX8_swingOn_8 : decode cX8_swingOn 8 = .ok (.iaload, 1) := dk_46 (dk_at dksX8_swingOn_0 8 rfl rfl)
theorem dX8_swingOn_9 : decode cX8_swingOn 9 = .ok (.istore_n 2, 1) := dk_61 (dk_at dksX8_swingOn_0 9 rfl rfl)
theorem dX8_swingOn_10 : decode cX8_swingOn 10 = .ok (.iconst 0, 1) := dk_3 (dk_at dksX8_swingOn_0 10 rfl rfl)
theorem dX8_swingOn_11 : decode cX8_swingOn 11 = .ok (.istore_n 3, 1) := dk_62 (dk_at dksX8_swingOn_0 11 rfl rfl)
theorem dX8_swingOn_12 : decode cX8_swingOn 12 = .ok (.iload_n 3, 1) := dk_29 (dk_at dksX8_swingOn_0 12 rfl rfl)
theorem dX8_swingOn_13 : decode cX8_swingOn 13 = .ok (.aload_n 0, 1) := dk_42 (dk_at dksX8_swingOn_0 13 rfl rfl)
theorem dX8_swingOn_14 : decode cX8_swingOn 14 = .ok (.getfield 7, 3) := dk_180 0 7 (dk_at dksX8_swingOn_0 14 rfl rfl)
theorem dX8_swingOn_17 : decode cX8_swingOn 17 = .ok (.iload_n 1, 1) := dk_27 (dk_at dksX8_swingOn_0 17 rfl rfl)
theorem dX8_swingOn_18 : decode cX8_swingOn 18 = .ok (.bipush 16, 2) := dk_16 16 (dk_at dksX8_swingOn_0 18 rfl rfl)
theorem dX8_swingOn_20 : decode cX8_swingOn 20 = .ok (.iadd, 1) := dk_96 (dk_at dksX8_swingOn_0 20 rfl rfl)
theorem dX8_swingOn_21 : decode cX8_swingOn 21 = .ok (.iaload, 1) := dk_46 (dk_at dksX8_swingOn_0 21 rfl rfl)
theorem dX8_swingOn_22 : decode cX8_swingOn 22 = .ok (.if_icmp .ge 23, 3) := dk_162 0 23 (dk_at dksX8_swingOn_1 0 rfl rfl)
theorem dX8_swingOn_25 : decode cX8_swingOn 25 = .ok (.iload_n 2, 1) := dk_28 (dk_at dksX8_swingOn_1 3 rfl rfl)
theorem dX8_swingOn_26 : decode cX8_swingOn 26 = .ok (.aload_n 0, 1) := dk_42 (dk_at dksX8_swingOn_1 4 rfl rfl)
theorem dX8_swingOn_27 : decode cX8_swingOn 27 = .ok (.getfield 7, 3) := dk_180 0 7 (dk_at dksX8_swingOn_1 5 rfl rfl)
theorem dX8_swingOn_30 : decode cX8_swingOn 30 = .ok (.iload_n 1, 1) := dk_27 (dk_at dksX8_swingOn_1 8 rfl rfl)
theorem dX8_swingOn_31 : decode cX8_swingOn 31 = .ok (.bipush 12, 2) := dk_16 12 (dk_at dksX8_swingOn_1 9 rfl rfl)
theorem dX8_swingOn_33 : decode cX8_swingOn 33 = .ok (.iadd, 1) := dk_96 (dk_at dksX8_swingOn_1 11 rfl rfl)
theorem dX8_swingOn_34 : decode cX8_swingOn 34 = .ok (.iload_n 3, 1) := dk_29 (dk_at dksX8_swingOn_1 12 rfl rfl)
theorem dX8_swingOn_35 : decode cX8_swingOn 35 = .ok (.iadd, 1) := dk_96 (dk_at dksX8_swingOn_1 13 rfl rfl)
theorem dX8_swingOn_36 : decode cX8_swingOn 36 = .ok (.iaload, 1) := dk_46 (dk_at dksX8_swingOn_1 14 rfl rfl)
theorem dX8_swingOn_37 : decode cX8_swingOn 37 = .ok (.iadd, 1) := dk_96 (dk_at dksX8_swingOn_1 15 rfl rfl)
theorem dX8_swingOn_38 : decode cX8_swingOn 38 = .ok (.istore_n 2, 1) := dk_61 (dk_at dksX8_swingOn_1 16 rfl rfl)
theorem dX8_swingOn_39 : decode cX8_swingOn 39 = .ok (.iinc 3 1, 3) := dk_132 3 1 (dk_at dksX8_swingOn_1 17 rfl rfl)
theorem dX8_swingOn_42 : decode cX8_swingOn 42 = .ok (.goto (-30), 3) := dk_167 255 226 (dk_at dksX8_swingOn_1 20 rfl rfl)
theorem dX8_swingOn_45 : decode cX8_swingOn 45 = .ok (.iload_n 2, 1) := dk_28 (dk_at dksX8_swingOn_1 23 rfl rfl)
theorem dX8_swingOn_46 : decode cX8_swingOn 46 = .ok (.ireturn, 1) := dk_172 (dk_at dksX8_swingOn_2 0 rfl rfl)
abbrev cX8_ahead : ByteArray := prog_12_method_42_code
def yX8_ahead : MethodName := ⟨RX8, "ahead", "(II)I"⟩
def dkwX8_ahead_1 : List UInt8 := [42, 180, 0, 7, 17, 0, 168, 27, 96, 46, 172]
abbrev dktX8_ahead_1 : List UInt8 := dkwX8_ahead_1 ++ []
def dkwX8_ahead_0 : List UInt8 := [42, 27, 182, 0, 144, 153, 0, 10, 28, 184, 0, 180, 154, 0, 5, 2, 172, 42, 3, 28, 182, 0, 185, 87]
abbrev dktX8_ahead_0 : List UInt8 := dkwX8_ahead_0 ++ dktX8_ahead_1
theorem dksX8_ahead_0 : cX8_ahead.data.toList.drop 0 = dktX8_ahead_0 := by decide +kernel
theorem dksX8_ahead_1 : cX8_ahead.data.toList.drop 24 = dktX8_ahead_1 := dk_seg dksX8_ahead_0 24 rfl rfl
theorem dX8_ahead_0 : decode cX8_ahead 0 = .ok (.aload_n 0, 1) := dk_42 (dk_at dksX8_ahead_0 0 rfl rfl)
theorem dX8_ahead_1 : decode cX8_ahead 1 = .ok (.iload_n 1, 1) := dk_27 (dk_at dksX8_ahead_0 1 rfl rfl)
theorem dX8_ahead_2 : decode cX8_ahead 2 = .ok (.invokevirtual 144, 3) := dk_182 0 144 (dk_at dksX8_ahead_0 2 rfl rfl)
theorem dX8_ahead_5 : decode cX8_ahead 5 = .ok (.ifCond .eq 10, 3) := dk_153 0 10 (dk_at dksX8_ahead_0 5 rfl rfl)
theorem dX8_ahead_8 : decode cX8_ahead 8 = .ok (.iload_n 2, 1) := dk_28 (dk_at dksX8_ahead_0 8 rfl rfl)
theorem dX8_ahead_9 : decode cX8_ahead 9 = .ok (.invokestatic 180, 3) := dk_184 0 180 (dk_at dksX8_ahead_0 9 rfl rfl)
theorem dX8_ahead_12 : decode cX8_ahead 12 = .ok (.ifCond .ne 5, 3) := dk_154 0 5 (dk_at dksX8_ahead_0 12 rfl rfl)
theorem dX8_ahead_15 : decode cX8_ahead 15 = .ok (.iconst (-1), 1) := dk_2 (dk_at dksX8_ahead_0 15 rfl rfl)
theorem dX8_ahead_16 : decode cX8_ahead 16 = .ok (.ireturn, 1) := dk_172 (dk_at dksX8_ahead_0 16 rfl rfl)
theorem dX8_ahead_17 : decode cX8_ahead 17 = .ok (.aload_n 0, 1) := dk_42 (dk_at dksX8_ahead_0 17 rfl rfl)
theorem dX8_ahead_18 : decode cX8_ahead 18 = .ok (.iconst 0, 1) := dk_3 (dk_at dksX8_ahead_0 18 rfl rfl)
theorem dX8_ahead_19 : decode cX8_ahead 19 = .ok (.iload_n 2, 1) := dk_28 (dk_at dksX8_ahead_0 19 rfl rfl)
theorem dX8_ahead_20 : decode cX8_ahead 20 = .ok (.invokevirtual 185, 3) := dk_182 0 185 (dk_at dksX8_ahead_0 20 rfl rfl)
theorem dX8_ahead_23 : decode cX8_ahead 23 = .ok (.pop, 1) := dk_87 (dk_at dksX8_ahead_0 23 rfl rfl)
theorem dX8_ahead_24 : decode cX8_ahead 24 = .ok (.aload_n 0, 1) := dk_42 (dk_at dksX8_ahead_1 0 rfl rfl)
theorem dX8_ahead_25 : decode cX8_ahead 25 = .ok (.getfield 7, 3) := dk_180 0 7 (dk_at dksX8_ahead_1 1 rfl rfl)
theorem dX8_ahead_28 : decode cX8_ahead 28 = .ok (.sipush 168, 3) := dk_17 0 168 (dk_at dksX8_ahead_1 4 rfl rfl)
theorem dX8_ahead_31 : decode cX8_ahead 31 = .ok (.iload_n 1, 1) := dk_27 (dk_at dksX8_ahead_1 7 rfl rfl)
theorem dX8_ahead_32 : decode cX8_ahead 32 = .ok (.iadd, 1) := dk_96 (dk_at dksX8_ahead_1 8 rfl rfl)
theorem dX8_ahead_33 : decode cX8_ahead 33 = .ok (.iaload, 1) := dk_46 (dk_at dksX8_ahead_1 9 rfl rfl)
theorem dX8_ahead_34 : decode cX8_ahead 34 = .ok (.ireturn, 1) := dk_172 (dk_at dksX8_ahead_1 10 rfl rfl)
abbrev cX8_when : ByteArray := prog_12_method_43_code
def yX8_when : MethodName := ⟨RX8, "when", "(I)I"⟩
def dkwX8_when_2 : List UInt8 := [182, 0, 172, 132, 2, 1, 167, 255, 223, 16, 252, 172]
abbrev dktX8_when_2 : List UInt8 := dkwX8_when_2 ++ []
def dkwX8_when_1 : List UInt8 := [163, 0, 32, 42, 180, 0, 7, 17, 0, 168, 27, 96, 46, 154, 0, 5, 28, 172, 42, 17, 0, 156, 3]
abbrev dktX8_when_1 : List UInt8 := dkwX8_when_1 ++ dktX8_when_2
def dkwX8_when_0 : List UInt8 := [42, 27, 182, 0, 144, 154, 0, 5, 2, 172, 42, 3, 17, 0, 156, 182, 0, 176, 3, 61, 28, 17, 0, 200]
abbrev dktX8_when_0 : List UInt8 := dkwX8_when_0 ++ dktX8_when_1
theorem dksX8_when_0 : cX8_when.data.toList.drop 0 = dktX8_when_0 := by decide +kernel
theorem dksX8_when_1 : cX8_when.data.toList.drop 24 = dktX8_when_1 := dk_seg dksX8_when_0 24 rfl rfl
theorem dksX8_when_2 : cX8_when.data.toList.drop 47 = dktX8_when_2 := dk_seg dksX8_when_1 23 rfl rfl
theorem dX8_when_0 : decode cX8_when 0 = .ok (.aload_n 0, 1) := dk_42 (dk_at dksX8_when_0 0 rfl rfl)
theorem dX8_when_1 : decode cX8_when 1 = .ok (.iload_n 1, 1) := dk_27 (dk_at dksX8_when_0 1 rfl rfl)
theorem dX8_when_2 : decode cX8_when 2 = .ok (.invokevirtual 144, 3) := dk_182 0 144 (dk_at dksX8_when_0 2 rfl rfl)
theorem dX8_when_5 : decode cX8_when 5 = .ok (.ifCond .ne 5, 3) := dk_154 0 5 (dk_at dksX8_when_0 5 rfl rfl)
theorem dX8_when_8 : decode cX8_when 8 = .ok (.iconst (-1), 1) := dk_2 (dk_at dksX8_when_0 8 rfl rfl)
theorem dX8_when_9 : decode cX8_when 9 = .ok (.ireturn, 1) := dk_172 (dk_at dksX8_when_0 9 rfl rfl)
theorem dX8_when_10 : decode cX8_when 10 = .ok (.aload_n 0, 1) := dk_42 (dk_at dksX8_when_0 10 rfl rfl)
theorem dX8_when_11 : decode cX8_when 11 = .ok (.iconst 0, 1) := dk_3 (dk_at dksX8_when_0 11 rfl rfl)
theorem dX8_when_12 : decode cX8_when 12 = .ok (.sipush 156, 3) := dk_17 0 156 (dk_at dksX8_when_0 12 rfl rfl)
theorem dX8_when_15 : decode cX8_when 15 = .ok (.invokevirtual 176, 3) := dk_182 0 176 (dk_at dksX8_when_0 15 rfl rfl)
theorem dX8_when_18 : decode cX8_when 18 = .ok (.iconst 0, 1) := dk_3 (dk_at dksX8_when_0 18 rfl rfl)
theorem dX8_when_19 : decode cX8_when 19 = .ok (.istore_n 2, 1) := dk_61 (dk_at dksX8_when_0 19 rfl rfl)
theorem dX8_when_20 : decode cX8_when 20 = .ok (.iload_n 2, 1) := dk_28 (dk_at dksX8_when_0 20 rfl rfl)
theorem dX8_when_21 : decode cX8_when 21 = .ok (.sipush 200, 3) := dk_17 0 200 (dk_at dksX8_when_0 21 rfl rfl)
theorem dX8_when_24 : decode cX8_when 24 = .ok (.if_icmp .gt 32, 3) := dk_163 0 32 (dk_at dksX8_when_1 0 rfl rfl)
theorem dX8_when_27 : decode cX8_when 27 = .ok (.aload_n 0, 1) := dk_42 (dk_at dksX8_when_1 3 rfl rfl)
theorem dX8_when_28 : decode cX8_when 28 = .ok (.getfield 7, 3) := dk_180 0 7 (dk_at dksX8_when_1 4 rfl rfl)
theorem dX8_when_31 : decode cX8_when 31 = .ok (.sipush 168, 3) := dk_17 0 168 (dk_at dksX8_when_1 7 rfl rfl)
theorem dX8_when_34 : decode cX8_when 34 = .ok (.iload_n 1, 1) := dk_27 (dk_at dksX8_when_1 10 rfl rfl)
theorem dX8_when_35 : decode cX8_when 35 = .ok (.iadd, 1) := dk_96 (dk_at dksX8_when_1 11 rfl rfl)
theorem dX8_when_36 : decode cX8_when 36 = .ok (.iaload, 1) := dk_46 (dk_at dksX8_when_1 12 rfl rfl)
theorem dX8_when_37 : decode cX8_when 37 = .ok (.ifCond .ne 5, 3) := dk_154 0 5 (dk_at dksX8_when_1 13 rfl rfl)
theorem dX8_when_40 : decode cX8_when 40 = .ok (.iload_n 2, 1) := dk_28 (dk_at dksX8_when_1 16 rfl rfl)
theorem dX8_when_41 : decode cX8_when 41 = .ok (.ireturn, 1) := dk_172 (dk_at dksX8_when_1 17 rfl rfl)
theorem dX8_when_42 : decode cX8_when 42 = .ok (.aload_n 0, 1) := dk_42 (dk_at dksX8_when_1 18 rfl rfl)
theorem dX8_when_43 : decode cX8_when 43 = .ok (.sipush 156, 3) := dk_17 0 156 (dk_at dksX8_when_1 19 rfl rfl)
theorem dX8_when_46 : decode cX8_when 46 = .ok (.iconst 0, 1) := dk_3 (dk_at dksX8_when_1 22 rfl rfl)
theorem dX8_when_47 : decode cX8_when 47 = .ok (.invokevirtual 172, 3) := dk_182 0 172 (dk_at dksX8_when_2 0 rfl rfl)
theorem dX8_when_50 : decode cX8_when 50 = .ok (.iinc 2 1, 3) := dk_132 2 1 (dk_at dksX8_when_2 3 rfl rfl)
theorem dX8_when_53 : decode cX8_when 53 = .ok (.goto (-33), 3) := dk_167 255 223 (dk_at dksX8_when_2 6 rfl rfl)
theorem dX8_when_56 : decode cX8_when 56 = .ok (.bipush (-4), 2) := dk_16 252 (dk_at dksX8_when_2 9 rfl rfl)
theorem dX8_when_58 : decode cX8_when 58 = .ok (.ireturn, 1) := dk_172 (dk_at dksX8_when_2 11 rfl rfl)
abbrev cX8_again : ByteArray := prog_12_method_44_code
def yX8_again : MethodName := ⟨RX8, "again", "()I"⟩
def dkwX8_again_5 : List UInt8 := [3, 62, 132, 4, 1, 167, 255, 207, 29, 153, 0, 5, 28, 172, 132, 2, 1, 167, 255, 143, 16, 252, 172]
abbrev dktX8_again_5 : List UInt8 := dkwX8_again_5 ++ []
def dkwX8_again_4 : List UInt8 := [17, 0, 168, 21, 4, 96, 46, 42, 180, 0, 7, 16, 12, 21, 4, 96, 46, 160, 0, 7, 4, 167, 0, 4]
abbrev dktX8_again_4 : List UInt8 := dkwX8_again_4 ++ dktX8_again_5
def dkwX8_again_3 : List UInt8 := [54, 4, 21, 4, 42, 180, 0, 7, 16, 16, 46, 162, 0, 43, 29, 153, 0, 31, 42, 180, 0, 7]
abbrev dktX8_again_3 : List UInt8 := dkwX8_again_3 ++ dktX8_again_4
def dkwX8_again_2 : List UInt8 := [180, 0, 7, 17, 0, 191, 46, 42, 180, 0, 7, 16, 35, 46, 160, 0, 7, 4, 167, 0, 4, 3, 62, 3]
abbrev dktX8_again_2 : List UInt8 := dkwX8_again_2 ++ dktX8_again_3
def dkwX8_again_1 : List UInt8 := [163, 0, 112, 42, 17, 0, 156, 3, 182, 0, 172, 27, 153, 0, 9, 28, 27, 112, 154, 0, 25, 42]
abbrev dktX8_again_1 : List UInt8 := dkwX8_again_1 ++ dktX8_again_2
def dkwX8_again_0 : List UInt8 := [42, 180, 0, 7, 16, 33, 46, 60, 42, 3, 17, 0, 156, 182, 0, 176, 4, 61, 28, 17, 0, 200]
abbrev dktX8_again_0 : List UInt8 := dkwX8_again_0 ++ dktX8_again_1
theorem dksX8_again_0 : cX8_again.data.toList.drop 0 = dktX8_again_0 := by decide +kernel
theorem dksX8_again_1 : cX8_again.data.toList.drop 22 = dktX8_again_1 := dk_seg dksX8_again_0 22 rfl rfl
theorem dksX8_again_2 : cX8_again.data.toList.drop 44 = dktX8_again_2 := dk_seg dksX8_again_1 22 rfl rfl
theorem dksX8_again_3 : cX8_again.data.toList.drop 68 = dktX8_again_3 := dk_seg dksX8_again_2 24 rfl rfl
theorem dksX8_again_4 : cX8_again.data.toList.drop 90 = dktX8_again_4 := dk_seg dksX8_again_3 22 rfl rfl
theorem dksX8_again_5 : cX8_again.data.toList.drop 114 = dktX8_again_5 := dk_seg dksX8_again_4 24 rfl rfl
theorem dX8_again_0 : decode cX8_again 0 = .ok (.aload_n 0, 1) := dk_42 (dk_at dksX8_again_0 0 rfl rfl)
theorem dX8_again_1 : decode cX8_again 1 = .ok (.getfield 7, 3) := dk_180 0 7 (dk_at dksX8_again_0 1 rfl rfl)
theorem dX8_again_4 : decode cX8_again 4 = .ok (.bipush 33, 2) := dk_16 33 (dk_at dksX8_again_0 4 rfl rfl)
theorem dX8_again_6 : decode cX8_again 6 = .ok (.iaload, 1) := dk_46 (dk_at dksX8_again_0 6 rfl rfl)
theorem dX8_again_7 : decode cX8_again 7 = .ok (.istore_n 1, 1) := dk_60 (dk_at dksX8_again_0 7 rfl rfl)
theorem dX8_again_8 : decode cX8_again 8 = .ok (.aload_n 0, 1) := dk_42 (dk_at dksX8_again_0 8 rfl rfl)
theorem dX8_again_9 : decode cX8_again 9 = .ok (.iconst 0, 1) := dk_3 (dk_at dksX8_again_0 9 rfl rfl)
theorem dX8_again_10 : decode cX8_again 10 = .ok (.sipush 156, 3) := dk_17 0 156 (dk_at dksX8_again_0 10 rfl rfl)
theorem dX8_again_13 : decode cX8_again 13 = .ok (.invokevirtual 176, 3) := dk_182 0 176 (dk_at dksX8_again_0 13 rfl rfl)
theorem dX8_again_16 : decode cX8_again 16 = .ok (.iconst 1, 1) := dk_4 (dk_at dksX8_again_0 16 rfl rfl)
theorem dX8_again_17 : decode cX8_again 17 = .ok (.istore_n 2, 1) := dk_61 (dk_at dksX8_again_0 17 rfl rfl)
theorem dX8_again_18 : decode cX8_again 18 = .ok (.iload_n 2, 1) := dk_28 (dk_at dksX8_again_0 18 rfl rfl)
theorem dX8_again_19 : decode cX8_again 19 = .ok (.sipush 200, 3) := dk_17 0 200 (dk_at dksX8_again_0 19 rfl rfl)
theorem dX8_again_22 : decode cX8_again 22 = .ok (.if_icmp .gt 112, 3) := dk_163 0 112 (dk_at dksX8_again_1 0 rfl rfl)
theorem dX8_again_25 : decode cX8_again 25 = .ok (.aload_n 0, 1) := dk_42 (dk_at dksX8_again_1 3 rfl rfl)
theorem dX8_again_26 : decode cX8_again 26 = .ok (.sipush 156, 3) := dk_17 0 156 (dk_at dksX8_again_1 4 rfl rfl)
theorem dX8_again_29 : decode cX8_again 29 = .ok (.iconst 0, 1) := dk_3 (dk_at dksX8_again_1 7 rfl rfl)
theorem dX8_again_30 : decode cX8_again 30 = .ok (.invokevirtual 172, 3) := dk_182 0 172 (dk_at dksX8_again_1 8 rfl rfl)
theorem dX8_again_33 : decode cX8_again 33 = .ok (.iload_n 1, 1) := dk_27 (dk_at dksX8_again_1 11 rfl rfl)
theorem dX8_again_34 : decode cX8_again 34 = .ok (.ifCond .eq 9, 3) := dk_153 0 9 (dk_at dksX8_again_1 12 rfl rfl)
theorem dX8_again_37 : decode cX8_again 37 = .ok (.iload_n 2, 1) := dk_28 (dk_at dksX8_again_1 15 rfl rfl)
theorem dX8_again_38 : decode cX8_again 38 = .ok (.iload_n 1, 1) := dk_27 (dk_at dksX8_again_1 16 rfl rfl)
theorem dX8_again_39 : decode cX8_again 39 = .ok (.irem, 1) := dk_112 (dk_at dksX8_again_1 17 rfl rfl)
theorem dX8_again_40 : decode cX8_again 40 = .ok (.ifCond .ne 25, 3) := dk_154 0 25 (dk_at dksX8_again_1 18 rfl rfl)
theorem dX8_again_43 : decode cX8_again 43 = .ok (.aload_n 0, 1) := dk_42 (dk_at dksX8_again_1 21 rfl rfl)
theorem dX8_again_44 : decode cX8_again 44 = .ok (.getfield 7, 3) := dk_180 0 7 (dk_at dksX8_again_2 0 rfl rfl)
theorem dX8_again_47 : decode cX8_again 47 = .ok (.sipush 191, 3) := dk_17 0 191 (dk_at dksX8_again_2 3 rfl rfl)
theorem dX8_again_50 : decode cX8_again 50 = .ok (.iaload, 1) := dk_46 (dk_at dksX8_again_2 6 rfl rfl)
theorem dX8_again_51 : decode cX8_again 51 = .ok (.aload_n 0, 1) := dk_42 (dk_at dksX8_again_2 7 rfl rfl)
theorem dX8_again_52 : decode cX8_again 52 = .ok (.getfield 7, 3) := dk_180 0 7 (dk_at dksX8_again_2 8 rfl rfl)
theorem dX8_again_55 : decode cX8_again 55 = .ok (.bipush 35, 2) := dk_16 35 (dk_at dksX8_again_2 11 rfl rfl)
theorem dX8_again_57 : decode cX8_again 57 = .ok (.iaload, 1) := dk_46 (dk_at dksX8_again_2 13 rfl rfl)
theorem dX8_again_58 : decode cX8_again 58 = .ok (.if_icmp .ne 7, 3) := dk_160 0 7 (dk_at dksX8_again_2 14 rfl rfl)
theorem dX8_again_61 : decode cX8_again 61 = .ok (.iconst 1, 1) := dk_4 (dk_at dksX8_again_2 17 rfl rfl)
theorem dX8_again_62 : decode cX8_again 62 = .ok (.goto 4, 3) := dk_167 0 4 (dk_at dksX8_again_2 18 rfl rfl)
theorem dX8_again_65 : decode cX8_again 65 = .ok (.iconst 0, 1) := dk_3 (dk_at dksX8_again_2 21 rfl rfl)
theorem dX8_again_66 : decode cX8_again 66 = .ok (.istore_n 3, 1) := dk_62 (dk_at dksX8_again_2 22 rfl rfl)
theorem dX8_again_67 : decode cX8_again 67 = .ok (.iconst 0, 1) := dk_3 (dk_at dksX8_again_2 23 rfl rfl)
theorem dX8_again_68 : decode cX8_again 68 = .ok (.istore 4, 2) := dk_54 4 (dk_at dksX8_again_3 0 rfl rfl)
theorem dX8_again_70 : decode cX8_again 70 = .ok (.iload 4, 2) := dk_21 4 (dk_at dksX8_again_3 2 rfl rfl)
theorem dX8_again_72 : decode cX8_again 72 = .ok (.aload_n 0, 1) := dk_42 (dk_at dksX8_again_3 4 rfl rfl)
theorem dX8_again_73 : decode cX8_again 73 = .ok (.getfield 7, 3) := dk_180 0 7 (dk_at dksX8_again_3 5 rfl rfl)
theorem dX8_again_76 : decode cX8_again 76 = .ok (.bipush 16, 2) := dk_16 16 (dk_at dksX8_again_3 8 rfl rfl)
theorem dX8_again_78 : decode cX8_again 78 = .ok (.iaload, 1) := dk_46 (dk_at dksX8_again_3 10 rfl rfl)
theorem dX8_again_79 : decode cX8_again 79 = .ok (.if_icmp .ge 43, 3) := dk_162 0 43 (dk_at dksX8_again_3 11 rfl rfl)
theorem dX8_again_82 : decode cX8_again 82 = .ok (.iload_n 3, 1) := dk_29 (dk_at dksX8_again_3 14 rfl rfl)
theorem dX8_again_83 : decode cX8_again 83 = .ok (.ifCond .eq 31, 3) := dk_153 0 31 (dk_at dksX8_again_3 15 rfl rfl)
theorem dX8_again_86 : decode cX8_again 86 = .ok (.aload_n 0, 1) := dk_42 (dk_at dksX8_again_3 18 rfl rfl)
theorem dX8_again_87 : decode cX8_again 87 = .ok (.getfield 7, 3) := dk_180 0 7 (dk_at dksX8_again_3 19 rfl rfl)
theorem dX8_again_90 : decode cX8_again 90 = .ok (.sipush 168, 3) := dk_17 0 168 (dk_at dksX8_again_4 0 rfl rfl)
theorem dX8_again_93 : decode cX8_again 93 = .ok (.iload 4, 2) := dk_21 4 (dk_at dksX8_again_4 3 rfl rfl)
theorem dX8_again_95 : decode cX8_again 95 = .ok (.iadd, 1) := dk_96 (dk_at dksX8_again_4 5 rfl rfl)
theorem dX8_again_96 : decode cX8_again 96 = .ok (.iaload, 1) := dk_46 (dk_at dksX8_again_4 6 rfl rfl)
theorem dX8_again_97 : decode cX8_again 97 = .ok (.aload_n 0, 1) := dk_42 (dk_at dksX8_again_4 7 rfl rfl)
theorem dX8_again_98 : decode cX8_again 98 = .ok (.getfield 7, 3) := dk_180 0 7 (dk_at dksX8_again_4 8 rfl rfl)
theorem dX8_again_101 : decode cX8_again 101 = .ok (.bipush 12, 2) := dk_16 12 (dk_at dksX8_again_4 11 rfl rfl)
theorem dX8_again_103 : decode cX8_again 103 = .ok (.iload 4, 2) := dk_21 4 (dk_at dksX8_again_4 13 rfl rfl)
theorem dX8_again_105 : decode cX8_again 105 = .ok (.iadd, 1) := dk_96 (dk_at dksX8_again_4 15 rfl rfl)
theorem dX8_again_106 : decode cX8_again 106 = .ok (.iaload, 1) := dk_46 (dk_at dksX8_again_4 16 rfl rfl)
theorem dX8_again_107 : decode cX8_again 107 = .ok (.if_icmp .ne 7, 3) := dk_160 0 7 (dk_at dksX8_again_4 17 rfl rfl)
theorem dX8_again_110 : decode cX8_again 110 = .ok (.iconst 1, 1) := dk_4 (dk_at dksX8_again_4 20 rfl rfl)
theorem dX8_again_111 : decode cX8_again 111 = .ok (.goto 4, 3) := dk_167 0 4 (dk_at dksX8_again_4 21 rfl rfl)
theorem dX8_again_114 : decode cX8_again 114 = .ok (.iconst 0, 1) := dk_3 (dk_at dksX8_again_5 0 rfl rfl)
theorem dX8_again_115 : decode cX8_again 115 = .ok (.istore_n 3, 1) := dk_62 (dk_at dksX8_again_5 1 rfl rfl)
theorem dX8_again_116 : decode cX8_again 116 = .ok (.iinc 4 1, 3) := dk_132 4 1 (dk_at dksX8_again_5 2 rfl rfl)
theorem dX8_again_119 : decode cX8_again 119 = .ok (.goto (-49), 3) := dk_167 255 207 (dk_at dksX8_again_5 5 rfl rfl)
theorem dX8_again_122 : decode cX8_again 122 = .ok (.iload_n 3, 1) := dk_29 (dk_at dksX8_again_5 8 rfl rfl)
theorem dX8_again_123 : decode cX8_again 123 = .ok (.ifCond .eq 5, 3) := dk_153 0 5 (dk_at dksX8_again_5 9 rfl rfl)
theorem dX8_again_126 : decode cX8_again 126 = .ok (.iload_n 2, 1) := dk_28 (dk_at dksX8_again_5 12 rfl rfl)
theorem dX8_again_127 : decode cX8_again 127 = .ok (.ireturn, 1) := dk_172 (dk_at dksX8_again_5 13 rfl rfl)
theorem dX8_again_128 : decode cX8_again 128 = .ok (.iinc 2 1, 3) := dk_132 2 1 (dk_at dksX8_again_5 14 rfl rfl)
theorem dX8_again_131 : decode cX8_again 131 = .ok (.goto (-113), 3) := dk_167 255 143 (dk_at dksX8_again_5 17 rfl rfl)
theorem dX8_again_134 : decode cX8_again 134 = .ok (.bipush (-4), 2) := dk_16 252 (dk_at dksX8_again_5 20 rfl rfl)
theorem dX8_again_136 : decode cX8_again 136 = .ok (.ireturn, 1) := dk_172 (dk_at dksX8_again_5 22 rfl rfl)
abbrev cX8_mass : ByteArray := prog_12_method_46_code
def yX8_mass : MethodName := ⟨RX8, "mass", "(III)I"⟩
def dkwX8_mass_1 : List UInt8 := [153, 0, 18, 42, 7, 27, 96, 4, 16, 20, 28, 29, 182, 0, 194, 167, 0, 4, 2, 172]
abbrev dktX8_mass_1 : List UInt8 := dkwX8_mass_1 ++ []
def dkwX8_mass_0 : List UInt8 := [42, 27, 182, 0, 144, 153, 0, 35, 28, 184, 0, 180, 153, 0, 28, 29, 133, 9, 10, 184, 0, 53]
abbrev dktX8_mass_0 : List UInt8 := dkwX8_mass_0 ++ dktX8_mass_1
theorem dksX8_mass_0 : cX8_mass.data.toList.drop 0 = dktX8_mass_0 := by decide +kernel
theorem dksX8_mass_1 : cX8_mass.data.toList.drop 22 = dktX8_mass_1 := dk_seg dksX8_mass_0 22 rfl rfl
theorem dX8_mass_0 : decode cX8_mass 0 = .ok (.aload_n 0, 1) := dk_42 (dk_at dksX8_mass_0 0 rfl rfl)
theorem dX8_mass_1 : decode cX8_mass 1 = .ok (.iload_n 1, 1) := dk_27 (dk_at dksX8_mass_0 1 rfl rfl)
theorem dX8_mass_2 : decode cX8_mass 2 = .ok (.invokevirtual 144, 3) := dk_182 0 144 (dk_at dksX8_mass_0 2 rfl rfl)
theorem dX8_mass_5 : decode cX8_mass 5 = .ok (.ifCond .eq 35, 3) := dk_153 0 35 (dk_at dksX8_mass_0 5 rfl rfl)
theorem dX8_mass_8 : decode cX8_mass 8 = .ok (.iload_n 2, 1) := dk_28 (dk_at dksX8_mass_0 8 rfl rfl)
theorem dX8_mass_9 : decode cX8_mass 9 = .ok (.invokestatic 180, 3) := dk_184 0 180 (dk_at dksX8_mass_0 9 rfl rfl)
theorem dX8_mass_12 : decode cX8_mass 12 = .ok (.ifCond .eq 28, 3) := dk_153 0 28 (dk_at dksX8_mass_0 12 rfl rfl)
theorem dX8_mass_15 : decode cX8_mass 15 = .ok (.iload_n 3, 1) := dk_29 (dk_at dksX8_mass_0 15 rfl rfl)
theorem dX8_mass_16 : decode cX8_mass 16 = .ok (.i2l, 1) := dk_133 (dk_at dksX8_mass_0 16 rfl rfl)
theorem dX8_mass_17 : decode cX8_mass 17 = .ok (.lconst 0, 1) := dk_9 (dk_at dksX8_mass_0 17 rfl rfl)
theorem dX8_mass_18 : decode cX8_mass 18 = .ok (.lconst 1, 1) := dk_10 (dk_at dksX8_mass_0 18 rfl rfl)
theorem dX8_mass_19 : decode cX8_mass 19 = .ok (.invokestatic 53, 3) := dk_184 0 53 (dk_at dksX8_mass_0 19 rfl rfl)
theorem dX8_mass_22 : decode cX8_mass 22 = .ok (.ifCond .eq 18, 3) := dk_153 0 18 (dk_at dksX8_mass_1 0 rfl rfl)
theorem dX8_mass_25 : decode cX8_mass 25 = .ok (.aload_n 0, 1) := dk_42 (dk_at dksX8_mass_1 3 rfl rfl)
theorem dX8_mass_26 : decode cX8_mass 26 = .ok (.iconst 4, 1) := dk_7 (dk_at dksX8_mass_1 4 rfl rfl)
theorem dX8_mass_27 : decode cX8_mass 27 = .ok (.iload_n 1, 1) := dk_27 (dk_at dksX8_mass_1 5 rfl rfl)
theorem dX8_mass_28 : decode cX8_mass 28 = .ok (.iadd, 1) := dk_96 (dk_at dksX8_mass_1 6 rfl rfl)
theorem dX8_mass_29 : decode cX8_mass 29 = .ok (.iconst 1, 1) := dk_4 (dk_at dksX8_mass_1 7 rfl rfl)
theorem dX8_mass_30 : decode cX8_mass 30 = .ok (.bipush 20, 2) := dk_16 20 (dk_at dksX8_mass_1 8 rfl rfl)
theorem dX8_mass_32 : decode cX8_mass 32 = .ok (.iload_n 2, 1) := dk_28 (dk_at dksX8_mass_1 10 rfl rfl)
theorem dX8_mass_33 : decode cX8_mass 33 = .ok (.iload_n 3, 1) := dk_29 (dk_at dksX8_mass_1 11 rfl rfl)
theorem dX8_mass_34 : decode cX8_mass 34 = .ok (.invokevirtual 194, 3) := dk_182 0 194 (dk_at dksX8_mass_1 12 rfl rfl)
theorem dX8_mass_37 : decode cX8_mass 37 = .ok (.goto 4, 3) := dk_167 0 4 (dk_at dksX8_mass_1 15 rfl rfl)
theorem dX8_mass_40 : decode cX8_mass 40 = .ok (.iconst (-1), 1) := dk_2 (dk_at dksX8_mass_1 18 rfl rfl)
theorem dX8_mass_41 : decode cX8_mass 41 = .ok (.ireturn, 1) := dk_172 (dk_at dksX8_mass_1 19 rfl rfl)
abbrev cX8_mostAt : ByteArray := prog_12_method_45_code
def yX8_mostAt : MethodName := ⟨RX8, "mostAt", "(IIIII)I"⟩
def dkwX8_mostAt_4 : List UInt8 := [21, 6, 172]
abbrev dktX8_mostAt_4 : List UInt8 := dkwX8_mostAt_4 ++ []
def dkwX8_mostAt_3 : List UInt8 := [167, 0, 5, 21, 6, 54, 6, 132, 8, 1, 167, 255, 192, 21, 5, 154, 0, 8, 21, 7, 167, 0, 5]
abbrev dktX8_mostAt_3 : List UInt8 := dkwX8_mostAt_3 ++ dktX8_mostAt_4
def dkwX8_mostAt_2 : List UInt8 := [21, 6, 164, 0, 8, 21, 8, 167, 0, 5, 21, 7, 54, 7, 21, 9, 21, 6, 164, 0, 8, 21, 9]
abbrev dktX8_mostAt_2 : List UInt8 := dkwX8_mostAt_2 ++ dktX8_mostAt_3
def dkwX8_mostAt_1 : List UInt8 := [180, 0, 7, 17, 0, 195, 27, 96, 21, 8, 79, 42, 17, 0, 195, 21, 4, 182, 0, 185, 54, 9, 21, 9]
abbrev dktX8_mostAt_1 : List UInt8 := dkwX8_mostAt_1 ++ dktX8_mostAt_2
def dkwX8_mostAt_0 : List UInt8 := [2, 54, 6, 28, 54, 7, 42, 3, 17, 0, 195, 182, 0, 176, 28, 54, 8, 21, 8, 29, 163, 0, 64, 42]
abbrev dktX8_mostAt_0 : List UInt8 := dkwX8_mostAt_0 ++ dktX8_mostAt_1
theorem dksX8_mostAt_0 : cX8_mostAt.data.toList.drop 0 = dktX8_mostAt_0 := by decide +kernel
theorem dksX8_mostAt_1 : cX8_mostAt.data.toList.drop 24 = dktX8_mostAt_1 := dk_seg dksX8_mostAt_0 24 rfl rfl
theorem dksX8_mostAt_2 : cX8_mostAt.data.toList.drop 48 = dktX8_mostAt_2 := dk_seg dksX8_mostAt_1 24 rfl rfl
theorem dksX8_mostAt_3 : cX8_mostAt.data.toList.drop 71 = dktX8_mostAt_3 := dk_seg dksX8_mostAt_2 23 rfl rfl
theorem dksX8_mostAt_4 : cX8_mostAt.data.toList.drop 94 = dktX8_mostAt_4 := dk_seg dksX8_mostAt_3 23 rfl rfl
theorem dX8_mostAt_0 : decode cX8_mostAt 0 = .ok (.iconst (-1), 1) := dk_2 (dk_at dksX8_mostAt_0 0 rfl rfl)
theorem dX8_mostAt_1 : decode cX8_mostAt 1 = .ok (.istore 6, 2) := dk_54 6 (dk_at dksX8_mostAt_0 1 rfl rfl)
theorem dX8_mostAt_3 : decode cX8_mostAt 3 = .ok (.iload_n 2, 1) := dk_28 (dk_at dksX8_mostAt_0 3 rfl rfl)
theorem dX8_mostAt_4 : decode cX8_mostAt 4 = .ok (.istore 7, 2) := dk_54 7 (dk_at dksX8_mostAt_0 4 rfl rfl)
theorem dX8_mostAt_6 : decode cX8_mostAt 6 = .ok (.aload_n 0, 1) := dk_42 (dk_at dksX8_mostAt_0 6 rfl rfl)
theorem dX8_mostAt_7 : decode cX8_mostAt 7 = .ok (.iconst 0, 1) := dk_3 (dk_at dksX8_mostAt_0 7 rfl rfl)
theorem dX8_mostAt_8 : decode cX8_mostAt 8 = .ok (.sipush 195, 3) := dk_17 0 195 (dk_at dksX8_mostAt_0 8 rfl rfl)
theorem dX8_mostAt_11 : decode cX8_mostAt 11 = .ok (.invokevirtual 176, 3) := dk_182 0 176 (dk_at dksX8_mostAt_0 11 rfl rfl)
theorem dX8_mostAt_14 : decode cX8_mostAt 14 = .ok (.iload_n 2, 1) := dk_28 (dk_at dksX8_mostAt_0 14 rfl rfl)
theorem dX8_mostAt_15 : decode cX8_mostAt 15 = .ok (.istore 8, 2) := dk_54 8 (dk_at dksX8_mostAt_0 15 rfl rfl)
theorem dX8_mostAt_17 : decode cX8_mostAt 17 = .ok (.iload 8, 2) := dk_21 8 (dk_at dksX8_mostAt_0 17 rfl rfl)
theorem dX8_mostAt_19 : decode cX8_mostAt 19 = .ok (.iload_n 3, 1) := dk_29 (dk_at dksX8_mostAt_0 19 rfl rfl)
theorem dX8_mostAt_20 : decode cX8_mostAt 20 = .ok (.if_icmp .gt 64, 3) := dk_163 0 64 (dk_at dksX8_mostAt_0 20 rfl rfl)
theorem dX8_mostAt_23 : decode cX8_mostAt 23 = .ok (.aload_n 0, 1) := dk_42 (dk_at dksX8_mostAt_0 23 rfl rfl)
theorem dX8_mostAt_24 : decode cX8_mostAt 24 = .ok (.getfield 7, 3) := dk_180 0 7 (dk_at dksX8_mostAt_1 0 rfl rfl)
theorem dX8_mostAt_27 : decode cX8_mostAt 27 = .ok (.sipush 195, 3) := dk_17 0 195 (dk_at dksX8_mostAt_1 3 rfl rfl)
theorem dX8_mostAt_30 : decode cX8_mostAt 30 = .ok (.iload_n 1, 1) := dk_27 (dk_at dksX8_mostAt_1 6 rfl rfl)
theorem dX8_mostAt_31 : decode cX8_mostAt 31 = .ok (.iadd, 1) := dk_96 (dk_at dksX8_mostAt_1 7 rfl rfl)
theorem dX8_mostAt_32 : decode cX8_mostAt 32 = .ok (.iload 8, 2) := dk_21 8 (dk_at dksX8_mostAt_1 8 rfl rfl)
theorem dX8_mostAt_34 : decode cX8_mostAt 34 = .ok (.iastore, 1) := dk_79 (dk_at dksX8_mostAt_1 10 rfl rfl)
theorem dX8_mostAt_35 : decode cX8_mostAt 35 = .ok (.aload_n 0, 1) := dk_42 (dk_at dksX8_mostAt_1 11 rfl rfl)
theorem dX8_mostAt_36 : decode cX8_mostAt 36 = .ok (.sipush 195, 3) := dk_17 0 195 (dk_at dksX8_mostAt_1 12 rfl rfl)
theorem dX8_mostAt_39 : decode cX8_mostAt 39 = .ok (.iload 4, 2) := dk_21 4 (dk_at dksX8_mostAt_1 15 rfl rfl)
theorem dX8_mostAt_41 : decode cX8_mostAt 41 = .ok (.invokevirtual 185, 3) := dk_182 0 185 (dk_at dksX8_mostAt_1 17 rfl rfl)
theorem dX8_mostAt_44 : decode cX8_mostAt 44 = .ok (.istore 9, 2) := dk_54 9 (dk_at dksX8_mostAt_1 20 rfl rfl)
theorem dX8_mostAt_46 : decode cX8_mostAt 46 = .ok (.iload 9, 2) := dk_21 9 (dk_at dksX8_mostAt_1 22 rfl rfl)
theorem dX8_mostAt_48 : decode cX8_mostAt 48 = .ok (.iload 6, 2) := dk_21 6 (dk_at dksX8_mostAt_2 0 rfl rfl)
theorem dX8_mostAt_50 : decode cX8_mostAt 50 = .ok (.if_icmp .le 8, 3) := dk_164 0 8 (dk_at dksX8_mostAt_2 2 rfl rfl)
theorem dX8_mostAt_53 : decode cX8_mostAt 53 = .ok (.iload 8, 2) := dk_21 8 (dk_at dksX8_mostAt_2 5 rfl rfl)
theorem dX8_mostAt_55 : decode cX8_mostAt 55 = .ok (.goto 5, 3) := dk_167 0 5 (dk_at dksX8_mostAt_2 7 rfl rfl)
theorem dX8_mostAt_58 : decode cX8_mostAt 58 = .ok (.iload 7, 2) := dk_21 7 (dk_at dksX8_mostAt_2 10 rfl rfl)
theorem dX8_mostAt_60 : decode cX8_mostAt 60 = .ok (.istore 7, 2) := dk_54 7 (dk_at dksX8_mostAt_2 12 rfl rfl)
theorem dX8_mostAt_62 : decode cX8_mostAt 62 = .ok (.iload 9, 2) := dk_21 9 (dk_at dksX8_mostAt_2 14 rfl rfl)
theorem dX8_mostAt_64 : decode cX8_mostAt 64 = .ok (.iload 6, 2) := dk_21 6 (dk_at dksX8_mostAt_2 16 rfl rfl)
theorem dX8_mostAt_66 : decode cX8_mostAt 66 = .ok (.if_icmp .le 8, 3) := dk_164 0 8 (dk_at dksX8_mostAt_2 18 rfl rfl)
theorem dX8_mostAt_69 : decode cX8_mostAt 69 = .ok (.iload 9, 2) := dk_21 9 (dk_at dksX8_mostAt_2 21 rfl rfl)
theorem dX8_mostAt_71 : decode cX8_mostAt 71 = .ok (.goto 5, 3) := dk_167 0 5 (dk_at dksX8_mostAt_3 0 rfl rfl)
theorem dX8_mostAt_74 : decode cX8_mostAt 74 = .ok (.iload 6, 2) := dk_21 6 (dk_at dksX8_mostAt_3 3 rfl rfl)
theorem dX8_mostAt_76 : decode cX8_mostAt 76 = .ok (.istore 6, 2) := dk_54 6 (dk_at dksX8_mostAt_3 5 rfl rfl)
theorem dX8_mostAt_78 : decode cX8_mostAt 78 = .ok (.iinc 8 1, 3) := dk_132 8 1 (dk_at dksX8_mostAt_3 7 rfl rfl)
theorem dX8_mostAt_81 : decode cX8_mostAt 81 = .ok (.goto (-64), 3) := dk_167 255 192 (dk_at dksX8_mostAt_3 10 rfl rfl)
theorem dX8_mostAt_84 : decode cX8_mostAt 84 = .ok (.iload 5, 2) := dk_21 5 (dk_at dksX8_mostAt_3 13 rfl rfl)
theorem dX8_mostAt_86 : decode cX8_mostAt 86 = .ok (.ifCond .ne 8, 3) := dk_154 0 8 (dk_at dksX8_mostAt_3 15 rfl rfl)
theorem dX8_mostAt_89 : decode cX8_mostAt 89 = .ok (.iload 7, 2) := dk_21 7 (dk_at dksX8_mostAt_3 18 rfl rfl)
theorem dX8_mostAt_91 : decode cX8_mostAt 91 = .ok (.goto 5, 3) := dk_167 0 5 (dk_at dksX8_mostAt_3 20 rfl rfl)
theorem dX8_mostAt_94 : decode cX8_mostAt 94 = .ok (.iload 6, 2) := dk_21 6 (dk_at dksX8_mostAt_4 0 rfl rfl)
theorem dX8_mostAt_96 : decode cX8_mostAt 96 = .ok (.ireturn, 1) := dk_172 (dk_at dksX8_mostAt_4 2 rfl rfl)
abbrev cX8_kind : ByteArray := prog_12_method_47_code
def yX8_kind : MethodName := ⟨RX8, "kind", "(III)I"⟩
def dkwX8_kind_1 : List UInt8 := [153, 0, 15, 42, 27, 3, 6, 28, 29, 182, 0, 194, 167, 0, 4, 2, 172]
abbrev dktX8_kind_1 : List UInt8 := dkwX8_kind_1 ++ []
def dkwX8_kind_0 : List UInt8 := [42, 27, 182, 0, 144, 153, 0, 32, 28, 184, 0, 180, 153, 0, 25, 29, 133, 9, 10, 184, 0, 53]
abbrev dktX8_kind_0 : List UInt8 := dkwX8_kind_0 ++ dktX8_kind_1
theorem dksX8_kind_0 : cX8_kind.data.toList.drop 0 = dktX8_kind_0 := by decide +kernel
theorem dksX8_kind_1 : cX8_kind.data.toList.drop 22 = dktX8_kind_1 := dk_seg dksX8_kind_0 22 rfl rfl
theorem dX8_kind_0 : decode cX8_kind 0 = .ok (.aload_n 0, 1) := dk_42 (dk_at dksX8_kind_0 0 rfl rfl)
theorem dX8_kind_1 : decode cX8_kind 1 = .ok (.iload_n 1, 1) := dk_27 (dk_at dksX8_kind_0 1 rfl rfl)
theorem dX8_kind_2 : decode cX8_kind 2 = .ok (.invokevirtual 144, 3) := dk_182 0 144 (dk_at dksX8_kind_0 2 rfl rfl)
theorem dX8_kind_5 : decode cX8_kind 5 = .ok (.ifCond .eq 32, 3) := dk_153 0 32 (dk_at dksX8_kind_0 5 rfl rfl)
theorem dX8_kind_8 : decode cX8_kind 8 = .ok (.iload_n 2, 1) := dk_28 (dk_at dksX8_kind_0 8 rfl rfl)
theorem dX8_kind_9 : decode cX8_kind 9 = .ok (.invokestatic 180, 3) := dk_184 0 180 (dk_at dksX8_kind_0 9 rfl rfl)
theorem dX8_kind_12 : decode cX8_kind 12 = .ok (.ifCond .eq 25, 3) := dk_153 0 25 (dk_at dksX8_kind_0 12 rfl rfl)
theorem dX8_kind_15 : decode cX8_kind 15 = .ok (.iload_n 3, 1) := dk_29 (dk_at dksX8_kind_0 15 rfl rfl)
theorem dX8_kind_16 : decode cX8_kind 16 = .ok (.i2l, 1) := dk_133 (dk_at dksX8_kind_0 16 rfl rfl)
theorem dX8_kind_17 : decode cX8_kind 17 = .ok (.lconst 0, 1) := dk_9 (dk_at dksX8_kind_0 17 rfl rfl)
theorem dX8_kind_18 : decode cX8_kind 18 = .ok (.lconst 1, 1) := dk_10 (dk_at dksX8_kind_0 18 rfl rfl)
theorem dX8_kind_19 : decode cX8_kind 19 = .ok (.invokestatic 53, 3) := dk_184 0 53 (dk_at dksX8_kind_0 19 rfl rfl)
theorem dX8_kind_22 : decode cX8_kind 22 = .ok (.ifCond .eq 15, 3) := dk_153 0 15 (dk_at dksX8_kind_1 0 rfl rfl)
theorem dX8_kind_25 : decode cX8_kind 25 = .ok (.aload_n 0, 1) := dk_42 (dk_at dksX8_kind_1 3 rfl rfl)
theorem dX8_kind_26 : decode cX8_kind 26 = .ok (.iload_n 1, 1) := dk_27 (dk_at dksX8_kind_1 4 rfl rfl)
theorem dX8_kind_27 : decode cX8_kind 27 = .ok (.iconst 0, 1) := dk_3 (dk_at dksX8_kind_1 5 rfl rfl)
theorem dX8_kind_28 : decode cX8_kind 28 = .ok (.iconst 3, 1) := dk_6 (dk_at dksX8_kind_1 6 rfl rfl)
theorem dX8_kind_29 : decode cX8_kind 29 = .ok (.iload_n 2, 1) := dk_28 (dk_at dksX8_kind_1 7 rfl rfl)
theorem dX8_kind_30 : decode cX8_kind 30 = .ok (.iload_n 3, 1) := dk_29 (dk_at dksX8_kind_1 8 rfl rfl)
theorem dX8_kind_31 : decode cX8_kind 31 = .ok (.invokevirtual 194, 3) := dk_182 0 194 (dk_at dksX8_kind_1 9 rfl rfl)
theorem dX8_kind_34 : decode cX8_kind 34 = .ok (.goto 4, 3) := dk_167 0 4 (dk_at dksX8_kind_1 12 rfl rfl)
theorem dX8_kind_37 : decode cX8_kind 37 = .ok (.iconst (-1), 1) := dk_2 (dk_at dksX8_kind_1 15 rfl rfl)
theorem dX8_kind_38 : decode cX8_kind 38 = .ok (.ireturn, 1) := dk_172 (dk_at dksX8_kind_1 16 rfl rfl)
abbrev cX8_bears : ByteArray := prog_12_method_48_code
def yX8_bears : MethodName := ⟨RX8, "bears", "(II)I"⟩
def dkwX8_bears_3 : List UInt8 := [16, 252, 172]
abbrev dktX8_bears_3 : List UInt8 := dkwX8_bears_3 ++ []
def dkwX8_bears_2 : List UInt8 := [17, 0, 195, 28, 182, 0, 185, 87, 42, 182, 0, 188, 154, 0, 5, 29, 172, 132, 3, 255, 167, 255, 220]
abbrev dktX8_bears_2 : List UInt8 := dkwX8_bears_2 ++ dktX8_bears_3
def dkwX8_bears_1 : List UInt8 := [182, 0, 176, 16, 9, 62, 29, 155, 0, 38, 42, 180, 0, 7, 17, 0, 203, 27, 96, 29, 79, 42]
abbrev dktX8_bears_1 : List UInt8 := dkwX8_bears_1 ++ dktX8_bears_2
def dkwX8_bears_0 : List UInt8 := [42, 27, 182, 0, 144, 153, 0, 10, 28, 184, 0, 180, 154, 0, 5, 2, 172, 42, 3, 17, 0, 195]
abbrev dktX8_bears_0 : List UInt8 := dkwX8_bears_0 ++ dktX8_bears_1
theorem dksX8_bears_0 : cX8_bears.data.toList.drop 0 = dktX8_bears_0 := by decide +kernel
theorem dksX8_bears_1 : cX8_bears.data.toList.drop 22 = dktX8_bears_1 := dk_seg dksX8_bears_0 22 rfl rfl
theorem dksX8_bears_2 : cX8_bears.data.toList.drop 44 = dktX8_bears_2 := dk_seg dksX8_bears_1 22 rfl rfl
theorem dksX8_bears_3 : cX8_bears.data.toList.drop 67 = dktX8_bears_3 := dk_seg dksX8_bears_2 23 rfl rfl
theorem dX8_bears_0 : decode cX8_bears 0 = .ok (.aload_n 0, 1) := dk_42 (dk_at dksX8_bears_0 0 rfl rfl)
theorem dX8_bears_1 : decode cX8_bears 1 = .ok (.iload_n 1, 1) := dk_27 (dk_at dksX8_bears_0 1 rfl rfl)
theorem dX8_bears_2 : decode cX8_bears 2 = .ok (.invokevirtual 144, 3) := dk_182 0 144 (dk_at dksX8_bears_0 2 rfl rfl)
theorem dX8_bears_5 : decode cX8_bears 5 = .ok (.ifCond .eq 10, 3) := dk_153 0 10 (dk_at dksX8_bears_0 5 rfl rfl)
theorem dX8_bears_8 : decode cX8_bears 8 = .ok (.iload_n 2, 1) := dk_28 (dk_at dksX8_bears_0 8 rfl rfl)
theorem dX8_bears_9 : decode cX8_bears 9 = .ok (.invokestatic 180, 3) := dk_184 0 180 (dk_at dksX8_bears_0 9 rfl rfl)
theorem dX8_bears_12 : decode cX8_bears 12 = .ok (.ifCond .ne 5, 3) := dk_154 0 5 (dk_at dksX8_bears_0 12 rfl rfl)
theorem dX8_bears_15 : decode cX8_bears 15 = .ok (.iconst (-1), 1) := dk_2 (dk_at dksX8_bears_0 15 rfl rfl)
theorem dX8_bears_16 : decode cX8_bears 16 = .ok (.ireturn, 1) := dk_172 (dk_at dksX8_bears_0 16 rfl rfl)
theorem dX8_bears_17 : decode cX8_bears 17 = .ok (.aload_n 0, 1) := dk_42 (dk_at dksX8_bears_0 17 rfl rfl)
theorem dX8_bears_18 : decode cX8_bears 18 = .ok (.iconst 0, 1) := dk_3 (dk_at dksX8_bears_0 18 rfl rfl)
theorem dX8_bears_19 : decode cX8_bears 19 = .ok (.sipush 195, 3) := dk_17 0 195 (dk_at dksX8_bears_0 19 rfl rfl)
theorem dX8_bears_22 : decode cX8_bears 22 = .ok (.invokevirtual 176, 3) := dk_182 0 176 (dk_at dksX8_bears_1 0 rfl rfl)
theorem dX8_bears_25 : decode cX8_bears 25 = .ok (.bipush 9, 2) := dk_16 9 (dk_at dksX8_bears_1 3 rfl rfl)
theorem dX8_bears_27 : decode cX8_bears 27 = .ok (.istore_n 3, 1) := dk_62 (dk_at dksX8_bears_1 5 rfl rfl)
theorem dX8_bears_28 : decode cX8_bears 28 = .ok (.iload_n 3, 1) := dk_29 (dk_at dksX8_bears_1 6 rfl rfl)
theorem dX8_bears_29 : decode cX8_bears 29 = .ok (.ifCond .lt 38, 3) := dk_155 0 38 (dk_at dksX8_bears_1 7 rfl rfl)
theorem dX8_bears_32 : decode cX8_bears 32 = .ok (.aload_n 0, 1) := dk_42 (dk_at dksX8_bears_1 10 rfl rfl)
theorem dX8_bears_33 : decode cX8_bears 33 = .ok (.getfield 7, 3) := dk_180 0 7 (dk_at dksX8_bears_1 11 rfl rfl)
theorem dX8_bears_36 : decode cX8_bears 36 = .ok (.sipush 203, 3) := dk_17 0 203 (dk_at dksX8_bears_1 14 rfl rfl)
theorem dX8_bears_39 : decode cX8_bears 39 = .ok (.iload_n 1, 1) := dk_27 (dk_at dksX8_bears_1 17 rfl rfl)
theorem dX8_bears_40 : decode cX8_bears 40 = .ok (.iadd, 1) := dk_96 (dk_at dksX8_bears_1 18 rfl rfl)
theorem dX8_bears_41 : decode cX8_bears 41 = .ok (.iload_n 3, 1) := dk_29 (dk_at dksX8_bears_1 19 rfl rfl)
theorem dX8_bears_42 : decode cX8_bears 42 = .ok (.iastore, 1) := dk_79 (dk_at dksX8_bears_1 20 rfl rfl)
theorem dX8_bears_43 : decode cX8_bears 43 = .ok (.aload_n 0, 1) := dk_42 (dk_at dksX8_bears_1 21 rfl rfl)
theorem dX8_bears_44 : decode cX8_bears 44 = .ok (.sipush 195, 3) := dk_17 0 195 (dk_at dksX8_bears_2 0 rfl rfl)
theorem dX8_bears_47 : decode cX8_bears 47 = .ok (.iload_n 2, 1) := dk_28 (dk_at dksX8_bears_2 3 rfl rfl)
theorem dX8_bears_48 : decode cX8_bears 48 = .ok (.invokevirtual 185, 3) := dk_182 0 185 (dk_at dksX8_bears_2 4 rfl rfl)
theorem dX8_bears_51 : decode cX8_bears 51 = .ok (.pop, 1) := dk_87 (dk_at dksX8_bears_2 7 rfl rfl)
theorem dX8_bears_52 : decode cX8_bears 52 = .ok (.aload_n 0, 1) := dk_42 (dk_at dksX8_bears_2 8 rfl rfl)
theorem dX8_bears_53 : decode cX8_bears 53 = .ok (.invokevirtual 188, 3) := dk_182 0 188 (dk_at dksX8_bears_2 9 rfl rfl)
theorem dX8_bears_56 : decode cX8_bears 56 = .ok (.ifCond .ne 5, 3) := dk_154 0 5 (dk_at dksX8_bears_2 12 rfl rfl)
theorem dX8_bears_59 : decode cX8_bears 59 = .ok (.iload_n 3, 1) := dk_29 (dk_at dksX8_bears_2 15 rfl rfl)
theorem dX8_bears_60 : decode cX8_bears 60 = .ok (.ireturn, 1) := dk_172 (dk_at dksX8_bears_2 16 rfl rfl)
theorem dX8_bears_61 : decode cX8_bears 61 = .ok (.iinc 3 (-1), 3) := dk_132 3 255 (dk_at dksX8_bears_2 17 rfl rfl)
theorem dX8_bears_64 : decode cX8_bears 64 = .ok (.goto (-36), 3) := dk_167 255 220 (dk_at dksX8_bears_2 20 rfl rfl)
theorem dX8_bears_67 : decode cX8_bears 67 = .ok (.bipush (-4), 2) := dk_16 252 (dk_at dksX8_bears_3 0 rfl rfl)
theorem dX8_bears_69 : decode cX8_bears 69 = .ok (.ireturn, 1) := dk_172 (dk_at dksX8_bears_3 2 rfl rfl)
abbrev cX8_swap : ByteArray := prog_12_method_49_code
def yX8_swap : MethodName := ⟨RX8, "swap", "(II)I"⟩
def dkwX8_swap_8 : List UInt8 := [167, 0, 4, 29, 172]
abbrev dktX8_swap_8 : List UInt8 := dkwX8_swap_8 ++ []
def dkwX8_swap_7 : List UInt8 := [167, 255, 147, 132, 5, 1, 167, 255, 123, 21, 4, 16, 252, 159, 0, 7, 28, 154, 0, 8, 21, 4]
abbrev dktX8_swap_7 : List UInt8 := dkwX8_swap_7 ++ dktX8_swap_8
def dkwX8_swap_6 : List UInt8 := [167, 0, 5, 21, 4, 54, 4, 21, 7, 29, 164, 0, 8, 21, 7, 167, 0, 4, 29, 62, 132, 6, 1]
abbrev dktX8_swap_6 : List UInt8 := dkwX8_swap_6 ++ dktX8_swap_7
def dkwX8_swap_5 : List UInt8 := [17, 0, 195, 27, 182, 0, 185, 54, 7, 21, 7, 29, 164, 0, 14, 16, 100, 21, 5, 104, 21, 6, 96]
abbrev dktX8_swap_5 : List UInt8 := dkwX8_swap_5 ++ dktX8_swap_6
def dkwX8_swap_4 : List UInt8 := [42, 180, 0, 7, 17, 0, 212, 21, 6, 96, 42, 180, 0, 7, 16, 17, 21, 5, 96, 46, 79, 42]
abbrev dktX8_swap_4 : List UInt8 := dkwX8_swap_4 ++ dktX8_swap_5
def dkwX8_swap_3 : List UInt8 := [182, 0, 176, 42, 180, 0, 7, 17, 0, 212, 21, 5, 96, 42, 180, 0, 7, 16, 17, 21, 6, 96, 46, 79]
abbrev dktX8_swap_3 : List UInt8 := dkwX8_swap_3 ++ dktX8_swap_4
def dkwX8_swap_2 : List UInt8 := [21, 5, 4, 96, 54, 6, 21, 6, 42, 180, 0, 7, 16, 33, 46, 162, 0, 103, 42, 3, 17, 0, 195]
abbrev dktX8_swap_2 : List UInt8 := dkwX8_swap_2 ++ dktX8_swap_3
def dkwX8_swap_1 : List UInt8 := [182, 0, 185, 62, 16, 252, 54, 4, 3, 54, 5, 21, 5, 42, 180, 0, 7, 16, 33, 46, 162, 0, 127]
abbrev dktX8_swap_1 : List UInt8 := dkwX8_swap_1 ++ dktX8_swap_2
def dkwX8_swap_0 : List UInt8 := [27, 184, 0, 180, 153, 0, 13, 28, 133, 9, 10, 184, 0, 53, 154, 0, 5, 2, 172, 42, 3, 27]
abbrev dktX8_swap_0 : List UInt8 := dkwX8_swap_0 ++ dktX8_swap_1
theorem dksX8_swap_0 : cX8_swap.data.toList.drop 0 = dktX8_swap_0 := by decide +kernel
theorem dksX8_swap_1 : cX8_swap.data.toList.drop 22 = dktX8_swap_1 := dk_seg dksX8_swap_0 22 rfl rfl
theorem dksX8_swap_2 : cX8_swap.data.toList.drop 45 = dktX8_swap_2 := dk_seg dksX8_swap_1 23 rfl rfl
theorem dksX8_swap_3 : cX8_swap.data.toList.drop 68 = dktX8_swap_3 := dk_seg dksX8_swap_2 23 rfl rfl
theorem dksX8_swap_4 : cX8_swap.data.toList.drop 92 = dktX8_swap_4 := dk_seg dksX8_swap_3 24 rfl rfl
theorem dksX8_swap_5 : cX8_swap.data.toList.drop 114 = dktX8_swap_5 := dk_seg dksX8_swap_4 22 rfl rfl
theorem dksX8_swap_6 : cX8_swap.data.toList.drop 137 = dktX8_swap_6 := dk_seg dksX8_swap_5 23 rfl rfl
theorem dksX8_swap_7 : cX8_swap.data.toList.drop 160 = dktX8_swap_7 := dk_seg dksX8_swap_6 23 rfl rfl
theorem dksX8_swap_8 : cX8_swap.data.toList.drop 182 = dktX8_swap_8 := dk_seg dksX8_swap_7 22 rfl rfl
theorem dX8_swap_0 : decode cX8_swap 0 = .ok (.iload_n 1, 1) := dk_27 (dk_at dksX8_swap_0 0 rfl rfl)
theorem dX8_swap_1 : decode cX8_swap 1 = .ok (.invokestatic 180, 3) := dk_184 0 180 (dk_at dksX8_swap_0 1 rfl rfl)
theorem dX8_swap_4 : decode cX8_swap 4 = .ok (.ifCond .eq 13, 3) := dk_153 0 13 (dk_at dksX8_swap_0 4 rfl rfl)
theorem dX8_swap_7 : decode cX8_swap 7 = .ok (.iload_n 2, 1) := dk_28 (dk_at dksX8_swap_0 7 rfl rfl)
theorem dX8_swap_8 : decode cX8_swap 8 = .ok (.i2l, 1) := dk_133 (dk_at dksX8_swap_0 8 rfl rfl)
theorem dX8_swap_9 : decode cX8_swap 9 = .ok (.lconst 0, 1) := dk_9 (dk_at dksX8_swap_0 9 rfl rfl)
theorem dX8_swap_10 : decode cX8_swap 10 = .ok (.lconst 1, 1) := dk_10 (dk_at dksX8_swap_0 10 rfl rfl)
theorem dX8_swap_11 : decode cX8_swap 11 = .ok (.invokestatic 53, 3) := dk_184 0 53 (dk_at dksX8_swap_0 11 rfl rfl)
theorem dX8_swap_14 : decode cX8_swap 14 = .ok (.ifCond .ne 5, 3) := dk_154 0 5 (dk_at dksX8_swap_0 14 rfl rfl)
theorem dX8_swap_17 : decode cX8_swap 17 = .ok (.iconst (-1), 1) := dk_2 (dk_at dksX8_swap_0 17 rfl rfl)
theorem dX8_swap_18 : decode cX8_swap 18 = .ok (.ireturn, 1) := dk_172 (dk_at dksX8_swap_0 18 rfl rfl)
theorem dX8_swap_19 : decode cX8_swap 19 = .ok (.aload_n 0, 1) := dk_42 (dk_at dksX8_swap_0 19 rfl rfl)
theorem dX8_swap_20 : decode cX8_swap 20 = .ok (.iconst 0, 1) := dk_3 (dk_at dksX8_swap_0 20 rfl rfl)
theorem dX8_swap_21 : decode cX8_swap 21 = .ok (.iload_n 1, 1) := dk_27 (dk_at dksX8_swap_0 21 rfl rfl)
theorem dX8_swap_22 : decode cX8_swap 22 = .ok (.invokevirtual 185, 3) := dk_182 0 185 (dk_at dksX8_swap_1 0 rfl rfl)
theorem dX8_swap_25 : decode cX8_swap 25 = .ok (.istore_n 3, 1) := dk_62 (dk_at dksX8_swap_1 3 rfl rfl)
theorem dX8_swap_26 : decode cX8_swap 26 = .ok (.bipush (-4), 2) := dk_16 252 (dk_at dksX8_swap_1 4 rfl rfl)
theorem dX8_swap_28 : decode cX8_swap 28 = .ok (.istore 4, 2) := dk_54 4 (dk_at dksX8_swap_1 6 rfl rfl)
theorem dX8_swap_30 : decode cX8_swap 30 = .ok (.iconst 0, 1) := dk_3 (dk_at dksX8_swap_1 8 rfl rfl)
theorem dX8_swap_31 : decode cX8_swap 31 = .ok (.istore 5, 2) := dk_54 5 (dk_at dksX8_swap_1 9 rfl rfl)
theorem dX8_swap_33 : decode cX8_swap 33 = .ok (.iload 5, 2) := dk_21 5 (dk_at dksX8_swap_1 11 rfl rfl)
theorem dX8_swap_35 : decode cX8_swap 35 = .ok (.aload_n 0, 1) := dk_42 (dk_at dksX8_swap_1 13 rfl rfl)
theorem dX8_swap_36 : decode cX8_swap 36 = .ok (.getfield 7, 3) := dk_180 0 7 (dk_at dksX8_swap_1 14 rfl rfl)
theorem dX8_swap_39 : decode cX8_swap 39 = .ok (.bipush 33, 2) := dk_16 33 (dk_at dksX8_swap_1 17 rfl rfl)
theorem dX8_swap_41 : decode cX8_swap 41 = .ok (.iaload, 1) := dk_46 (dk_at dksX8_swap_1 19 rfl rfl)
theorem dX8_swap_42 : decode cX8_swap 42 = .ok (.if_icmp .ge 127, 3) := dk_162 0 127 (dk_at dksX8_swap_1 20 rfl rfl)
theorem dX8_swap_45 : decode cX8_swap 45 = .ok (.iload 5, 2) := dk_21 5 (dk_at dksX8_swap_2 0 rfl rfl)
theorem dX8_swap_47 : decode cX8_swap 47 = .ok (.iconst 1, 1) := dk_4 (dk_at dksX8_swap_2 2 rfl rfl)
theorem dX8_swap_48 : decode cX8_swap 48 = .ok (.iadd, 1) := dk_96 (dk_at dksX8_swap_2 3 rfl rfl)
theorem dX8_swap_49 : decode cX8_swap 49 = .ok (.istore 6, 2) := dk_54 6 (dk_at dksX8_swap_2 4 rfl rfl)
theorem dX8_swap_51 : decode cX8_swap 51 = .ok (.iload 6, 2) := dk_21 6 (dk_at dksX8_swap_2 6 rfl rfl)
theorem dX8_swap_53 : decode cX8_swap 53 = .ok (.aload_n 0, 1) := dk_42 (dk_at dksX8_swap_2 8 rfl rfl)
theorem dX8_swap_54 : decode cX8_swap 54 = .ok (.getfield 7, 3) := dk_180 0 7 (dk_at dksX8_swap_2 9 rfl rfl)
theorem dX8_swap_57 : decode cX8_swap 57 = .ok (.bipush 33, 2) := dk_16 33 (dk_at dksX8_swap_2 12 rfl rfl)
theorem dX8_swap_59 : decode cX8_swap 59 = .ok (.iaload, 1) := dk_46 (dk_at dksX8_swap_2 14 rfl rfl)
theorem dX8_swap_60 : decode cX8_swap 60 = .ok (.if_icmp .ge 103, 3) := dk_162 0 103 (dk_at dksX8_swap_2 15 rfl rfl)
theorem dX8_swap_63 : decode cX8_swap 63 = .ok (.aload_n 0, 1) := dk_42 (dk_at dksX8_swap_2 18 rfl rfl)
theorem dX8_swap_64 : decode cX8_swap 64 = .ok (.iconst 0, 1) := dk_3 (dk_at dksX8_swap_2 19 rfl rfl)
theorem dX8_swap_65 : decode cX8_swap 65 = .ok (.sipush 195, 3) := dk_17 0 195 (dk_at dksX8_swap_2 20 rfl rfl)
theorem dX8_swap_68 : decode cX8_swap 68 = .ok (.invokevirtual 176, 3) := dk_182 0 176 (dk_at dksX8_swap_3 0 rfl rfl)
theorem dX8_swap_71 : decode cX8_swap 71 = .ok (.aload_n 0, 1) := dk_42 (dk_at dksX8_swap_3 3 rfl rfl)
theorem dX8_swap_72 : decode cX8_swap 72 = .ok (.getfield 7, 3) := dk_180 0 7 (dk_at dksX8_swap_3 4 rfl rfl)
theorem dX8_swap_75 : decode cX8_swap 75 = .ok (.sipush 212, 3) := dk_17 0 212 (dk_at dksX8_swap_3 7 rfl rfl)
theorem dX8_swap_78 : decode cX8_swap 78 = .ok (.iload 5, 2) := dk_21 5 (dk_at dksX8_swap_3 10 rfl rfl)
theorem dX8_swap_80 : decode cX8_swap 80 = .ok (.iadd, 1) := dk_96 (dk_at dksX8_swap_3 12 rfl rfl)
theorem dX8_swap_81 : decode cX8_swap 81 = .ok (.aload_n 0, 1) := dk_42 (dk_at dksX8_swap_3 13 rfl rfl)
theorem dX8_swap_82 : decode cX8_swap 82 = .ok (.getfield 7, 3) := dk_180 0 7 (dk_at dksX8_swap_3 14 rfl rfl)
theorem dX8_swap_85 : decode cX8_swap 85 = .ok (.bipush 17, 2) := dk_16 17 (dk_at dksX8_swap_3 17 rfl rfl)
theorem dX8_swap_87 : decode cX8_swap 87 = .ok (.iload 6, 2) := dk_21 6 (dk_at dksX8_swap_3 19 rfl rfl)
theorem dX8_swap_89 : decode cX8_swap 89 = .ok (.iadd, 1) := dk_96 (dk_at dksX8_swap_3 21 rfl rfl)
theorem dX8_swap_90 : decode cX8_swap 90 = .ok (.iaload, 1) := dk_46 (dk_at dksX8_swap_3 22 rfl rfl)
theorem dX8_swap_91 : decode cX8_swap 91 = .ok (.iastore, 1) := dk_79 (dk_at dksX8_swap_3 23 rfl rfl)
theorem dX8_swap_92 : decode cX8_swap 92 = .ok (.aload_n 0, 1) := dk_42 (dk_at dksX8_swap_4 0 rfl rfl)
theorem dX8_swap_93 : decode cX8_swap 93 = .ok (.getfield 7, 3) := dk_180 0 7 (dk_at dksX8_swap_4 1 rfl rfl)
theorem dX8_swap_96 : decode cX8_swap 96 = .ok (.sipush 212, 3) := dk_17 0 212 (dk_at dksX8_swap_4 4 rfl rfl)
theorem dX8_swap_99 : decode cX8_swap 99 = .ok (.iload 6, 2) := dk_21 6 (dk_at dksX8_swap_4 7 rfl rfl)
theorem dX8_swap_101 : decode cX8_swap 101 = .ok (.iadd, 1) := dk_96 (dk_at dksX8_swap_4 9 rfl rfl)
theorem dX8_swap_102 : decode cX8_swap 102 = .ok (.aload_n 0, 1) := dk_42 (dk_at dksX8_swap_4 10 rfl rfl)
theorem dX8_swap_103 : decode cX8_swap 103 = .ok (.getfield 7, 3) := dk_180 0 7 (dk_at dksX8_swap_4 11 rfl rfl)
theorem dX8_swap_106 : decode cX8_swap 106 = .ok (.bipush 17, 2) := dk_16 17 (dk_at dksX8_swap_4 14 rfl rfl)
theorem dX8_swap_108 : decode cX8_swap 108 = .ok (.iload 5, 2) := dk_21 5 (dk_at dksX8_swap_4 16 rfl rfl)
theorem dX8_swap_110 : decode cX8_swap 110 = .ok (.iadd, 1) := dk_96 (dk_at dksX8_swap_4 18 rfl rfl)
theorem dX8_swap_111 : decode cX8_swap 111 = .ok (.iaload, 1) := dk_46 (dk_at dksX8_swap_4 19 rfl rfl)
theorem dX8_swap_112 : decode cX8_swap 112 = .ok (.iastore, 1) := dk_79 (dk_at dksX8_swap_4 20 rfl rfl)
theorem dX8_swap_113 : decode cX8_swap 113 = .ok (.aload_n 0, 1) := dk_42 (dk_at dksX8_swap_4 21 rfl rfl)
theorem dX8_swap_114 : decode cX8_swap 114 = .ok (.sipush 195, 3) := dk_17 0 195 (dk_at dksX8_swap_5 0 rfl rfl)
theorem dX8_swap_117 : decode cX8_swap 117 = .ok (.iload_n 1, 1) := dk_27 (dk_at dksX8_swap_5 3 rfl rfl)
theorem dX8_swap_118 : decode cX8_swap 118 = .ok (.invokevirtual 185, 3) := dk_182 0 185 (dk_at dksX8_swap_5 4 rfl rfl)
theorem dX8_swap_121 : decode cX8_swap 121 = .ok (.istore 7, 2) := dk_54 7 (dk_at dksX8_swap_5 7 rfl rfl)
theorem dX8_swap_123 : decode cX8_swap 123 = .ok (.iload 7, 2) := dk_21 7 (dk_at dksX8_swap_5 9 rfl rfl)
theorem dX8_swap_125 : decode cX8_swap 125 = .ok (.iload_n 3, 1) := dk_29 (dk_at dksX8_swap_5 11 rfl rfl)
theorem dX8_swap_126 : decode cX8_swap 126 = .ok (.if_icmp .le 14, 3) := dk_164 0 14 (dk_at dksX8_swap_5 12 rfl rfl)
theorem dX8_swap_129 : decode cX8_swap 129 = .ok (.bipush 100, 2) := dk_16 100 (dk_at dksX8_swap_5 15 rfl rfl)
theorem dX8_swap_131 : decode cX8_swap 131 = .ok (.iload 5, 2) := dk_21 5 (dk_at dksX8_swap_5 17 rfl rfl)
theorem dX8_swap_133 : decode cX8_swap 133 = .ok (.imul, 1) := dk_104 (dk_at dksX8_swap_5 19 rfl rfl)
theorem dX8_swap_134 : decode cX8_swap 134 = .ok (.iload 6, 2) := dk_21 6 (dk_at dksX8_swap_5 20 rfl rfl)
theorem dX8_swap_136 : decode cX8_swap 136 = .ok (.iadd, 1) := dk_96 (dk_at dksX8_swap_5 22 rfl rfl)
theorem dX8_swap_137 : decode cX8_swap 137 = .ok (.goto 5, 3) := dk_167 0 5 (dk_at dksX8_swap_6 0 rfl rfl)
theorem dX8_swap_140 : decode cX8_swap 140 = .ok (.iload 4, 2) := dk_21 4 (dk_at dksX8_swap_6 3 rfl rfl)
theorem dX8_swap_142 : decode cX8_swap 142 = .ok (.istore 4, 2) := dk_54 4 (dk_at dksX8_swap_6 5 rfl rfl)
theorem dX8_swap_144 : decode cX8_swap 144 = .ok (.iload 7, 2) := dk_21 7 (dk_at dksX8_swap_6 7 rfl rfl)
theorem dX8_swap_146 : decode cX8_swap 146 = .ok (.iload_n 3, 1) := dk_29 (dk_at dksX8_swap_6 9 rfl rfl)
theorem dX8_swap_147 : decode cX8_swap 147 = .ok (.if_icmp .le 8, 3) := dk_164 0 8 (dk_at dksX8_swap_6 10 rfl rfl)
theorem dX8_swap_150 : decode cX8_swap 150 = .ok (.iload 7, 2) := dk_21 7 (dk_at dksX8_swap_6 13 rfl rfl)
theorem dX8_swap_152 : decode cX8_swap 152 = .ok (.goto 4, 3) := dk_167 0 4 (dk_at dksX8_swap_6 15 rfl rfl)
theorem dX8_swap_155 : decode cX8_swap 155 = .ok (.iload_n 3, 1) := dk_29 (dk_at dksX8_swap_6 18 rfl rfl)
theorem dX8_swap_156 : decode cX8_swap 156 = .ok (.istore_n 3, 1) := dk_62 (dk_at dksX8_swap_6 19 rfl rfl)
theorem dX8_swap_157 : decode cX8_swap 157 = .ok (.iinc 6 1, 3) := dk_132 6 1 (dk_at dksX8_swap_6 20 rfl rfl)
theorem dX8_swap_160 : decode cX8_swap 160 = .ok (.goto (-109), 3) := dk_167 255 147 (dk_at dksX8_swap_7 0 rfl rfl)
theorem dX8_swap_163 : decode cX8_swap 163 = .ok (.iinc 5 1, 3) := dk_132 5 1 (dk_at dksX8_swap_7 3 rfl rfl)
theorem dX8_swap_166 : decode cX8_swap 166 = .ok (.goto (-133), 3) := dk_167 255 123 (dk_at dksX8_swap_7 6 rfl rfl)
theorem dX8_swap_169 : decode cX8_swap 169 = .ok (.iload 4, 2) := dk_21 4 (dk_at dksX8_swap_7 9 rfl rfl)
theorem dX8_swap_171 : decode cX8_swap 171 = .ok (.bipush (-4), 2) := dk_16 252 (dk_at dksX8_swap_7 11 rfl rfl)
theorem dX8_swap_173 : decode cX8_swap 173 = .ok (.if_icmp .eq 7, 3) := dk_159 0 7 (dk_at dksX8_swap_7 13 rfl rfl)
theorem dX8_swap_176 : decode cX8_swap 176 = .ok (.iload_n 2, 1) := dk_28 (dk_at dksX8_swap_7 16 rfl rfl)
theorem dX8_swap_177 : decode cX8_swap 177 = .ok (.ifCond .ne 8, 3) := dk_154 0 8 (dk_at dksX8_swap_7 17 rfl rfl)
theorem dX8_swap_180 : decode cX8_swap 180 = .ok (.iload 4, 2) := dk_21 4 (dk_at dksX8_swap_7 20 rfl rfl)
theorem dX8_swap_182 : decode cX8_swap 182 = .ok (.goto 4, 3) := dk_167 0 4 (dk_at dksX8_swap_8 0 rfl rfl)
theorem dX8_swap_185 : decode cX8_swap 185 = .ok (.iload_n 3, 1) := dk_29 (dk_at dksX8_swap_8 3 rfl rfl)
theorem dX8_swap_186 : decode cX8_swap 186 = .ok (.ireturn, 1) := dk_172 (dk_at dksX8_swap_8 4 rfl rfl)
abbrev cX8_omit : ByteArray := prog_12_method_50_code
def yX8_omit : MethodName := ⟨RX8, "omit", "(II)I"⟩
def dkwX8_omit_5 : List UInt8 := [172]
abbrev dktX8_omit_5 : List UInt8 := dkwX8_omit_5 ++ []
def dkwX8_omit_4 : List UInt8 := [62, 132, 5, 1, 167, 255, 193, 21, 4, 16, 252, 159, 0, 7, 28, 154, 0, 8, 21, 4, 167, 0, 4, 29]
abbrev dktX8_omit_4 : List UInt8 := dkwX8_omit_4 ++ dktX8_omit_5
def dkwX8_omit_3 : List UInt8 := [164, 0, 8, 21, 5, 167, 0, 5, 21, 4, 54, 4, 21, 6, 29, 164, 0, 8, 21, 6, 167, 0, 4, 29]
abbrev dktX8_omit_3 : List UInt8 := dkwX8_omit_3 ++ dktX8_omit_4
def dkwX8_omit_2 : List UInt8 := [21, 5, 181, 0, 29, 42, 3, 27, 182, 0, 185, 54, 6, 42, 16, 252, 181, 0, 29, 21, 6, 29]
abbrev dktX8_omit_2 : List UInt8 := dkwX8_omit_2 ++ dktX8_omit_3
def dkwX8_omit_1 : List UInt8 := [182, 0, 185, 62, 16, 252, 54, 4, 3, 54, 5, 21, 5, 42, 180, 0, 7, 16, 33, 46, 162, 0, 57, 42]
abbrev dktX8_omit_1 : List UInt8 := dkwX8_omit_1 ++ dktX8_omit_2
def dkwX8_omit_0 : List UInt8 := [27, 184, 0, 180, 153, 0, 13, 28, 133, 9, 10, 184, 0, 53, 154, 0, 5, 2, 172, 42, 3, 27]
abbrev dktX8_omit_0 : List UInt8 := dkwX8_omit_0 ++ dktX8_omit_1
theorem dksX8_omit_0 : cX8_omit.data.toList.drop 0 = dktX8_omit_0 := by decide +kernel
theorem dksX8_omit_1 : cX8_omit.data.toList.drop 22 = dktX8_omit_1 := dk_seg dksX8_omit_0 22 rfl rfl
theorem dksX8_omit_2 : cX8_omit.data.toList.drop 46 = dktX8_omit_2 := dk_seg dksX8_omit_1 24 rfl rfl
theorem dksX8_omit_3 : cX8_omit.data.toList.drop 68 = dktX8_omit_3 := dk_seg dksX8_omit_2 22 rfl rfl
theorem dksX8_omit_4 : cX8_omit.data.toList.drop 92 = dktX8_omit_4 := dk_seg dksX8_omit_3 24 rfl rfl
theorem dksX8_omit_5 : cX8_omit.data.toList.drop 116 = dktX8_omit_5 := dk_seg dksX8_omit_4 24 rfl rfl
theorem dX8_omit_0 : decode cX8_omit 0 = .ok (.iload_n 1, 1) := dk_27 (dk_at dksX8_omit_0 0 rfl rfl)
theorem dX8_omit_1 : decode cX8_omit 1 = .ok (.invokestatic 180, 3) := dk_184 0 180 (dk_at dksX8_omit_0 1 rfl rfl)
theorem dX8_omit_4 : decode cX8_omit 4 = .ok (.ifCond .eq 13, 3) := dk_153 0 13 (dk_at dksX8_omit_0 4 rfl rfl)
theorem dX8_omit_7 : decode cX8_omit 7 = .ok (.iload_n 2, 1) := dk_28 (dk_at dksX8_omit_0 7 rfl rfl)
theorem dX8_omit_8 : decode cX8_omit 8 = .ok (.i2l, 1) := dk_133 (dk_at dksX8_omit_0 8 rfl rfl)
theorem dX8_omit_9 : decode cX8_omit 9 = .ok (.lconst 0, 1) := dk_9 (dk_at dksX8_omit_0 9 rfl rfl)
theorem dX8_omit_10 : decode cX8_omit 10 = .ok (.lconst 1, 1) := dk_10 (dk_at dksX8_omit_0 10 rfl rfl)
theorem dX8_omit_11 : decode cX8_omit 11 = .ok (.invokestatic 53, 3) := dk_184 0 53 (dk_at dksX8_omit_0 11 rfl rfl)
theorem dX8_omit_14 : decode cX8_omit 14 = .ok (.ifCond .ne 5, 3) := dk_154 0 5 (dk_at dksX8_omit_0 14 rfl rfl)
theorem dX8_omit_17 : decode cX8_omit 17 = .ok (.iconst (-1), 1) := dk_2 (dk_at dksX8_omit_0 17 rfl rfl)
theorem dX8_omit_18 : decode cX8_omit 18 = .ok (.ireturn, 1) := dk_172 (dk_at dksX8_omit_0 18 rfl rfl)
theorem dX8_omit_19 : decode cX8_omit 19 = .ok (.aload_n 0, 1) := dk_42 (dk_at dksX8_omit_0 19 rfl rfl)
theorem dX8_omit_20 : decode cX8_omit 20 = .ok (.iconst 0, 1) := dk_3 (dk_at dksX8_omit_0 20 rfl rfl)
theorem dX8_omit_21 : decode cX8_omit 21 = .ok (.iload_n 1, 1) := dk_27 (dk_at dksX8_omit_0 21 rfl rfl)
theorem dX8_omit_22 : decode cX8_omit 22 = .ok (.invokevirtual 185, 3) := dk_182 0 185 (dk_at dksX8_omit_1 0 rfl rfl)
theorem dX8_omit_25 : decode cX8_omit 25 = .ok (.istore_n 3, 1) := dk_62 (dk_at dksX8_omit_1 3 rfl rfl)
theorem dX8_omit_26 : decode cX8_omit 26 = .ok (.bipush (-4), 2) := dk_16 252 (dk_at dksX8_omit_1 4 rfl rfl)
theorem dX8_omit_28 : decode cX8_omit 28 = .ok (.istore 4, 2) := dk_54 4 (dk_at dksX8_omit_1 6 rfl rfl)
theorem dX8_omit_30 : decode cX8_omit 30 = .ok (.iconst 0, 1) := dk_3 (dk_at dksX8_omit_1 8 rfl rfl)
theorem dX8_omit_31 : decode cX8_omit 31 = .ok (.istore 5, 2) := dk_54 5 (dk_at dksX8_omit_1 9 rfl rfl)
theorem dX8_omit_33 : decode cX8_omit 33 = .ok (.iload 5, 2) := dk_21 5 (dk_at dksX8_omit_1 11 rfl rfl)
theorem dX8_omit_35 : decode cX8_omit 35 = .ok (.aload_n 0, 1) := dk_42 (dk_at dksX8_omit_1 13 rfl rfl)
theorem dX8_omit_36 : decode cX8_omit 36 = .ok (.getfield 7, 3) := dk_180 0 7 (dk_at dksX8_omit_1 14 rfl rfl)
theorem dX8_omit_39 : decode cX8_omit 39 = .ok (.bipush 33, 2) := dk_16 33 (dk_at dksX8_omit_1 17 rfl rfl)
theorem dX8_omit_41 : decode cX8_omit 41 = .ok (.iaload, 1) := dk_46 (dk_at dksX8_omit_1 19 rfl rfl)
theorem dX8_omit_42 : decode cX8_omit 42 = .ok (.if_icmp .ge 57, 3) := dk_162 0 57 (dk_at dksX8_omit_1 20 rfl rfl)
theorem dX8_omit_45 : decode cX8_omit 45 = .ok (.aload_n 0, 1) := dk_42 (dk_at dksX8_omit_1 23 rfl rfl)
theorem dX8_omit_46 : decode cX8_omit 46 = .ok (.iload 5, 2) := dk_21 5 (dk_at dksX8_omit_2 0 rfl rfl)
theorem dX8_omit_48 : decode cX8_omit 48 = .ok (.putfield 29, 3) := dk_181 0 29 (dk_at dksX8_omit_2 2 rfl rfl)
theorem dX8_omit_51 : decode cX8_omit 51 = .ok (.aload_n 0, 1) := dk_42 (dk_at dksX8_omit_2 5 rfl rfl)
theorem dX8_omit_52 : decode cX8_omit 52 = .ok (.iconst 0, 1) := dk_3 (dk_at dksX8_omit_2 6 rfl rfl)
theorem dX8_omit_53 : decode cX8_omit 53 = .ok (.iload_n 1, 1) := dk_27 (dk_at dksX8_omit_2 7 rfl rfl)
theorem dX8_omit_54 : decode cX8_omit 54 = .ok (.invokevirtual 185, 3) := dk_182 0 185 (dk_at dksX8_omit_2 8 rfl rfl)
theorem dX8_omit_57 : decode cX8_omit 57 = .ok (.istore 6, 2) := dk_54 6 (dk_at dksX8_omit_2 11 rfl rfl)
theorem dX8_omit_59 : decode cX8_omit 59 = .ok (.aload_n 0, 1) := dk_42 (dk_at dksX8_omit_2 13 rfl rfl)
theorem dX8_omit_60 : decode cX8_omit 60 = .ok (.bipush (-4), 2) := dk_16 252 (dk_at dksX8_omit_2 14 rfl rfl)
theorem dX8_omit_62 : decode cX8_omit 62 = .ok (.putfield 29, 3) := dk_181 0 29 (dk_at dksX8_omit_2 16 rfl rfl)
theorem dX8_omit_65 : decode cX8_omit 65 = .ok (.iload 6, 2) := dk_21 6 (dk_at dksX8_omit_2 19 rfl rfl)
theorem dX8_omit_67 : decode cX8_omit 67 = .ok (.iload_n 3, 1) := dk_29 (dk_at dksX8_omit_2 21 rfl rfl)
theorem dX8_omit_68 : decode cX8_omit 68 = .ok (.if_icmp .le 8, 3) := dk_164 0 8 (dk_at dksX8_omit_3 0 rfl rfl)
theorem dX8_omit_71 : decode cX8_omit 71 = .ok (.iload 5, 2) := dk_21 5 (dk_at dksX8_omit_3 3 rfl rfl)
theorem dX8_omit_73 : decode cX8_omit 73 = .ok (.goto 5, 3) := dk_167 0 5 (dk_at dksX8_omit_3 5 rfl rfl)
theorem dX8_omit_76 : decode cX8_omit 76 = .ok (.iload 4, 2) := dk_21 4 (dk_at dksX8_omit_3 8 rfl rfl)
theorem dX8_omit_78 : decode cX8_omit 78 = .ok (.istore 4, 2) := dk_54 4 (dk_at dksX8_omit_3 10 rfl rfl)
theorem dX8_omit_80 : decode cX8_omit 80 = .ok (.iload 6, 2) := dk_21 6 (dk_at dksX8_omit_3 12 rfl rfl)
theorem dX8_omit_82 : decode cX8_omit 82 = .ok (.iload_n 3, 1) := dk_29 (dk_at dksX8_omit_3 14 rfl rfl)
theorem dX8_omit_83 : decode cX8_omit 83 = .ok (.if_icmp .le 8, 3) := dk_164 0 8 (dk_at dksX8_omit_3 15 rfl rfl)
theorem dX8_omit_86 : decode cX8_omit 86 = .ok (.iload 6, 2) := dk_21 6 (dk_at dksX8_omit_3 18 rfl rfl)
theorem dX8_omit_88 : decode cX8_omit 88 = .ok (.goto 4, 3) := dk_167 0 4 (dk_at dksX8_omit_3 20 rfl rfl)
theorem dX8_omit_91 : decode cX8_omit 91 = .ok (.iload_n 3, 1) := dk_29 (dk_at dksX8_omit_3 23 rfl rfl)
theorem dX8_omit_92 : decode cX8_omit 92 = .ok (.istore_n 3, 1) := dk_62 (dk_at dksX8_omit_4 0 rfl rfl)
theorem dX8_omit_93 : decode cX8_omit 93 = .ok (.iinc 5 1, 3) := dk_132 5 1 (dk_at dksX8_omit_4 1 rfl rfl)
theorem dX8_omit_96 : decode cX8_omit 96 = .ok (.goto (-63), 3) := dk_167 255 193 (dk_at dksX8_omit_4 4 rfl rfl)
theorem dX8_omit_99 : decode cX8_omit 99 = .ok (.iload 4, 2) := dk_21 4 (dk_at dksX8_omit_4 7 rfl rfl)
theorem dX8_omit_101 : decode cX8_omit 101 = .ok (.bipush (-4), 2) := dk_16 252 (dk_at dksX8_omit_4 9 rfl rfl)
theorem dX8_omit_103 : decode cX8_omit 103 = .ok (.if_icmp .eq 7, 3) := dk_159 0 7 (dk_at dksX8_omit_4 11 rfl rfl)
theorem dX8_omit_106 : decode cX8_omit 106 = .ok (.iload_n 2, 1) := dk_28 (dk_at dksX8_omit_4 14 rfl rfl)
theorem dX8_omit_107 : decode cX8_omit 107 = .ok (.ifCond .ne 8, 3) := dk_154 0 8 (dk_at dksX8_omit_4 15 rfl rfl)
theorem dX8_omit_110 : decode cX8_omit 110 = .ok (.iload 4, 2) := dk_21 4 (dk_at dksX8_omit_4 18 rfl rfl)
theorem dX8_omit_112 : decode cX8_omit 112 = .ok (.goto 4, 3) := dk_167 0 4 (dk_at dksX8_omit_4 20 rfl rfl)
theorem dX8_omit_115 : decode cX8_omit 115 = .ok (.iload_n 3, 1) := dk_29 (dk_at dksX8_omit_4 23 rfl rfl)
theorem dX8_omit_116 : decode cX8_omit 116 = .ok (.ireturn, 1) := dk_172 (dk_at dksX8_omit_5 0 rfl rfl)
abbrev cX8_off : ByteArray := prog_12_method_51_code
def yX8_off : MethodName := ⟨RX8, "off", "(II)I"⟩
def dkwX8_off_5 : List UInt8 := [172]
abbrev dktX8_off_5 : List UInt8 := dkwX8_off_5 ++ []
def dkwX8_off_4 : List UInt8 := [62, 132, 5, 1, 167, 255, 193, 21, 4, 16, 252, 159, 0, 7, 28, 154, 0, 8, 21, 4, 167, 0, 4, 29]
abbrev dktX8_off_4 : List UInt8 := dkwX8_off_4 ++ dktX8_off_5
def dkwX8_off_3 : List UInt8 := [164, 0, 8, 21, 5, 167, 0, 5, 21, 4, 54, 4, 21, 6, 29, 164, 0, 8, 21, 6, 167, 0, 4, 29]
abbrev dktX8_off_3 : List UInt8 := dkwX8_off_3 ++ dktX8_off_4
def dkwX8_off_2 : List UInt8 := [21, 5, 181, 0, 25, 42, 3, 27, 182, 0, 185, 54, 6, 42, 16, 252, 181, 0, 25, 21, 6, 29]
abbrev dktX8_off_2 : List UInt8 := dkwX8_off_2 ++ dktX8_off_3
def dkwX8_off_1 : List UInt8 := [182, 0, 185, 62, 16, 252, 54, 4, 3, 54, 5, 21, 5, 42, 180, 0, 7, 16, 16, 46, 162, 0, 57, 42]
abbrev dktX8_off_1 : List UInt8 := dkwX8_off_1 ++ dktX8_off_2
def dkwX8_off_0 : List UInt8 := [27, 184, 0, 180, 153, 0, 13, 28, 133, 9, 10, 184, 0, 53, 154, 0, 5, 2, 172, 42, 3, 27]
abbrev dktX8_off_0 : List UInt8 := dkwX8_off_0 ++ dktX8_off_1
theorem dksX8_off_0 : cX8_off.data.toList.drop 0 = dktX8_off_0 := by decide +kernel
theorem dksX8_off_1 : cX8_off.data.toList.drop 22 = dktX8_off_1 := dk_seg dksX8_off_0 22 rfl rfl
theorem dksX8_off_2 : cX8_off.data.toList.drop 46 = dktX8_off_2 := dk_seg dksX8_off_1 24 rfl rfl
theorem dksX8_off_3 : cX8_off.data.toList.drop 68 = dktX8_off_3 := dk_seg dksX8_off_2 22 rfl rfl
theorem dksX8_off_4 : cX8_off.data.toList.drop 92 = dktX8_off_4 := dk_seg dksX8_off_3 24 rfl rfl
theorem dksX8_off_5 : cX8_off.data.toList.drop 116 = dktX8_off_5 := dk_seg dksX8_off_4 24 rfl rfl
theorem dX8_off_0 : decode cX8_off 0 = .ok (.iload_n 1, 1) := dk_27 (dk_at dksX8_off_0 0 rfl rfl)
theorem dX8_off_1 : decode cX8_off 1 = .ok (.invokestatic 180, 3) := dk_184 0 180 (dk_at dksX8_off_0 1 rfl rfl)
theorem dX8_off_4 : decode cX8_off 4 = .ok (.ifCond .eq 13, 3) := dk_153 0 13 (dk_at dksX8_off_0 4 rfl rfl)
theorem dX8_off_7 : decode cX8_off 7 = .ok (.iload_n 2, 1) := dk_28 (dk_at dksX8_off_0 7 rfl rfl)
theorem dX8_off_8 : decode cX8_off 8 = .ok (.i2l, 1) := dk_133 (dk_at dksX8_off_0 8 rfl rfl)
theorem dX8_off_9 : decode cX8_off 9 = .ok (.lconst 0, 1) := dk_9 (dk_at dksX8_off_0 9 rfl rfl)
theorem dX8_off_10 : decode cX8_off 10 = .ok (.lconst 1, 1) := dk_10 (dk_at dksX8_off_0 10 rfl rfl)
theorem dX8_off_11 : decode cX8_off 11 = .ok (.invokestatic 53, 3) := dk_184 0 53 (dk_at dksX8_off_0 11 rfl rfl)
theorem dX8_off_14 : decode cX8_off 14 = .ok (.ifCond .ne 5, 3) := dk_154 0 5 (dk_at dksX8_off_0 14 rfl rfl)
theorem dX8_off_17 : decode cX8_off 17 = .ok (.iconst (-1), 1) := dk_2 (dk_at dksX8_off_0 17 rfl rfl)
theorem dX8_off_18 : decode cX8_off 18 = .ok (.ireturn, 1) := dk_172 (dk_at dksX8_off_0 18 rfl rfl)
theorem dX8_off_19 : decode cX8_off 19 = .ok (.aload_n 0, 1) := dk_42 (dk_at dksX8_off_0 19 rfl rfl)
theorem dX8_off_20 : decode cX8_off 20 = .ok (.iconst 0, 1) := dk_3 (dk_at dksX8_off_0 20 rfl rfl)
theorem dX8_off_21 : decode cX8_off 21 = .ok (.iload_n 1, 1) := dk_27 (dk_at dksX8_off_0 21 rfl rfl)
theorem dX8_off_22 : decode cX8_off 22 = .ok (.invokevirtual 185, 3) := dk_182 0 185 (dk_at dksX8_off_1 0 rfl rfl)
theorem dX8_off_25 : decode cX8_off 25 = .ok (.istore_n 3, 1) := dk_62 (dk_at dksX8_off_1 3 rfl rfl)
theorem dX8_off_26 : decode cX8_off 26 = .ok (.bipush (-4), 2) := dk_16 252 (dk_at dksX8_off_1 4 rfl rfl)
theorem dX8_off_28 : decode cX8_off 28 = .ok (.istore 4, 2) := dk_54 4 (dk_at dksX8_off_1 6 rfl rfl)
theorem dX8_off_30 : decode cX8_off 30 = .ok (.iconst 0, 1) := dk_3 (dk_at dksX8_off_1 8 rfl rfl)
theorem dX8_off_31 : decode cX8_off 31 = .ok (.istore 5, 2) := dk_54 5 (dk_at dksX8_off_1 9 rfl rfl)
theorem dX8_off_33 : decode cX8_off 33 = .ok (.iload 5, 2) := dk_21 5 (dk_at dksX8_off_1 11 rfl rfl)
theorem dX8_off_35 : decode cX8_off 35 = .ok (.aload_n 0, 1) := dk_42 (dk_at dksX8_off_1 13 rfl rfl)
theorem dX8_off_36 : decode cX8_off 36 = .ok (.getfield 7, 3) := dk_180 0 7 (dk_at dksX8_off_1 14 rfl rfl)
theorem dX8_off_39 : decode cX8_off 39 = .ok (.bipush 16, 2) := dk_16 16 (dk_at dksX8_off_1 17 rfl rfl)
theorem dX8_off_41 : decode cX8_off 41 = .ok (.iaload, 1) := dk_46 (dk_at dksX8_off_1 19 rfl rfl)
theorem dX8_off_42 : decode cX8_off 42 = .ok (.if_icmp .ge 57, 3) := dk_162 0 57 (dk_at dksX8_off_1 20 rfl rfl)
theorem dX8_off_45 : decode cX8_off 45 = .ok (.aload_n 0, 1) := dk_42 (dk_at dksX8_off_1 23 rfl rfl)
theorem dX8_off_46 : decode cX8_off 46 = .ok (.iload 5, 2) := dk_21 5 (dk_at dksX8_off_2 0 rfl rfl)
theorem dX8_off_48 : decode cX8_off 48 = .ok (.putfield 25, 3) := dk_181 0 25 (dk_at dksX8_off_2 2 rfl rfl)
theorem dX8_off_51 : decode cX8_off 51 = .ok (.aload_n 0, 1) := dk_42 (dk_at dksX8_off_2 5 rfl rfl)
theorem dX8_off_52 : decode cX8_off 52 = .ok (.iconst 0, 1) := dk_3 (dk_at dksX8_off_2 6 rfl rfl)
theorem dX8_off_53 : decode cX8_off 53 = .ok (.iload_n 1, 1) := dk_27 (dk_at dksX8_off_2 7 rfl rfl)
theorem dX8_off_54 : decode cX8_off 54 = .ok (.invokevirtual 185, 3) := dk_182 0 185 (dk_at dksX8_off_2 8 rfl rfl)
theorem dX8_off_57 : decode cX8_off 57 = .ok (.istore 6, 2) := dk_54 6 (dk_at dksX8_off_2 11 rfl rfl)
theorem dX8_off_59 : decode cX8_off 59 = .ok (.aload_n 0, 1) := dk_42 (dk_at dksX8_off_2 13 rfl rfl)
theorem dX8_off_60 : decode cX8_off 60 = .ok (.bipush (-4), 2) := dk_16 252 (dk_at dksX8_off_2 14 rfl rfl)
theorem dX8_off_62 : decode cX8_off 62 = .ok (.putfield 25, 3) := dk_181 0 25 (dk_at dksX8_off_2 16 rfl rfl)
theorem dX8_off_65 : decode cX8_off 65 = .ok (.iload 6, 2) := dk_21 6 (dk_at dksX8_off_2 19 rfl rfl)
theorem dX8_off_67 : decode cX8_off 67 = .ok (.iload_n 3, 1) := dk_29 (dk_at dksX8_off_2 21 rfl rfl)
theorem dX8_off_68 : decode cX8_off 68 = .ok (.if_icmp .le 8, 3) := dk_164 0 8 (dk_at dksX8_off_3 0 rfl rfl)
theorem dX8_off_71 : decode cX8_off 71 = .ok (.iload 5, 2) := dk_21 5 (dk_at dksX8_off_3 3 rfl rfl)
theorem dX8_off_73 : decode cX8_off 73 = .ok (.goto 5, 3) := dk_167 0 5 (dk_at dksX8_off_3 5 rfl rfl)
theorem dX8_off_76 : decode cX8_off 76 = .ok (.iload 4, 2) := dk_21 4 (dk_at dksX8_off_3 8 rfl rfl)
theorem dX8_off_78 : decode cX8_off 78 = .ok (.istore 4, 2) := dk_54 4 (dk_at dksX8_off_3 10 rfl rfl)
theorem dX8_off_80 : decode cX8_off 80 = .ok (.iload 6, 2) := dk_21 6 (dk_at dksX8_off_3 12 rfl rfl)
theorem dX8_off_82 : decode cX8_off 82 = .ok (.iload_n 3, 1) := dk_29 (dk_at dksX8_off_3 14 rfl rfl)
theorem dX8_off_83 : decode cX8_off 83 = .ok (.if_icmp .le 8, 3) := dk_164 0 8 (dk_at dksX8_off_3 15 rfl rfl)
theorem dX8_off_86 : decode cX8_off 86 = .ok (.iload 6, 2) := dk_21 6 (dk_at dksX8_off_3 18 rfl rfl)
theorem dX8_off_88 : decode cX8_off 88 = .ok (.goto 4, 3) := dk_167 0 4 (dk_at dksX8_off_3 20 rfl rfl)
theorem dX8_off_91 : decode cX8_off 91 = .ok (.iload_n 3, 1) := dk_29 (dk_at dksX8_off_3 23 rfl rfl)
theorem dX8_off_92 : decode cX8_off 92 = .ok (.istore_n 3, 1) := dk_62 (dk_at dksX8_off_4 0 rfl rfl)
theorem dX8_off_93 : decode cX8_off 93 = .ok (.iinc 5 1, 3) := dk_132 5 1 (dk_at dksX8_off_4 1 rfl rfl)
theorem dX8_off_96 : decode cX8_off 96 = .ok (.goto (-63), 3) := dk_167 255 193 (dk_at dksX8_off_4 4 rfl rfl)
theorem dX8_off_99 : decode cX8_off 99 = .ok (.iload 4, 2) := dk_21 4 (dk_at dksX8_off_4 7 rfl rfl)
theorem dX8_off_101 : decode cX8_off 101 = .ok (.bipush (-4), 2) := dk_16 252 (dk_at dksX8_off_4 9 rfl rfl)
theorem dX8_off_103 : decode cX8_off 103 = .ok (.if_icmp .eq 7, 3) := dk_159 0 7 (dk_at dksX8_off_4 11 rfl rfl)
theorem dX8_off_106 : decode cX8_off 106 = .ok (.iload_n 2, 1) := dk_28 (dk_at dksX8_off_4 14 rfl rfl)
theorem dX8_off_107 : decode cX8_off 107 = .ok (.ifCond .ne 8, 3) := dk_154 0 8 (dk_at dksX8_off_4 15 rfl rfl)
theorem dX8_off_110 : decode cX8_off 110 = .ok (.iload 4, 2) := dk_21 4 (dk_at dksX8_off_4 18 rfl rfl)
theorem dX8_off_112 : decode cX8_off 112 = .ok (.goto 4, 3) := dk_167 0 4 (dk_at dksX8_off_4 20 rfl rfl)
theorem dX8_off_115 : decode cX8_off 115 = .ok (.iload_n 3, 1) := dk_29 (dk_at dksX8_off_4 23 rfl rfl)
theorem dX8_off_116 : decode cX8_off 116 = .ok (.ireturn, 1) := dk_172 (dk_at dksX8_off_5 0 rfl rfl)
abbrev cX8_luck : ByteArray := prog_12_method_54_code
def yX8_luck : MethodName := ⟨RX8, "luck", "(III)J"⟩
def dkwX8_luck_2 : List UInt8 := [173]
abbrev dktX8_luck_2 : List UInt8 := dkwX8_luck_2 ++ []
def dkwX8_luck_1 : List UInt8 := [29, 133, 9, 10, 184, 0, 53, 153, 0, 14, 42, 27, 28, 3, 29, 182, 0, 206, 167, 0, 6, 20, 0, 210]
abbrev dktX8_luck_1 : List UInt8 := dkwX8_luck_1 ++ dktX8_luck_2
def dkwX8_luck_0 : List UInt8 := [27, 133, 9, 20, 0, 198, 184, 0, 53, 153, 0, 36, 28, 133, 9, 20, 0, 204, 184, 0, 53, 153, 0, 24]
abbrev dktX8_luck_0 : List UInt8 := dkwX8_luck_0 ++ dktX8_luck_1
theorem dksX8_luck_0 : cX8_luck.data.toList.drop 0 = dktX8_luck_0 := by decide +kernel
theorem dksX8_luck_1 : cX8_luck.data.toList.drop 24 = dktX8_luck_1 := dk_seg dksX8_luck_0 24 rfl rfl
theorem dksX8_luck_2 : cX8_luck.data.toList.drop 48 = dktX8_luck_2 := dk_seg dksX8_luck_1 24 rfl rfl
theorem dX8_luck_0 : decode cX8_luck 0 = .ok (.iload_n 1, 1) := dk_27 (dk_at dksX8_luck_0 0 rfl rfl)
theorem dX8_luck_1 : decode cX8_luck 1 = .ok (.i2l, 1) := dk_133 (dk_at dksX8_luck_0 1 rfl rfl)
theorem dX8_luck_2 : decode cX8_luck 2 = .ok (.lconst 0, 1) := dk_9 (dk_at dksX8_luck_0 2 rfl rfl)
theorem dX8_luck_3 : decode cX8_luck 3 = .ok (.ldc2_w 198, 3) := dk_20 0 198 (dk_at dksX8_luck_0 3 rfl rfl)
theorem dX8_luck_6 : decode cX8_luck 6 = .ok (.invokestatic 53, 3) := dk_184 0 53 (dk_at dksX8_luck_0 6 rfl rfl)
theorem dX8_luck_9 : decode cX8_luck 9 = .ok (.ifCond .eq 36, 3) := dk_153 0 36 (dk_at dksX8_luck_0 9 rfl rfl)
theorem dX8_luck_12 : decode cX8_luck 12 = .ok (.iload_n 2, 1) := dk_28 (dk_at dksX8_luck_0 12 rfl rfl)
theorem dX8_luck_13 : decode cX8_luck 13 = .ok (.i2l, 1) := dk_133 (dk_at dksX8_luck_0 13 rfl rfl)
theorem dX8_luck_14 : decode cX8_luck 14 = .ok (.lconst 0, 1) := dk_9 (dk_at dksX8_luck_0 14 rfl rfl)
theorem dX8_luck_15 : decode cX8_luck 15 = .ok (.ldc2_w 204, 3) := dk_20 0 204 (dk_at dksX8_luck_0 15 rfl rfl)
theorem dX8_luck_18 : decode cX8_luck 18 = .ok (.invokestatic 53, 3) := dk_184 0 53 (dk_at dksX8_luck_0 18 rfl rfl)
theorem dX8_luck_21 : decode cX8_luck 21 = .ok (.ifCond .eq 24, 3) := dk_153 0 24 (dk_at dksX8_luck_0 21 rfl rfl)
theorem dX8_luck_24 : decode cX8_luck 24 = .ok (.iload_n 3, 1) := dk_29 (dk_at dksX8_luck_1 0 rfl rfl)
theorem dX8_luck_25 : decode cX8_luck 25 = .ok (.i2l, 1) := dk_133 (dk_at dksX8_luck_1 1 rfl rfl)
theorem dX8_luck_26 : decode cX8_luck 26 = .ok (.lconst 0, 1) := dk_9 (dk_at dksX8_luck_1 2 rfl rfl)
theorem dX8_luck_27 : decode cX8_luck 27 = .ok (.lconst 1, 1) := dk_10 (dk_at dksX8_luck_1 3 rfl rfl)
theorem dX8_luck_28 : decode cX8_luck 28 = .ok (.invokestatic 53, 3) := dk_184 0 53 (dk_at dksX8_luck_1 4 rfl rfl)
theorem dX8_luck_31 : decode cX8_luck 31 = .ok (.ifCond .eq 14, 3) := dk_153 0 14 (dk_at dksX8_luck_1 7 rfl rfl)
theorem dX8_luck_34 : decode cX8_luck 34 = .ok (.aload_n 0, 1) := dk_42 (dk_at dksX8_luck_1 10 rfl rfl)
theorem dX8_luck_35 : decode cX8_luck 35 = .ok (.iload_n 1, 1) := dk_27 (dk_at dksX8_luck_1 11 rfl rfl)
theorem dX8_luck_36 : decode cX8_luck 36 = .ok (.iload_n 2, 1) := dk_28 (dk_at dksX8_luck_1 12 rfl rfl)
theorem dX8_luck_37 : decode cX8_luck 37 = .ok (.iconst 0, 1) := dk_3 (dk_at dksX8_luck_1 13 rfl rfl)
theorem dX8_luck_38 : decode cX8_luck 38 = .ok (.iload_n 3, 1) := dk_29 (dk_at dksX8_luck_1 14 rfl rfl)
theorem dX8_luck_39 : decode cX8_luck 39 = .ok (.invokevirtual 206, 3) := dk_182 0 206 (dk_at dksX8_luck_1 15 rfl rfl)
theorem dX8_luck_42 : decode cX8_luck 42 = .ok (.goto 6, 3) := dk_167 0 6 (dk_at dksX8_luck_1 18 rfl rfl)
theorem dX8_luck_45 : decode cX8_luck 45 = .ok (.ldc2_w 210, 3) := dk_20 0 210 (dk_at dksX8_luck_1 21 rfl rfl)
theorem dX8_luck_48 : decode cX8_luck 48 = .ok (.lreturn, 1) := dk_173 (dk_at dksX8_luck_2 0 rfl rfl)
abbrev cX8_byFails : ByteArray := prog_12_method_53_code
def yX8_byFails : MethodName := ⟨RX8, "byFails", "(IIZI)J"⟩
def dkwX8_byFails_7 : List UInt8 := [167, 255, 128, 22, 5, 22, 7, 21, 4, 184, 0, 200, 173]
abbrev dktX8_byFails_7 : List UInt8 := dkwX8_byFails_7 ++ []
def dkwX8_byFails_6 : List UInt8 := [167, 0, 15, 42, 182, 0, 188, 154, 0, 7, 4, 167, 0, 4, 3, 133, 105, 97, 55, 5, 132, 9, 1]
abbrev dktX8_byFails_6 : List UInt8 := dkwX8_byFails_6 ++ dktX8_byFails_7
def dkwX8_byFails_5 : List UInt8 := [22, 10, 29, 153, 0, 22, 42, 180, 0, 7, 17, 0, 193, 46, 42, 180, 0, 7, 16, 37, 46, 100]
abbrev dktX8_byFails_5 : List UInt8 := dkwX8_byFails_5 ++ dktX8_byFails_6
def dkwX8_byFails_4 : List UInt8 := [27, 100, 133, 105, 55, 10, 42, 17, 0, 156, 21, 13, 182, 0, 172, 132, 12, 1, 167, 255, 200, 22, 5]
abbrev dktX8_byFails_4 : List UInt8 := dkwX8_byFails_4 ++ dktX8_byFails_5
def dkwX8_byFails_3 : List UInt8 := [160, 0, 7, 4, 167, 0, 4, 3, 54, 13, 22, 10, 21, 13, 153, 0, 8, 27, 133, 167, 0, 8, 16, 10]
abbrev dktX8_byFails_3 : List UInt8 := dkwX8_byFails_3 ++ dktX8_byFails_4
def dkwX8_byFails_2 : List UInt8 := [17, 0, 156, 182, 0, 176, 3, 54, 12, 21, 12, 28, 162, 0, 56, 21, 9, 21, 12, 122, 4, 126, 4]
abbrev dktX8_byFails_2 : List UInt8 := dkwX8_byFails_2 ++ dktX8_byFails_3
def dkwX8_byFails_1 : List UInt8 := [132, 9, 1, 167, 255, 239, 3, 54, 9, 21, 9, 4, 28, 120, 162, 0, 126, 10, 55, 10, 42, 3]
abbrev dktX8_byFails_1 : List UInt8 := dkwX8_byFails_1 ++ dktX8_byFails_2
def dkwX8_byFails_0 : List UInt8 := [9, 55, 5, 10, 55, 7, 3, 54, 9, 21, 9, 28, 162, 0, 17, 22, 7, 20, 0, 198, 105, 55, 7]
abbrev dktX8_byFails_0 : List UInt8 := dkwX8_byFails_0 ++ dktX8_byFails_1
theorem dksX8_byFails_0 : cX8_byFails.data.toList.drop 0 = dktX8_byFails_0 := by decide +kernel
theorem dksX8_byFails_1 : cX8_byFails.data.toList.drop 23 = dktX8_byFails_1 := dk_seg dksX8_byFails_0 23 rfl rfl
theorem dksX8_byFails_2 : cX8_byFails.data.toList.drop 45 = dktX8_byFails_2 := dk_seg dksX8_byFails_1 22 rfl rfl
theorem dksX8_byFails_3 : cX8_byFails.data.toList.drop 68 = dktX8_byFails_3 := dk_seg dksX8_byFails_2 23 rfl rfl
theorem dksX8_byFails_4 : cX8_byFails.data.toList.drop 92 = dktX8_byFails_4 := dk_seg dksX8_byFails_3 24 rfl rfl
theorem dksX8_byFails_5 : cX8_byFails.data.toList.drop 115 = dktX8_byFails_5 := dk_seg dksX8_byFails_4 23 rfl rfl
theorem dksX8_byFails_6 : cX8_byFails.data.toList.drop 137 = dktX8_byFails_6 := dk_seg dksX8_byFails_5 22 rfl rfl
theorem dksX8_byFails_7 : cX8_byFails.data.toList.drop 160 = dktX8_byFails_7 := dk_seg dksX8_byFails_6 23 rfl rfl
theorem dX8_byFails_0 : decode cX8_byFails 0 = .ok (.lconst 0, 1) := dk_9 (dk_at dksX8_byFails_0 0 rfl rfl)
theorem dX8_byFails_1 : decode cX8_byFails 1 = .ok (.lstore 5, 2) := dk_55 5 (dk_at dksX8_byFails_0 1 rfl rfl)
theorem dX8_byFails_3 : decode cX8_byFails 3 = .ok (.lconst 1, 1) := dk_10 (dk_at dksX8_byFails_0 3 rfl rfl)
theorem dX8_byFails_4 : decode cX8_byFails 4 = .ok (.lstore 7, 2) := dk_55 7 (dk_at dksX8_byFails_0 4 rfl rfl)
theorem dX8_byFails_6 : decode cX8_byFails 6 = .ok (.iconst 0, 1) := dk_3 (dk_at dksX8_byFails_0 6 rfl rfl)
theorem dX8_byFails_7 : decode cX8_byFails 7 = .ok (.istore 9, 2) := dk_54 9 (dk_at dksX8_byFails_0 7 rfl rfl)
theorem dX8_byFails_9 : decode cX8_byFails 9 = .ok (.iload 9, 2) := dk_21 9 (dk_at dksX8_byFails_0 9 rfl rfl)
theorem dX8_byFails_11 : decode cX8_byFails 11 = .ok (.iload_n 2, 1) := dk_28 (dk_at dksX8_byFails_0 11 rfl rfl)
theorem dX8_byFails_12 : decode cX8_byFails 12 = .ok (.if_icmp .ge 17, 3) := dk_162 0 17 (dk_at dksX8_byFails_0 12 rfl rfl)
theorem dX8_byFails_15 : decode cX8_byFails 15 = .ok (.lload 7, 2) := dk_22 7 (dk_at dksX8_byFails_0 15 rfl rfl)
theorem dX8_byFails_17 : decode cX8_byFails 17 = .ok (.ldc2_w 198, 3) := dk_20 0 198 (dk_at dksX8_byFails_0 17 rfl rfl)
theorem dX8_byFails_20 : decode cX8_byFails 20 = .ok (.lmul, 1) := dk_105 (dk_at dksX8_byFails_0 20 rfl rfl)
theorem dX8_byFails_21 : decode cX8_byFails 21 = .ok (.lstore 7, 2) := dk_55 7 (dk_at dksX8_byFails_0 21 rfl rfl)
theorem dX8_byFails_23 : decode cX8_byFails 23 = .ok (.iinc 9 1, 3) := dk_132 9 1 (dk_at dksX8_byFails_1 0 rfl rfl)
theorem dX8_byFails_26 : decode cX8_byFails 26 = .ok (.goto (-17), 3) := dk_167 255 239 (dk_at dksX8_byFails_1 3 rfl rfl)
theorem dX8_byFails_29 : decode cX8_byFails 29 = .ok (.iconst 0, 1) := dk_3 (dk_at dksX8_byFails_1 6 rfl rfl)
theorem dX8_byFails_30 : decode cX8_byFails 30 = .ok (.istore 9, 2) := dk_54 9 (dk_at dksX8_byFails_1 7 rfl rfl)
theorem dX8_byFails_32 : decode cX8_byFails 32 = .ok (.iload 9, 2) := dk_21 9 (dk_at dksX8_byFails_1 9 rfl rfl)
theorem dX8_byFails_34 : decode cX8_byFails 34 = .ok (.iconst 1, 1) := dk_4 (dk_at dksX8_byFails_1 11 rfl rfl)
theorem dX8_byFails_35 : decode cX8_byFails 35 = .ok (.iload_n 2, 1) := dk_28 (dk_at dksX8_byFails_1 12 rfl rfl)
theorem dX8_byFails_36 : decode cX8_byFails 36 = .ok (.ishl, 1) := dk_120 (dk_at dksX8_byFails_1 13 rfl rfl)
theorem dX8_byFails_37 : decode cX8_byFails 37 = .ok (.if_icmp .ge 126, 3) := dk_162 0 126 (dk_at dksX8_byFails_1 14 rfl rfl)
theorem dX8_byFails_40 : decode cX8_byFails 40 = .ok (.lconst 1, 1) := dk_10 (dk_at dksX8_byFails_1 17 rfl rfl)
theorem dX8_byFails_41 : decode cX8_byFails 41 = .ok (.lstore 10, 2) := dk_55 10 (dk_at dksX8_byFails_1 18 rfl rfl)
theorem dX8_byFails_43 : decode cX8_byFails 43 = .ok (.aload_n 0, 1) := dk_42 (dk_at dksX8_byFails_1 20 rfl rfl)
theorem dX8_byFails_44 : decode cX8_byFails 44 = .ok (.iconst 0, 1) := dk_3 (dk_at dksX8_byFails_1 21 rfl rfl)
theorem dX8_byFails_45 : decode cX8_byFails 45 = .ok (.sipush 156, 3) := dk_17 0 156 (dk_at dksX8_byFails_2 0 rfl rfl)
theorem dX8_byFails_48 : decode cX8_byFails 48 = .ok (.invokevirtual 176, 3) := dk_182 0 176 (dk_at dksX8_byFails_2 3 rfl rfl)
theorem dX8_byFails_51 : decode cX8_byFails 51 = .ok (.iconst 0, 1) := dk_3 (dk_at dksX8_byFails_2 6 rfl rfl)
theorem dX8_byFails_52 : decode cX8_byFails 52 = .ok (.istore 12, 2) := dk_54 12 (dk_at dksX8_byFails_2 7 rfl rfl)
theorem dX8_byFails_54 : decode cX8_byFails 54 = .ok (.iload 12, 2) := dk_21 12 (dk_at dksX8_byFails_2 9 rfl rfl)
theorem dX8_byFails_56 : decode cX8_byFails 56 = .ok (.iload_n 2, 1) := dk_28 (dk_at dksX8_byFails_2 11 rfl rfl)
theorem dX8_byFails_57 : decode cX8_byFails 57 = .ok (.if_icmp .ge 56, 3) := dk_162 0 56 (dk_at dksX8_byFails_2 12 rfl rfl)
theorem dX8_byFails_60 : decode cX8_byFails 60 = .ok (.iload 9, 2) := dk_21 9 (dk_at dksX8_byFails_2 15 rfl rfl)
theorem dX8_byFails_62 : decode cX8_byFails 62 = .ok (.iload 12, 2) := dk_21 12 (dk_at dksX8_byFails_2 17 rfl rfl)
theorem dX8_byFails_64 : decode cX8_byFails 64 = .ok (.ishr, 1) := dk_122 (dk_at dksX8_byFails_2 19 rfl rfl)
theorem dX8_byFails_65 : decode cX8_byFails 65 = .ok (.iconst 1, 1) := dk_4 (dk_at dksX8_byFails_2 20 rfl rfl)
theorem dX8_byFails_66 : decode cX8_byFails 66 = .ok (.iand, 1) := dk_126 (dk_at dksX8_byFails_2 21 rfl rfl)
theorem dX8_byFails_67 : decode cX8_byFails 67 = .ok (.iconst 1, 1) := dk_4 (dk_at dksX8_byFails_2 22 rfl rfl)
theorem dX8_byFails_68 : decode cX8_byFails 68 = .ok (.if_icmp .ne 7, 3) := dk_160 0 7 (dk_at dksX8_byFails_3 0 rfl rfl)
theorem dX8_byFails_71 : decode cX8_byFails 71 = .ok (.iconst 1, 1) := dk_4 (dk_at dksX8_byFails_3 3 rfl rfl)
theorem dX8_byFails_72 : decode cX8_byFails 72 = .ok (.goto 4, 3) := dk_167 0 4 (dk_at dksX8_byFails_3 4 rfl rfl)
theorem dX8_byFails_75 : decode cX8_byFails 75 = .ok (.iconst 0, 1) := dk_3 (dk_at dksX8_byFails_3 7 rfl rfl)
theorem dX8_byFails_76 : decode cX8_byFails 76 = .ok (.istore 13, 2) := dk_54 13 (dk_at dksX8_byFails_3 8 rfl rfl)
theorem dX8_byFails_78 : decode cX8_byFails 78 = .ok (.lload 10, 2) := dk_22 10 (dk_at dksX8_byFails_3 10 rfl rfl)
theorem dX8_byFails_80 : decode cX8_byFails 80 = .ok (.iload 13, 2) := dk_21 13 (dk_at dksX8_byFails_3 12 rfl rfl)
theorem dX8_byFails_82 : decode cX8_byFails 82 = .ok (.ifCond .eq 8, 3) := dk_153 0 8 (dk_at dksX8_byFails_3 14 rfl rfl)
theorem dX8_byFails_85 : decode cX8_byFails 85 = .ok (.iload_n 1, 1) := dk_27 (dk_at dksX8_byFails_3 17 rfl rfl)
theorem dX8_byFails_86 : decode cX8_byFails 86 = .ok (.i2l, 1) := dk_133 (dk_at dksX8_byFails_3 18 rfl rfl)
theorem dX8_byFails_87 : decode cX8_byFails 87 = .ok (.goto 8, 3) := dk_167 0 8 (dk_at dksX8_byFails_3 19 rfl rfl)
theorem dX8_byFails_90 : decode cX8_byFails 90 = .ok (.bipush 10, 2) := dk_16 10 (dk_at dksX8_byFails_3 22 rfl rfl)
theorem dX8_byFails_92 : decode cX8_byFails 92 = .ok (.iload_n 1, 1) := dk_27 (dk_at dksX8_byFails_4 0 rfl rfl)
theorem dX8_byFails_93 : decode cX8_byFails 93 = .ok (.isub, 1) := dk_100 (dk_at dksX8_byFails_4 1 rfl rfl)
theorem dX8_byFails_94 : decode cX8_byFails 94 = .ok (.i2l, 1) := dk_133 (dk_at dksX8_byFails_4 2 rfl rfl)
theorem dX8_byFails_95 : decode cX8_byFails 95 = .ok (.lmul, 1) := dk_105 (dk_at dksX8_byFails_4 3 rfl rfl)
theorem dX8_byFails_96 : decode cX8_byFails 96 = .ok (.lstore 10, 2) := dk_55 10 (dk_at dksX8_byFails_4 4 rfl rfl)
theorem dX8_byFails_98 : decode cX8_byFails 98 = .ok (.aload_n 0, 1) := dk_42 (dk_at dksX8_byFails_4 6 rfl rfl)
theorem dX8_byFails_99 : decode cX8_byFails 99 = .ok (.sipush 156, 3) := dk_17 0 156 (dk_at dksX8_byFails_4 7 rfl rfl)
theorem dX8_byFails_102 : decode cX8_byFails 102 = .ok (.iload 13, 2) := dk_21 13 (dk_at dksX8_byFails_4 10 rfl rfl)
theorem dX8_byFails_104 : decode cX8_byFails 104 = .ok (.invokevirtual 172, 3) := dk_182 0 172 (dk_at dksX8_byFails_4 12 rfl rfl)
theorem dX8_byFails_107 : decode cX8_byFails 107 = .ok (.iinc 12 1, 3) := dk_132 12 1 (dk_at dksX8_byFails_4 15 rfl rfl)
theorem dX8_byFails_110 : decode cX8_byFails 110 = .ok (.goto (-56), 3) := dk_167 255 200 (dk_at dksX8_byFails_4 18 rfl rfl)
theorem dX8_byFails_113 : decode cX8_byFails 113 = .ok (.lload 5, 2) := dk_22 5 (dk_at dksX8_byFails_4 21 rfl rfl)
theorem dX8_byFails_115 : decode cX8_byFails 115 = .ok (.lload 10, 2) := dk_22 10 (dk_at dksX8_byFails_5 0 rfl rfl)
theorem dX8_byFails_117 : decode cX8_byFails 117 = .ok (.iload_n 3, 1) := dk_29 (dk_at dksX8_byFails_5 2 rfl rfl)
theorem dX8_byFails_118 : decode cX8_byFails 118 = .ok (.ifCond .eq 22, 3) := dk_153 0 22 (dk_at dksX8_byFails_5 3 rfl rfl)
theorem dX8_byFails_121 : decode cX8_byFails 121 = .ok (.aload_n 0, 1) := dk_42 (dk_at dksX8_byFails_5 6 rfl rfl)
theorem dX8_byFails_122 : decode cX8_byFails 122 = .ok (.getfield 7, 3) := dk_180 0 7 (dk_at dksX8_byFails_5 7 rfl rfl)
theorem dX8_byFails_125 : decode cX8_byFails 125 = .ok (.sipush 193, 3) := dk_17 0 193 (dk_at dksX8_byFails_5 10 rfl rfl)
theorem dX8_byFails_128 : decode cX8_byFails 128 = .ok (.iaload, 1) := dk_46 (dk_at dksX8_byFails_5 13 rfl rfl)
theorem dX8_byFails_129 : decode cX8_byFails 129 = .ok (.aload_n 0, 1) := dk_42 (dk_at dksX8_byFails_5 14 rfl rfl)
theorem dX8_byFails_130 : decode cX8_byFails 130 = .ok (.getfield 7, 3) := dk_180 0 7 (dk_at dksX8_byFails_5 15 rfl rfl)
theorem dX8_byFails_133 : decode cX8_byFails 133 = .ok (.bipush 37, 2) := dk_16 37 (dk_at dksX8_byFails_5 18 rfl rfl)
theorem dX8_byFails_135 : decode cX8_byFails 135 = .ok (.iaload, 1) := dk_46 (dk_at dksX8_byFails_5 20 rfl rfl)
theorem dX8_byFails_136 : decode cX8_byFails 136 = .ok (.isub, 1) := dk_100 (dk_at dksX8_byFails_5 21 rfl rfl)
theorem dX8_byFails_137 : decode cX8_byFails 137 = .ok (.goto 15, 3) := dk_167 0 15 (dk_at dksX8_byFails_6 0 rfl rfl)
theorem dX8_byFails_140 : decode cX8_byFails 140 = .ok (.aload_n 0, 1) := dk_42 (dk_at dksX8_byFails_6 3 rfl rfl)
theorem dX8_byFails_141 : decode cX8_byFails 141 = .ok (.invokevirtual 188, 3) := dk_182 0 188 (dk_at dksX8_byFails_6 4 rfl rfl)
theorem dX8_byFails_144 : decode cX8_byFails 144 = .ok (.ifCond .ne 7, 3) := dk_154 0 7 (dk_at dksX8_byFails_6 7 rfl rfl)
theorem dX8_byFails_147 : decode cX8_byFails 147 = .ok (.iconst 1, 1) := dk_4 (dk_at dksX8_byFails_6 10 rfl rfl)
theorem dX8_byFails_148 : decode cX8_byFails 148 = .ok (.goto 4, 3) := dk_167 0 4 (dk_at dksX8_byFails_6 11 rfl rfl)
theorem dX8_byFails_151 : decode cX8_byFails 151 = .ok (.iconst 0, 1) := dk_3 (dk_at dksX8_byFails_6 14 rfl rfl)
theorem dX8_byFails_152 : decode cX8_byFails 152 = .ok (.i2l, 1) := dk_133 (dk_at dksX8_byFails_6 15 rfl rfl)
theorem dX8_byFails_153 : decode cX8_byFails 153 = .ok (.lmul, 1) := dk_105 (dk_at dksX8_byFails_6 16 rfl rfl)
theorem dX8_byFails_154 : decode cX8_byFails 154 = .ok (.ladd, 1) := dk_97 (dk_at dksX8_byFails_6 17 rfl rfl)
theorem dX8_byFails_155 : decode cX8_byFails 155 = .ok (.lstore 5, 2) := dk_55 5 (dk_at dksX8_byFails_6 18 rfl rfl)
theorem dX8_byFails_157 : decode cX8_byFails 157 = .ok (.iinc 9 1, 3) := dk_132 9 1 (dk_at dksX8_byFails_6 20 rfl rfl)
theorem dX8_byFails_160 : decode cX8_byFails 160 = .ok (.goto (-128), 3) := dk_167 255 128 (dk_at dksX8_byFails_7 0 rfl rfl)
theorem dX8_byFails_163 : decode cX8_byFails 163 = .ok (.lload 5, 2) := dk_22 5 (dk_at dksX8_byFails_7 3 rfl rfl)
theorem dX8_byFails_165 : decode cX8_byFails 165 = .ok (.lload 7, 2) := dk_22 7 (dk_at dksX8_byFails_7 5 rfl rfl)
theorem dX8_byFails_167 : decode cX8_byFails 167 = .ok (.iload 4, 2) := dk_21 4 (dk_at dksX8_byFails_7 7 rfl rfl)
theorem dX8_byFails_169 : decode cX8_byFails 169 = .ok (.invokestatic 200, 3) := dk_184 0 200 (dk_at dksX8_byFails_7 9 rfl rfl)
theorem dX8_byFails_172 : decode cX8_byFails 172 = .ok (.lreturn, 1) := dk_173 (dk_at dksX8_byFails_7 12 rfl rfl)
abbrev cX8_lowest : ByteArray := prog_12_method_52_code
def yX8_lowest : MethodName := ⟨RX8, "lowest", "(JJI)J"⟩
def dkwX8_lowest_1 : List UInt8 := [22, 9, 55, 7, 167, 255, 234, 21, 4, 154, 0, 7, 30, 167, 0, 4, 32, 22, 5, 109, 173]
abbrev dktX8_lowest_1 : List UInt8 := dkwX8_lowest_1 ++ []
def dkwX8_lowest_0 : List UInt8 := [30, 55, 5, 32, 55, 7, 22, 7, 9, 148, 153, 0, 21, 22, 5, 22, 7, 113, 55, 9, 22, 7, 55, 5]
abbrev dktX8_lowest_0 : List UInt8 := dkwX8_lowest_0 ++ dktX8_lowest_1
theorem dksX8_lowest_0 : cX8_lowest.data.toList.drop 0 = dktX8_lowest_0 := by decide +kernel
theorem dksX8_lowest_1 : cX8_lowest.data.toList.drop 24 = dktX8_lowest_1 := dk_seg dksX8_lowest_0 24 rfl rfl
theorem dX8_lowest_0 : decode cX8_lowest 0 = .ok (.lload_n 0, 1) := dk_30 (dk_at dksX8_lowest_0 0 rfl rfl)
theorem dX8_lowest_1 : decode cX8_lowest 1 = .ok (.lstore 5, 2) := dk_55 5 (dk_at dksX8_lowest_0 1 rfl rfl)
theorem dX8_lowest_3 : decode cX8_lowest 3 = .ok (.lload_n 2, 1) := dk_32 (dk_at dksX8_lowest_0 3 rfl rfl)
theorem dX8_lowest_4 : decode cX8_lowest 4 = .ok (.lstore 7, 2) := dk_55 7 (dk_at dksX8_lowest_0 4 rfl rfl)
theorem dX8_lowest_6 : decode cX8_lowest 6 = .ok (.lload 7, 2) := dk_22 7 (dk_at dksX8_lowest_0 6 rfl rfl)
theorem dX8_lowest_8 : decode cX8_lowest 8 = .ok (.lconst 0, 1) := dk_9 (dk_at dksX8_lowest_0 8 rfl rfl)
theorem dX8_lowest_9 : decode cX8_lowest 9 = .ok (.lcmp, 1) := dk_148 (dk_at dksX8_lowest_0 9 rfl rfl)
theorem dX8_lowest_10 : decode cX8_lowest 10 = .ok (.ifCond .eq 21, 3) := dk_153 0 21 (dk_at dksX8_lowest_0 10 rfl rfl)
theorem dX8_lowest_13 : decode cX8_lowest 13 = .ok (.lload 5, 2) := dk_22 5 (dk_at dksX8_lowest_0 13 rfl rfl)
theorem dX8_lowest_15 : decode cX8_lowest 15 = .ok (.lload 7, 2) := dk_22 7 (dk_at dksX8_lowest_0 15 rfl rfl)
theorem dX8_lowest_17 : decode cX8_lowest 17 = .ok (.lrem, 1) := dk_113 (dk_at dksX8_lowest_0 17 rfl rfl)
theorem dX8_lowest_18 : decode cX8_lowest 18 = .ok (.lstore 9, 2) := dk_55 9 (dk_at dksX8_lowest_0 18 rfl rfl)
theorem dX8_lowest_20 : decode cX8_lowest 20 = .ok (.lload 7, 2) := dk_22 7 (dk_at dksX8_lowest_0 20 rfl rfl)
theorem dX8_lowest_22 : decode cX8_lowest 22 = .ok (.lstore 5, 2) := dk_55 5 (dk_at dksX8_lowest_0 22 rfl rfl)
theorem dX8_lowest_24 : decode cX8_lowest 24 = .ok (.lload 9, 2) := dk_22 9 (dk_at dksX8_lowest_1 0 rfl rfl)
theorem dX8_lowest_26 : decode cX8_lowest 26 = .ok (.lstore 7, 2) := dk_55 7 (dk_at dksX8_lowest_1 2 rfl rfl)
theorem dX8_lowest_28 : decode cX8_lowest 28 = .ok (.goto (-22), 3) := dk_167 255 234 (dk_at dksX8_lowest_1 4 rfl rfl)
theorem dX8_lowest_31 : decode cX8_lowest 31 = .ok (.iload 4, 2) := dk_21 4 (dk_at dksX8_lowest_1 7 rfl rfl)
theorem dX8_lowest_33 : decode cX8_lowest 33 = .ok (.ifCond .ne 7, 3) := dk_154 0 7 (dk_at dksX8_lowest_1 9 rfl rfl)
theorem dX8_lowest_36 : decode cX8_lowest 36 = .ok (.lload_n 0, 1) := dk_30 (dk_at dksX8_lowest_1 12 rfl rfl)
theorem dX8_lowest_37 : decode cX8_lowest 37 = .ok (.goto 4, 3) := dk_167 0 4 (dk_at dksX8_lowest_1 13 rfl rfl)
theorem dX8_lowest_40 : decode cX8_lowest 40 = .ok (.lload_n 2, 1) := dk_32 (dk_at dksX8_lowest_1 16 rfl rfl)
theorem dX8_lowest_41 : decode cX8_lowest 41 = .ok (.lload 5, 2) := dk_22 5 (dk_at dksX8_lowest_1 17 rfl rfl)
theorem dX8_lowest_43 : decode cX8_lowest 43 = .ok (.ldiv, 1) := dk_109 (dk_at dksX8_lowest_1 19 rfl rfl)
theorem dX8_lowest_44 : decode cX8_lowest 44 = .ok (.lreturn, 1) := dk_173 (dk_at dksX8_lowest_1 20 rfl rfl)
abbrev cX8_mean : ByteArray := prog_12_method_55_code
def yX8_mean : MethodName := ⟨RX8, "mean", "(III)J"⟩
def dkwX8_mean_2 : List UInt8 := [173]
abbrev dktX8_mean_2 : List UInt8 := dkwX8_mean_2 ++ []
def dkwX8_mean_1 : List UInt8 := [29, 133, 9, 10, 184, 0, 53, 153, 0, 14, 42, 27, 28, 4, 29, 182, 0, 206, 167, 0, 6, 20, 0, 210]
abbrev dktX8_mean_1 : List UInt8 := dkwX8_mean_1 ++ dktX8_mean_2
def dkwX8_mean_0 : List UInt8 := [27, 133, 9, 20, 0, 198, 184, 0, 53, 153, 0, 36, 28, 133, 9, 20, 0, 204, 184, 0, 53, 153, 0, 24]
abbrev dktX8_mean_0 : List UInt8 := dkwX8_mean_0 ++ dktX8_mean_1
theorem dksX8_mean_0 : cX8_mean.data.toList.drop 0 = dktX8_mean_0 := by decide +kernel
theorem dksX8_mean_1 : cX8_mean.data.toList.drop 24 = dktX8_mean_1 := dk_seg dksX8_mean_0 24 rfl rfl
theorem dksX8_mean_2 : cX8_mean.data.toList.drop 48 = dktX8_mean_2 := dk_seg dksX8_mean_1 24 rfl rfl
theorem dX8_mean_0 : decode cX8_mean 0 = .ok (.iload_n 1, 1) := dk_27 (dk_at dksX8_mean_0 0 rfl rfl)
theorem dX8_mean_1 : decode cX8_mean 1 = .ok (.i2l, 1) := dk_133 (dk_at dksX8_mean_0 1 rfl rfl)
theorem dX8_mean_2 : decode cX8_mean 2 = .ok (.lconst 0, 1) := dk_9 (dk_at dksX8_mean_0 2 rfl rfl)
theorem dX8_mean_3 : decode cX8_mean 3 = .ok (.ldc2_w 198, 3) := dk_20 0 198 (dk_at dksX8_mean_0 3 rfl rfl)
theorem dX8_mean_6 : decode cX8_mean 6 = .ok (.invokestatic 53, 3) := dk_184 0 53 (dk_at dksX8_mean_0 6 rfl rfl)
theorem dX8_mean_9 : decode cX8_mean 9 = .ok (.ifCond .eq 36, 3) := dk_153 0 36 (dk_at dksX8_mean_0 9 rfl rfl)
theorem dX8_mean_12 : decode cX8_mean 12 = .ok (.iload_n 2, 1) := dk_28 (dk_at dksX8_mean_0 12 rfl rfl)
theorem dX8_mean_13 : decode cX8_mean 13 = .ok (.i2l, 1) := dk_133 (dk_at dksX8_mean_0 13 rfl rfl)
theorem dX8_mean_14 : decode cX8_mean 14 = .ok (.lconst 0, 1) := dk_9 (dk_at dksX8_mean_0 14 rfl rfl)
theorem dX8_mean_15 : decode cX8_mean 15 = .ok (.ldc2_w 204, 3) := dk_20 0 204 (dk_at dksX8_mean_0 15 rfl rfl)
theorem dX8_mean_18 : decode cX8_mean 18 = .ok (.invokestatic 53, 3) := dk_184 0 53 (dk_at dksX8_mean_0 18 rfl rfl)
theorem dX8_mean_21 : decode cX8_mean 21 = .ok (.ifCond .eq 24, 3) := dk_153 0 24 (dk_at dksX8_mean_0 21 rfl rfl)
theorem dX8_mean_24 : decode cX8_mean 24 = .ok (.iload_n 3, 1) := dk_29 (dk_at dksX8_mean_1 0 rfl rfl)
theorem dX8_mean_25 : decode cX8_mean 25 = .ok (.i2l, 1) := dk_133 (dk_at dksX8_mean_1 1 rfl rfl)
theorem dX8_mean_26 : decode cX8_mean 26 = .ok (.lconst 0, 1) := dk_9 (dk_at dksX8_mean_1 2 rfl rfl)
theorem dX8_mean_27 : decode cX8_mean 27 = .ok (.lconst 1, 1) := dk_10 (dk_at dksX8_mean_1 3 rfl rfl)
theorem dX8_mean_28 : decode cX8_mean 28 = .ok (.invokestatic 53, 3) := dk_184 0 53 (dk_at dksX8_mean_1 4 rfl rfl)
theorem dX8_mean_31 : decode cX8_mean 31 = .ok (.ifCond .eq 14, 3) := dk_153 0 14 (dk_at dksX8_mean_1 7 rfl rfl)
theorem dX8_mean_34 : decode cX8_mean 34 = .ok (.aload_n 0, 1) := dk_42 (dk_at dksX8_mean_1 10 rfl rfl)
theorem dX8_mean_35 : decode cX8_mean 35 = .ok (.iload_n 1, 1) := dk_27 (dk_at dksX8_mean_1 11 rfl rfl)
theorem dX8_mean_36 : decode cX8_mean 36 = .ok (.iload_n 2, 1) := dk_28 (dk_at dksX8_mean_1 12 rfl rfl)
theorem dX8_mean_37 : decode cX8_mean 37 = .ok (.iconst 1, 1) := dk_4 (dk_at dksX8_mean_1 13 rfl rfl)
theorem dX8_mean_38 : decode cX8_mean 38 = .ok (.iload_n 3, 1) := dk_29 (dk_at dksX8_mean_1 14 rfl rfl)
theorem dX8_mean_39 : decode cX8_mean 39 = .ok (.invokevirtual 206, 3) := dk_182 0 206 (dk_at dksX8_mean_1 15 rfl rfl)
theorem dX8_mean_42 : decode cX8_mean 42 = .ok (.goto 6, 3) := dk_167 0 6 (dk_at dksX8_mean_1 18 rfl rfl)
theorem dX8_mean_45 : decode cX8_mean 45 = .ok (.ldc2_w 210, 3) := dk_20 0 210 (dk_at dksX8_mean_1 21 rfl rfl)
theorem dX8_mean_48 : decode cX8_mean 48 = .ok (.lreturn, 1) := dk_173 (dk_at dksX8_mean_2 0 rfl rfl)
abbrev cX8_see : ByteArray := prog_12_method_56_code
def yX8_see : MethodName := ⟨RX8, "see", "(III)I"⟩
def dkwX8_see_4 : List UInt8 := [181, 0, 120, 42, 180, 0, 120, 172]
abbrev dktX8_see_4 : List UInt8 := dkwX8_see_4 ++ []
def dkwX8_see_3 : List UInt8 := [79, 42, 180, 0, 32, 6, 42, 180, 0, 120, 104, 5, 96, 29, 79, 42, 89, 180, 0, 120, 4, 96]
abbrev dktX8_see_3 : List UInt8 := dkwX8_see_3 ++ dktX8_see_4
def dkwX8_see_2 : List UInt8 := [180, 0, 32, 6, 42, 180, 0, 120, 104, 27, 79, 42, 180, 0, 32, 6, 42, 180, 0, 120, 104, 4, 96, 28]
abbrev dktX8_see_2 : List UInt8 := dkwX8_see_2 ++ dktX8_see_3
def dkwX8_see_1 : List UInt8 := [20, 0, 214, 184, 0, 53, 154, 0, 5, 2, 172, 42, 180, 0, 120, 16, 6, 160, 0, 6, 16, 253, 172, 42]
abbrev dktX8_see_1 : List UInt8 := dkwX8_see_1 ++ dktX8_see_2
def dkwX8_see_0 : List UInt8 := [27, 133, 9, 20, 0, 212, 184, 0, 53, 153, 0, 23, 42, 28, 182, 0, 144, 153, 0, 15, 29, 133, 9]
abbrev dktX8_see_0 : List UInt8 := dkwX8_see_0 ++ dktX8_see_1
theorem dksX8_see_0 : cX8_see.data.toList.drop 0 = dktX8_see_0 := by decide +kernel
theorem dksX8_see_1 : cX8_see.data.toList.drop 23 = dktX8_see_1 := dk_seg dksX8_see_0 23 rfl rfl
theorem dksX8_see_2 : cX8_see.data.toList.drop 47 = dktX8_see_2 := dk_seg dksX8_see_1 24 rfl rfl
theorem dksX8_see_3 : cX8_see.data.toList.drop 71 = dktX8_see_3 := dk_seg dksX8_see_2 24 rfl rfl
theorem dksX8_see_4 : cX8_see.data.toList.drop 93 = dktX8_see_4 := dk_seg dksX8_see_3 22 rfl rfl
theorem dX8_see_0 : decode cX8_see 0 = .ok (.iload_n 1, 1) := dk_27 (dk_at dksX8_see_0 0 rfl rfl)
theorem dX8_see_1 : decode cX8_see 1 = .ok (.i2l, 1) := dk_133 (dk_at dksX8_see_0 1 rfl rfl)
theorem dX8_see_2 : decode cX8_see 2 = .ok (.lconst 0, 1) := dk_9 (dk_at dksX8_see_0 2 rfl rfl)
theorem dX8_see_3 : decode cX8_see 3 = .ok (.ldc2_w 212, 3) := dk_20 0 212 (dk_at dksX8_see_0 3 rfl rfl)
theorem dX8_see_6 : decode cX8_see 6 = .ok (.invokestatic 53, 3) := dk_184 0 53 (dk_at dksX8_see_0 6 rfl rfl)
theorem dX8_see_9 : decode cX8_see 9 = .ok (.ifCond .eq 23, 3) := dk_153 0 23 (dk_at dksX8_see_0 9 rfl rfl)
theorem dX8_see_12 : decode cX8_see 12 = .ok (.aload_n 0, 1) := dk_42 (dk_at dksX8_see_0 12 rfl rfl)
theorem dX8_see_13 : decode cX8_see 13 = .ok (.iload_n 2, 1) := dk_28 (dk_at dksX8_see_0 13 rfl rfl)
theorem dX8_see_14 : decode cX8_see 14 = .ok (.invokevirtual 144, 3) := dk_182 0 144 (dk_at dksX8_see_0 14 rfl rfl)
theorem dX8_see_17 : decode cX8_see 17 = .ok (.ifCond .eq 15, 3) := dk_153 0 15 (dk_at dksX8_see_0 17 rfl rfl)
theorem dX8_see_20 : decode cX8_see 20 = .ok (.iload_n 3, 1) := dk_29 (dk_at dksX8_see_0 20 rfl rfl)
theorem dX8_see_21 : decode cX8_see 21 = .ok (.i2l, 1) := dk_133 (dk_at dksX8_see_0 21 rfl rfl)
theorem dX8_see_22 : decode cX8_see 22 = .ok (.lconst 0, 1) := dk_9 (dk_at dksX8_see_0 22 rfl rfl)
theorem dX8_see_23 : decode cX8_see 23 = .ok (.ldc2_w 214, 3) := dk_20 0 214 (dk_at dksX8_see_1 0 rfl rfl)
theorem dX8_see_26 : decode cX8_see 26 = .ok (.invokestatic 53, 3) := dk_184 0 53 (dk_at dksX8_see_1 3 rfl rfl)
theorem dX8_see_29 : decode cX8_see 29 = .ok (.ifCond .ne 5, 3) := dk_154 0 5 (dk_at dksX8_see_1 6 rfl rfl)
theorem dX8_see_32 : decode cX8_see 32 = .ok (.iconst (-1), 1) := dk_2 (dk_at dksX8_see_1 9 rfl rfl)
theorem dX8_see_33 : decode cX8_see 33 = .ok (.ireturn, 1) := dk_172 (dk_at dksX8_see_1 10 rfl rfl)
theorem dX8_see_34 : decode cX8_see 34 = .ok (.aload_n 0, 1) := dk_42 (dk_at dksX8_see_1 11 rfl rfl)
theorem dX8_see_35 : decode cX8_see 35 = .ok (.getfield 120, 3) := dk_180 0 120 (dk_at dksX8_see_1 12 rfl rfl)
theorem dX8_see_38 : decode cX8_see 38 = .ok (.bipush 6, 2) := dk_16 6 (dk_at dksX8_see_1 15 rfl rfl)
theorem dX8_see_40 : decode cX8_see 40 = .ok (.if_icmp .ne 6, 3) := dk_160 0 6 (dk_at dksX8_see_1 17 rfl rfl)
theorem dX8_see_43 : decode cX8_see 43 = .ok (.bipush (-3), 2) := dk_16 253 (dk_at dksX8_see_1 20 rfl rfl)
theorem dX8_see_45 : decode cX8_see 45 = .ok (.ireturn, 1) := dk_172 (dk_at dksX8_see_1 22 rfl rfl)
theorem dX8_see_46 : decode cX8_see 46 = .ok (.aload_n 0, 1) := dk_42 (dk_at dksX8_see_1 23 rfl rfl)
theorem dX8_see_47 : decode cX8_see 47 = .ok (.getfield 32, 3) := dk_180 0 32 (dk_at dksX8_see_2 0 rfl rfl)
theorem dX8_see_50 : decode cX8_see 50 = .ok (.iconst 3, 1) := dk_6 (dk_at dksX8_see_2 3 rfl rfl)
theorem dX8_see_51 : decode cX8_see 51 = .ok (.aload_n 0, 1) := dk_42 (dk_at dksX8_see_2 4 rfl rfl)
theorem dX8_see_52 : decode cX8_see 52 = .ok (.getfield 120, 3) := dk_180 0 120 (dk_at dksX8_see_2 5 rfl rfl)
theorem dX8_see_55 : decode cX8_see 55 = .ok (.imul, 1) := dk_104 (dk_at dksX8_see_2 8 rfl rfl)
theorem dX8_see_56 : decode cX8_see 56 = .ok (.iload_n 1, 1) := dk_27 (dk_at dksX8_see_2 9 rfl rfl)
theorem dX8_see_57 : decode cX8_see 57 = .ok (.iastore, 1) := dk_79 (dk_at dksX8_see_2 10 rfl rfl)
theorem dX8_see_58 : decode cX8_see 58 = .ok (.aload_n 0, 1) := dk_42 (dk_at dksX8_see_2 11 rfl rfl)
theorem dX8_see_59 : decode cX8_see 59 = .ok (.getfield 32, 3) := dk_180 0 32 (dk_at dksX8_see_2 12 rfl rfl)
theorem dX8_see_62 : decode cX8_see 62 = .ok (.iconst 3, 1) := dk_6 (dk_at dksX8_see_2 15 rfl rfl)
theorem dX8_see_63 : decode cX8_see 63 = .ok (.aload_n 0, 1) := dk_42 (dk_at dksX8_see_2 16 rfl rfl)
theorem dX8_see_64 : decode cX8_see 64 = .ok (.getfield 120, 3) := dk_180 0 120 (dk_at dksX8_see_2 17 rfl rfl)
theorem dX8_see_67 : decode cX8_see 67 = .ok (.imul, 1) := dk_104 (dk_at dksX8_see_2 20 rfl rfl)
theorem dX8_see_68 : decode cX8_see 68 = .ok (.iconst 1, 1) := dk_4 (dk_at dksX8_see_2 21 rfl rfl)
theorem dX8_see_69 : decode cX8_see 69 = .ok (.iadd, 1) := dk_96 (dk_at dksX8_see_2 22 rfl rfl)
theorem dX8_see_70 : decode cX8_see 70 = .ok (.iload_n 2, 1) := dk_28 (dk_at dksX8_see_2 23 rfl rfl)
theorem dX8_see_71 : decode cX8_see 71 = .ok (.iastore, 1) := dk_79 (dk_at dksX8_see_3 0 rfl rfl)
theorem dX8_see_72 : decode cX8_see 72 = .ok (.aload_n 0, 1) := dk_42 (dk_at dksX8_see_3 1 rfl rfl)
theorem dX8_see_73 : decode cX8_see 73 = .ok (.getfield 32, 3) := dk_180 0 32 (dk_at dksX8_see_3 2 rfl rfl)
theorem dX8_see_76 : decode cX8_see 76 = .ok (.iconst 3, 1) := dk_6 (dk_at dksX8_see_3 5 rfl rfl)
theorem dX8_see_77 : decode cX8_see 77 = .ok (.aload_n 0, 1) := dk_42 (dk_at dksX8_see_3 6 rfl rfl)
theorem dX8_see_78 : decode cX8_see 78 = .ok (.getfield 120, 3) := dk_180 0 120 (dk_at dksX8_see_3 7 rfl rfl)
theorem dX8_see_81 : decode cX8_see 81 = .ok (.imul, 1) := dk_104 (dk_at dksX8_see_3 10 rfl rfl)
theorem dX8_see_82 : decode cX8_see 82 = .ok (.iconst 2, 1) := dk_5 (dk_at dksX8_see_3 11 rfl rfl)
theorem dX8_see_83 : decode cX8_see 83 = .ok (.iadd, 1) := dk_96 (dk_at dksX8_see_3 12 rfl rfl)
theorem dX8_see_84 : decode cX8_see 84 = .ok (.iload_n 3, 1) := dk_29 (dk_at dksX8_see_3 13 rfl rfl)
theorem dX8_see_85 : decode cX8_see 85 = .ok (.iastore, 1) := dk_79 (dk_at dksX8_see_3 14 rfl rfl)
theorem dX8_see_86 : decode cX8_see 86 = .ok (.aload_n 0, 1) := dk_42 (dk_at dksX8_see_3 15 rfl rfl)
theorem dX8_see_87 : decode cX8_see 87 = .ok (.dup, 1) := dk_89 (dk_at dksX8_see_3 16 rfl rfl)
theorem dX8_see_88 : decode cX8_see 88 = .ok (.getfield 120, 3) := dk_180 0 120 (dk_at dksX8_see_3 17 rfl rfl)
theorem dX8_see_91 : decode cX8_see 91 = .ok (.iconst 1, 1) := dk_4 (dk_at dksX8_see_3 20 rfl rfl)
theorem dX8_see_92 : decode cX8_see 92 = .ok (.iadd, 1) := dk_96 (dk_at dksX8_see_3 21 rfl rfl)
theorem dX8_see_93 : decode cX8_see 93 = .ok (.putfield 120, 3) := dk_181 0 120 (dk_at dksX8_see_4 0 rfl rfl)
theorem dX8_see_96 : decode cX8_see 96 = .ok (.aload_n 0, 1) := dk_42 (dk_at dksX8_see_4 3 rfl rfl)
theorem dX8_see_97 : decode cX8_see 97 = .ok (.getfield 120, 3) := dk_180 0 120 (dk_at dksX8_see_4 4 rfl rfl)
theorem dX8_see_100 : decode cX8_see 100 = .ok (.ireturn, 1) := dk_172 (dk_at dksX8_see_4 7 rfl rfl)
abbrev cX8_forget : ByteArray := prog_12_method_57_code
def yX8_forget : MethodName := ⟨RX8, "forget", "(I)I"⟩
def dkwX8_forget_1 : List UInt8 := [181, 0, 120, 28, 172]
abbrev dktX8_forget_1 : List UInt8 := dkwX8_forget_1 ++ []
def dkwX8_forget_0 : List UInt8 := [27, 133, 9, 42, 180, 0, 120, 133, 184, 0, 53, 154, 0, 5, 2, 172, 42, 180, 0, 120, 61, 42, 27]
abbrev dktX8_forget_0 : List UInt8 := dkwX8_forget_0 ++ dktX8_forget_1
theorem dksX8_forget_0 : cX8_forget.data.toList.drop 0 = dktX8_forget_0 := by decide +kernel
theorem dksX8_forget_1 : cX8_forget.data.toList.drop 23 = dktX8_forget_1 := dk_seg dksX8_forget_0 23 rfl rfl
theorem dX8_forget_0 : decode cX8_forget 0 = .ok (.iload_n 1, 1) := dk_27 (dk_at dksX8_forget_0 0 rfl rfl)
theorem dX8_forget_1 : decode cX8_forget 1 = .ok (.i2l, 1) := dk_133 (dk_at dksX8_forget_0 1 rfl rfl)
theorem dX8_forget_2 : decode cX8_forget 2 = .ok (.lconst 0, 1) := dk_9 (dk_at dksX8_forget_0 2 rfl rfl)
theorem dX8_forget_3 : decode cX8_forget 3 = .ok (.aload_n 0, 1) := dk_42 (dk_at dksX8_forget_0 3 rfl rfl)
theorem dX8_forget_4 : decode cX8_forget 4 = .ok (.getfield 120, 3) := dk_180 0 120 (dk_at dksX8_forget_0 4 rfl rfl)
theorem dX8_forget_7 : decode cX8_forget 7 = .ok (.i2l, 1) := dk_133 (dk_at dksX8_forget_0 7 rfl rfl)
theorem dX8_forget_8 : decode cX8_forget 8 = .ok (.invokestatic 53, 3) := dk_184 0 53 (dk_at dksX8_forget_0 8 rfl rfl)
theorem dX8_forget_11 : decode cX8_forget 11 = .ok (.ifCond .ne 5, 3) := dk_154 0 5 (dk_at dksX8_forget_0 11 rfl rfl)
theorem dX8_forget_14 : decode cX8_forget 14 = .ok (.iconst (-1), 1) := dk_2 (dk_at dksX8_forget_0 14 rfl rfl)
theorem dX8_forget_15 : decode cX8_forget 15 = .ok (.ireturn, 1) := dk_172 (dk_at dksX8_forget_0 15 rfl rfl)
theorem dX8_forget_16 : decode cX8_forget 16 = .ok (.aload_n 0, 1) := dk_42 (dk_at dksX8_forget_0 16 rfl rfl)
theorem dX8_forget_17 : decode cX8_forget 17 = .ok (.getfield 120, 3) := dk_180 0 120 (dk_at dksX8_forget_0 17 rfl rfl)
theorem dX8_forget_20 : decode cX8_forget 20 = .ok (.istore_n 2, 1) := dk_61 (dk_at dksX8_forget_0 20 rfl rfl)
theorem dX8_forget_21 : decode cX8_forget 21 = .ok (.aload_n 0, 1) := dk_42 (dk_at dksX8_forget_0 21 rfl rfl)
theorem dX8_forget_22 : decode cX8_forget 22 = .ok (.iload_n 1, 1) := dk_27 (dk_at dksX8_forget_0 22 rfl rfl)
theorem dX8_forget_23 : decode cX8_forget 23 = .ok (.putfield 120, 3) := dk_181 0 120 (dk_at dksX8_forget_1 0 rfl rfl)
theorem dX8_forget_26 : decode cX8_forget 26 = .ok (.iload_n 2, 1) := dk_28 (dk_at dksX8_forget_1 3 rfl rfl)
theorem dX8_forget_27 : decode cX8_forget 27 = .ok (.ireturn, 1) := dk_172 (dk_at dksX8_forget_1 4 rfl rfl)
abbrev cX8_kinds : ByteArray := prog_12_method_60_code
def yX8_kinds : MethodName := ⟨RX8, "kinds", "(I)I"⟩
def dkwX8_kinds_0 : List UInt8 := [42, 27, 182, 0, 144, 153, 0, 13, 42, 27, 27, 7, 182, 0, 220, 167, 0, 4, 2, 172]
abbrev dktX8_kinds_0 : List UInt8 := dkwX8_kinds_0 ++ []
theorem dksX8_kinds_0 : cX8_kinds.data.toList.drop 0 = dktX8_kinds_0 := by decide +kernel
theorem dX8_kinds_0 : decode cX8_kinds 0 = .ok (.aload_n 0, 1) := dk_42 (dk_at dksX8_kinds_0 0 rfl rfl)
theorem dX8_kinds_1 : decode cX8_kinds 1 = .ok (.iload_n 1, 1) := dk_27 (dk_at dksX8_kinds_0 1 rfl rfl)
theorem dX8_kinds_2 : decode cX8_kinds 2 = .ok (.invokevirtual 144, 3) := dk_182 0 144 (dk_at dksX8_kinds_0 2 rfl rfl)
theorem dX8_kinds_5 : decode cX8_kinds 5 = .ok (.ifCond .eq 13, 3) := dk_153 0 13 (dk_at dksX8_kinds_0 5 rfl rfl)
theorem dX8_kinds_8 : decode cX8_kinds 8 = .ok (.aload_n 0, 1) := dk_42 (dk_at dksX8_kinds_0 8 rfl rfl)
theorem dX8_kinds_9 : decode cX8_kinds 9 = .ok (.iload_n 1, 1) := dk_27 (dk_at dksX8_kinds_0 9 rfl rfl)
theorem dX8_kinds_10 : decode cX8_kinds 10 = .ok (.iload_n 1, 1) := dk_27 (dk_at dksX8_kinds_0 10 rfl rfl)
theorem dX8_kinds_11 : decode cX8_kinds 11 = .ok (.iconst 4, 1) := dk_7 (dk_at dksX8_kinds_0 11 rfl rfl)
theorem dX8_kinds_12 : decode cX8_kinds 12 = .ok (.invokevirtual 220, 3) := dk_182 0 220 (dk_at dksX8_kinds_0 12 rfl rfl)
theorem dX8_kinds_15 : decode cX8_kinds 15 = .ok (.goto 4, 3) := dk_167 0 4 (dk_at dksX8_kinds_0 15 rfl rfl)
theorem dX8_kinds_18 : decode cX8_kinds 18 = .ok (.iconst (-1), 1) := dk_2 (dk_at dksX8_kinds_0 18 rfl rfl)
theorem dX8_kinds_19 : decode cX8_kinds 19 = .ok (.ireturn, 1) := dk_172 (dk_at dksX8_kinds_0 19 rfl rfl)
abbrev cX8_numbersAt : ByteArray := prog_12_method_59_code
def yX8_numbersAt : MethodName := ⟨RX8, "numbersAt", "(III)I"⟩
def dkwX8_numbersAt_2 : List UInt8 := [128, 54, 5, 132, 6, 1, 167, 255, 216, 42, 180, 0, 7, 27, 21, 4, 79, 21, 5, 172]
abbrev dktX8_numbersAt_2 : List UInt8 := dkwX8_numbersAt_2 ++ []
def dkwX8_numbersAt_1 : List UInt8 := [27, 21, 6, 79, 21, 5, 42, 21, 6, 28, 182, 0, 216, 153, 0, 10, 4, 21, 6, 120, 167, 0, 4, 3]
abbrev dktX8_numbersAt_1 : List UInt8 := dkwX8_numbersAt_1 ++ dktX8_numbersAt_2
def dkwX8_numbersAt_0 : List UInt8 := [42, 180, 0, 7, 27, 46, 54, 4, 3, 54, 5, 3, 54, 6, 21, 6, 29, 162, 0, 40, 42, 180, 0, 7]
abbrev dktX8_numbersAt_0 : List UInt8 := dkwX8_numbersAt_0 ++ dktX8_numbersAt_1
theorem dksX8_numbersAt_0 : cX8_numbersAt.data.toList.drop 0 = dktX8_numbersAt_0 := by decide +kernel
theorem dksX8_numbersAt_1 : cX8_numbersAt.data.toList.drop 24 = dktX8_numbersAt_1 := dk_seg dksX8_numbersAt_0 24 rfl rfl
theorem dksX8_numbersAt_2 : cX8_numbersAt.data.toList.drop 48 = dktX8_numbersAt_2 := dk_seg dksX8_numbersAt_1 24 rfl rfl
theorem dX8_numbersAt_0 : decode cX8_numbersAt 0 = .ok (.aload_n 0, 1) := dk_42 (dk_at dksX8_numbersAt_0 0 rfl rfl)
theorem dX8_numbersAt_1 : decode cX8_numbersAt 1 = .ok (.getfield 7, 3) := dk_180 0 7 (dk_at dksX8_numbersAt_0 1 rfl rfl)
theorem dX8_numbersAt_4 : decode cX8_numbersAt 4 = .ok (.iload_n 1, 1) := dk_27 (dk_at dksX8_numbersAt_0 4 rfl rfl)
theorem dX8_numbersAt_5 : decode cX8_numbersAt 5 = .ok (.iaload, 1) := dk_46 (dk_at dksX8_numbersAt_0 5 rfl rfl)
theorem dX8_numbersAt_6 : decode cX8_numbersAt 6 = .ok (.istore 4, 2) := dk_54 4 (dk_at dksX8_numbersAt_0 6 rfl rfl)
theorem dX8_numbersAt_8 : decode cX8_numbersAt 8 = .ok (.iconst 0, 1) := dk_3 (dk_at dksX8_numbersAt_0 8 rfl rfl)
theorem dX8_numbersAt_9 : decode cX8_numbersAt 9 = .ok (.istore 5, 2) := dk_54 5 (dk_at dksX8_numbersAt_0 9 rfl rfl)
theorem dX8_numbersAt_11 : decode cX8_numbersAt 11 = .ok (.iconst 0, 1) := dk_3 (dk_at dksX8_numbersAt_0 11 rfl rfl)
theorem dX8_numbersAt_12 : decode cX8_numbersAt 12 = .ok (.istore 6, 2) := dk_54 6 (dk_at dksX8_numbersAt_0 12 rfl rfl)
theorem dX8_numbersAt_14 : decode cX8_numbersAt 14 = .ok (.iload 6, 2) := dk_21 6 (dk_at dksX8_numbersAt_0 14 rfl rfl)
theorem dX8_numbersAt_16 : decode cX8_numbersAt 16 = .ok (.iload_n 3, 1) := dk_29 (dk_at dksX8_numbersAt_0 16 rfl rfl)
theorem dX8_numbersAt_17 : decode cX8_numbersAt 17 = .ok (.if_icmp .ge 40, 3) := dk_162 0 40 (dk_at dksX8_numbersAt_0 17 rfl rfl)
theorem dX8_numbersAt_20 : decode cX8_numbersAt 20 = .ok (.aload_n 0, 1) := dk_42 (dk_at dksX8_numbersAt_0 20 rfl rfl)
theorem dX8_numbersAt_21 : decode cX8_numbersAt 21 = .ok (.getfield 7, 3) := dk_180 0 7 (dk_at dksX8_numbersAt_0 21 rfl rfl)
theorem dX8_numbersAt_24 : decode cX8_numbersAt 24 = .ok (.iload_n 1, 1) := dk_27 (dk_at dksX8_numbersAt_1 0 rfl rfl)
theorem dX8_numbersAt_25 : decode cX8_numbersAt 25 = .ok (.iload 6, 2) := dk_21 6 (dk_at dksX8_numbersAt_1 1 rfl rfl)
theorem dX8_numbersAt_27 : decode cX8_numbersAt 27 = .ok (.iastore, 1) := dk_79 (dk_at dksX8_numbersAt_1 3 rfl rfl)
theorem dX8_numbersAt_28 : decode cX8_numbersAt 28 = .ok (.iload 5, 2) := dk_21 5 (dk_at dksX8_numbersAt_1 4 rfl rfl)
theorem dX8_numbersAt_30 : decode cX8_numbersAt 30 = .ok (.aload_n 0, 1) := dk_42 (dk_at dksX8_numbersAt_1 6 rfl rfl)
theorem dX8_numbersAt_31 : decode cX8_numbersAt 31 = .ok (.iload 6, 2) := dk_21 6 (dk_at dksX8_numbersAt_1 7 rfl rfl)
theorem dX8_numbersAt_33 : decode cX8_numbersAt 33 = .ok (.iload_n 2, 1) := dk_28 (dk_at dksX8_numbersAt_1 9 rfl rfl)
theorem dX8_numbersAt_34 : decode cX8_numbersAt 34 = .ok (.invokevirtual 216, 3) := dk_182 0 216 (dk_at dksX8_numbersAt_1 10 rfl rfl)
theorem dX8_numbersAt_37 : decode cX8_numbersAt 37 = .ok (.ifCond .eq 10, 3) := dk_153 0 10 (dk_at dksX8_numbersAt_1 13 rfl rfl)
theorem dX8_numbersAt_40 : decode cX8_numbersAt 40 = .ok (.iconst 1, 1) := dk_4 (dk_at dksX8_numbersAt_1 16 rfl rfl)
theorem dX8_numbersAt_41 : decode cX8_numbersAt 41 = .ok (.iload 6, 2) := dk_21 6 (dk_at dksX8_numbersAt_1 17 rfl rfl)
theorem dX8_numbersAt_43 : decode cX8_numbersAt 43 = .ok (.ishl, 1) := dk_120 (dk_at dksX8_numbersAt_1 19 rfl rfl)
theorem dX8_numbersAt_44 : decode cX8_numbersAt 44 = .ok (.goto 4, 3) := dk_167 0 4 (dk_at dksX8_numbersAt_1 20 rfl rfl)
theorem dX8_numbersAt_47 : decode cX8_numbersAt 47 = .ok (.iconst 0, 1) := dk_3 (dk_at dksX8_numbersAt_1 23 rfl rfl)
theorem dX8_numbersAt_48 : decode cX8_numbersAt 48 = .ok (.ior, 1) := dk_128 (dk_at dksX8_numbersAt_2 0 rfl rfl)
theorem dX8_numbersAt_49 : decode cX8_numbersAt 49 = .ok (.istore 5, 2) := dk_54 5 (dk_at dksX8_numbersAt_2 1 rfl rfl)
theorem dX8_numbersAt_51 : decode cX8_numbersAt 51 = .ok (.iinc 6 1, 3) := dk_132 6 1 (dk_at dksX8_numbersAt_2 3 rfl rfl)
theorem dX8_numbersAt_54 : decode cX8_numbersAt 54 = .ok (.goto (-40), 3) := dk_167 255 216 (dk_at dksX8_numbersAt_2 6 rfl rfl)
theorem dX8_numbersAt_57 : decode cX8_numbersAt 57 = .ok (.aload_n 0, 1) := dk_42 (dk_at dksX8_numbersAt_2 9 rfl rfl)
theorem dX8_numbersAt_58 : decode cX8_numbersAt 58 = .ok (.getfield 7, 3) := dk_180 0 7 (dk_at dksX8_numbersAt_2 10 rfl rfl)
theorem dX8_numbersAt_61 : decode cX8_numbersAt 61 = .ok (.iload_n 1, 1) := dk_27 (dk_at dksX8_numbersAt_2 13 rfl rfl)
theorem dX8_numbersAt_62 : decode cX8_numbersAt 62 = .ok (.iload 4, 2) := dk_21 4 (dk_at dksX8_numbersAt_2 14 rfl rfl)
theorem dX8_numbersAt_64 : decode cX8_numbersAt 64 = .ok (.iastore, 1) := dk_79 (dk_at dksX8_numbersAt_2 16 rfl rfl)
theorem dX8_numbersAt_65 : decode cX8_numbersAt 65 = .ok (.iload 5, 2) := dk_21 5 (dk_at dksX8_numbersAt_2 17 rfl rfl)
theorem dX8_numbersAt_67 : decode cX8_numbersAt 67 = .ok (.ireturn, 1) := dk_172 (dk_at dksX8_numbersAt_2 19 rfl rfl)
abbrev cX8_isAsSeen : ByteArray := prog_12_method_58_code
def yX8_isAsSeen : MethodName := ⟨RX8, "isAsSeen", "(II)Z"⟩
def dkwX8_isAsSeen_6 : List UInt8 := [132, 5, 1, 167, 255, 158, 42, 17, 0, 156, 3, 182, 0, 172, 132, 4, 1, 167, 255, 112, 29, 172]
abbrev dktX8_isAsSeen_6 : List UInt8 := dkwX8_isAsSeen_6 ++ []
def dkwX8_isAsSeen_5 : List UInt8 := [180, 0, 32, 6, 21, 5, 104, 46, 21, 4, 160, 0, 8, 21, 7, 153, 0, 7, 4, 167, 0, 4, 3, 62]
abbrev dktX8_isAsSeen_5 : List UInt8 := dkwX8_isAsSeen_5 ++ dktX8_isAsSeen_6
def dkwX8_isAsSeen_4 : List UInt8 := [6, 21, 5, 104, 5, 96, 46, 160, 0, 7, 4, 167, 0, 4, 3, 54, 7, 29, 153, 0, 26, 42]
abbrev dktX8_isAsSeen_4 : List UInt8 := dkwX8_isAsSeen_4 ++ dktX8_isAsSeen_5
def dkwX8_isAsSeen_3 : List UInt8 := [180, 0, 7, 16, 16, 46, 162, 0, 32, 42, 180, 0, 7, 17, 0, 168, 21, 6, 96, 46, 42, 180, 0, 32]
abbrev dktX8_isAsSeen_3 : List UInt8 := dkwX8_isAsSeen_3 ++ dktX8_isAsSeen_4
def dkwX8_isAsSeen_2 : List UInt8 := [180, 0, 120, 162, 0, 95, 42, 180, 0, 32, 6, 21, 5, 104, 4, 96, 46, 54, 6, 21, 6, 42]
abbrev dktX8_isAsSeen_2 : List UInt8 := dkwX8_isAsSeen_2 ++ dktX8_isAsSeen_3
def dkwX8_isAsSeen_1 : List UInt8 := [16, 41, 27, 104, 21, 4, 96, 42, 180, 0, 7, 17, 0, 168, 28, 96, 46, 79, 3, 54, 5, 21, 5, 42]
abbrev dktX8_isAsSeen_1 : List UInt8 := dkwX8_isAsSeen_1 ++ dktX8_isAsSeen_2
def dkwX8_isAsSeen_0 : List UInt8 := [42, 3, 17, 0, 156, 182, 0, 176, 4, 62, 3, 54, 4, 21, 4, 16, 40, 163, 0, 143, 42, 180, 0, 35]
abbrev dktX8_isAsSeen_0 : List UInt8 := dkwX8_isAsSeen_0 ++ dktX8_isAsSeen_1
theorem dksX8_isAsSeen_0 : cX8_isAsSeen.data.toList.drop 0 = dktX8_isAsSeen_0 := by decide +kernel
theorem dksX8_isAsSeen_1 : cX8_isAsSeen.data.toList.drop 24 = dktX8_isAsSeen_1 := dk_seg dksX8_isAsSeen_0 24 rfl rfl
theorem dksX8_isAsSeen_2 : cX8_isAsSeen.data.toList.drop 48 = dktX8_isAsSeen_2 := dk_seg dksX8_isAsSeen_1 24 rfl rfl
theorem dksX8_isAsSeen_3 : cX8_isAsSeen.data.toList.drop 70 = dktX8_isAsSeen_3 := dk_seg dksX8_isAsSeen_2 22 rfl rfl
theorem dksX8_isAsSeen_4 : cX8_isAsSeen.data.toList.drop 94 = dktX8_isAsSeen_4 := dk_seg dksX8_isAsSeen_3 24 rfl rfl
theorem dksX8_isAsSeen_5 : cX8_isAsSeen.data.toList.drop 116 = dktX8_isAsSeen_5 := dk_seg dksX8_isAsSeen_4 22 rfl rfl
theorem dksX8_isAsSeen_6 : cX8_isAsSeen.data.toList.drop 140 = dktX8_isAsSeen_6 := dk_seg dksX8_isAsSeen_5 24 rfl rfl
theorem dX8_isAsSeen_0 : decode cX8_isAsSeen 0 = .ok (.aload_n 0, 1) := dk_42 (dk_at dksX8_isAsSeen_0 0 rfl rfl)
theorem dX8_isAsSeen_1 : decode cX8_isAsSeen 1 = .ok (.iconst 0, 1) := dk_3 (dk_at dksX8_isAsSeen_0 1 rfl rfl)
theorem dX8_isAsSeen_2 : decode cX8_isAsSeen 2 = .ok (.sipush 156, 3) := dk_17 0 156 (dk_at dksX8_isAsSeen_0 2 rfl rfl)
theorem dX8_isAsSeen_5 : decode cX8_isAsSeen 5 = .ok (.invokevirtual 176, 3) := dk_182 0 176 (dk_at dksX8_isAsSeen_0 5 rfl rfl)
theorem dX8_isAsSeen_8 : decode cX8_isAsSeen 8 = .ok (.iconst 1, 1) := dk_4 (dk_at dksX8_isAsSeen_0 8 rfl rfl)
theorem dX8_isAsSeen_9 : decode cX8_isAsSeen 9 = .ok (.istore_n 3, 1) := dk_62 (dk_at dksX8_isAsSeen_0 9 rfl rfl)
theorem dX8_isAsSeen_10 : decode cX8_isAsSeen 10 = .ok (.iconst 0, 1) := dk_3 (dk_at dksX8_isAsSeen_0 10 rfl rfl)
theorem dX8_isAsSeen_11 : decode cX8_isAsSeen 11 = .ok (.istore 4, 2) := dk_54 4 (dk_at dksX8_isAsSeen_0 11 rfl rfl)
theorem dX8_isAsSeen_13 : decode cX8_isAsSeen 13 = .ok (.iload 4, 2) := dk_21 4 (dk_at dksX8_isAsSeen_0 13 rfl rfl)
theorem dX8_isAsSeen_15 : decode cX8_isAsSeen 15 = .ok (.bipush 40, 2) := dk_16 40 (dk_at dksX8_isAsSeen_0 15 rfl rfl)
theorem dX8_isAsSeen_17 : decode cX8_isAsSeen 17 = .ok (.if_icmp .gt 143, 3) := dk_163 0 143 (dk_at dksX8_isAsSeen_0 17 rfl rfl)
theorem dX8_isAsSeen_20 : decode cX8_isAsSeen 20 = .ok (.aload_n 0, 1) := dk_42 (dk_at dksX8_isAsSeen_0 20 rfl rfl)
theorem dX8_isAsSeen_21 : decode cX8_isAsSeen 21 = .ok (.getfield 35, 3) := dk_180 0 35 (dk_at dksX8_isAsSeen_0 21 rfl rfl)
theorem dX8_isAsSeen_24 : decode cX8_isAsSeen 24 = .ok (.bipush 41, 2) := dk_16 41 (dk_at dksX8_isAsSeen_1 0 rfl rfl)
theorem dX8_isAsSeen_26 : decode cX8_isAsSeen 26 = .ok (.iload_n 1, 1) := dk_27 (dk_at dksX8_isAsSeen_1 2 rfl rfl)
theorem dX8_isAsSeen_27 : decode cX8_isAsSeen 27 = .ok (.imul, 1) := dk_104 (dk_at dksX8_isAsSeen_1 3 rfl rfl)
theorem dX8_isAsSeen_28 : decode cX8_isAsSeen 28 = .ok (.iload 4, 2) := dk_21 4 (dk_at dksX8_isAsSeen_1 4 rfl rfl)
theorem dX8_isAsSeen_30 : decode cX8_isAsSeen 30 = .ok (.iadd, 1) := dk_96 (dk_at dksX8_isAsSeen_1 6 rfl rfl)
theorem dX8_isAsSeen_31 : decode cX8_isAsSeen 31 = .ok (.aload_n 0, 1) := dk_42 (dk_at dksX8_isAsSeen_1 7 rfl rfl)
theorem dX8_isAsSeen_32 : decode cX8_isAsSeen 32 = .ok (.getfield 7, 3) := dk_180 0 7 (dk_at dksX8_isAsSeen_1 8 rfl rfl)
theorem dX8_isAsSeen_35 : decode cX8_isAsSeen 35 = .ok (.sipush 168, 3) := dk_17 0 168 (dk_at dksX8_isAsSeen_1 11 rfl rfl)
theorem dX8_isAsSeen_38 : decode cX8_isAsSeen 38 = .ok (.iload_n 2, 1) := dk_28 (dk_at dksX8_isAsSeen_1 14 rfl rfl)
theorem dX8_isAsSeen_39 : decode cX8_isAsSeen 39 = .ok (.iadd, 1) := dk_96 (dk_at dksX8_isAsSeen_1 15 rfl rfl)
theorem dX8_isAsSeen_40 : decode cX8_isAsSeen 40 = .ok (.iaload, 1) := dk_46 (dk_at dksX8_isAsSeen_1 16 rfl rfl)
theorem dX8_isAsSeen_41 : decode cX8_isAsSeen 41 = .ok (.iastore, 1) := dk_79 (dk_at dksX8_isAsSeen_1 17 rfl rfl)
theorem dX8_isAsSeen_42 : decode cX8_isAsSeen 42 = .ok (.iconst 0, 1) := dk_3 (dk_at dksX8_isAsSeen_1 18 rfl rfl)
theorem dX8_isAsSeen_43 : decode cX8_isAsSeen 43 = .ok (.istore 5, 2) := dk_54 5 (dk_at dksX8_isAsSeen_1 19 rfl rfl)
theorem dX8_isAsSeen_45 : decode cX8_isAsSeen 45 = .ok (.iload 5, 2) := dk_21 5 (dk_at dksX8_isAsSeen_1 21 rfl rfl)
theorem dX8_isAsSeen_47 : decode cX8_isAsSeen 47 = .ok (.aload_n 0, 1) := dk_42 (dk_at dksX8_isAsSeen_1 23 rfl rfl)
theorem dX8_isAsSeen_48 : decode cX8_isAsSeen 48 = .ok (.getfield 120, 3) := dk_180 0 120 (dk_at dksX8_isAsSeen_2 0 rfl rfl)
theorem dX8_isAsSeen_51 : decode cX8_isAsSeen 51 = .ok (.if_icmp .ge 95, 3) := dk_162 0 95 (dk_at dksX8_isAsSeen_2 3 rfl rfl)
theorem dX8_isAsSeen_54 : decode cX8_isAsSeen 54 = .ok (.aload_n 0, 1) := dk_42 (dk_at dksX8_isAsSeen_2 6 rfl rfl)
theorem dX8_isAsSeen_55 : decode cX8_isAsSeen 55 = .ok (.getfield 32, 3) := dk_180 0 32 (dk_at dksX8_isAsSeen_2 7 rfl rfl)
theorem dX8_isAsSeen_58 : decode cX8_isAsSeen 58 = .ok (.iconst 3, 1) := dk_6 (dk_at dksX8_isAsSeen_2 10 rfl rfl)
theorem dX8_isAsSeen_59 : decode cX8_isAsSeen 59 = .ok (.iload 5, 2) := dk_21 5 (dk_at dksX8_isAsSeen_2 11 rfl rfl)
theorem dX8_isAsSeen_61 : decode cX8_isAsSeen 61 = .ok (.imul, 1) := dk_104 (dk_at dksX8_isAsSeen_2 13 rfl rfl)
theorem dX8_isAsSeen_62 : decode cX8_isAsSeen 62 = .ok (.iconst 1, 1) := dk_4 (dk_at dksX8_isAsSeen_2 14 rfl rfl)
theorem dX8_isAsSeen_63 : decode cX8_isAsSeen 63 = .ok (.iadd, 1) := dk_96 (dk_at dksX8_isAsSeen_2 15 rfl rfl)
theorem dX8_isAsSeen_64 : decode cX8_isAsSeen 64 = .ok (.iaload, 1) := dk_46 (dk_at dksX8_isAsSeen_2 16 rfl rfl)
theorem dX8_isAsSeen_65 : decode cX8_isAsSeen 65 = .ok (.istore 6, 2) := dk_54 6 (dk_at dksX8_isAsSeen_2 17 rfl rfl)
theorem dX8_isAsSeen_67 : decode cX8_isAsSeen 67 = .ok (.iload 6, 2) := dk_21 6 (dk_at dksX8_isAsSeen_2 19 rfl rfl)
theorem dX8_isAsSeen_69 : decode cX8_isAsSeen 69 = .ok (.aload_n 0, 1) := dk_42 (dk_at dksX8_isAsSeen_2 21 rfl rfl)
theorem dX8_isAsSeen_70 : decode cX8_isAsSeen 70 = .ok (.getfield 7, 3) := dk_180 0 7 (dk_at dksX8_isAsSeen_3 0 rfl rfl)
theorem dX8_isAsSeen_73 : decode cX8_isAsSeen 73 = .ok (.bipush 16, 2) := dk_16 16 (dk_at dksX8_isAsSeen_3 3 rfl rfl)
theorem dX8_isAsSeen_75 : decode cX8_isAsSeen 75 = .ok (.iaload, 1) := dk_46 (dk_at dksX8_isAsSeen_3 5 rfl rfl)
theorem dX8_isAsSeen_76 : decode cX8_isAsSeen 76 = .ok (.if_icmp .ge 32, 3) := dk_162 0 32 (dk_at dksX8_isAsSeen_3 6 rfl rfl)
theorem dX8_isAsSeen_79 : decode cX8_isAsSeen 79 = .ok (.aload_n 0, 1) := dk_42 (dk_at dksX8_isAsSeen_3 9 rfl rfl)
theorem dX8_isAsSeen_80 : decode cX8_isAsSeen 80 = .ok (.getfield 7, 3) := dk_180 0 7 (dk_at dksX8_isAsSeen_3 10 rfl rfl)
theorem dX8_isAsSeen_83 : decode cX8_isAsSeen 83 = .ok (.sipush 168, 3) := dk_17 0 168 (dk_at dksX8_isAsSeen_3 13 rfl rfl)
theorem dX8_isAsSeen_86 : decode cX8_isAsSeen 86 = .ok (.iload 6, 2) := dk_21 6 (dk_at dksX8_isAsSeen_3 16 rfl rfl)
theorem dX8_isAsSeen_88 : decode cX8_isAsSeen 88 = .ok (.iadd, 1) := dk_96 (dk_at dksX8_isAsSeen_3 18 rfl rfl)
theorem dX8_isAsSeen_89 : decode cX8_isAsSeen 89 = .ok (.iaload, 1) := dk_46 (dk_at dksX8_isAsSeen_3 19 rfl rfl)
theorem dX8_isAsSeen_90 : decode cX8_isAsSeen 90 = .ok (.aload_n 0, 1) := dk_42 (dk_at dksX8_isAsSeen_3 20 rfl rfl)
theorem dX8_isAsSeen_91 : decode cX8_isAsSeen 91 = .ok (.getfield 32, 3) := dk_180 0 32 (dk_at dksX8_isAsSeen_3 21 rfl rfl)
theorem dX8_isAsSeen_94 : decode cX8_isAsSeen 94 = .ok (.iconst 3, 1) := dk_6 (dk_at dksX8_isAsSeen_4 0 rfl rfl)
theorem dX8_isAsSeen_95 : decode cX8_isAsSeen 95 = .ok (.iload 5, 2) := dk_21 5 (dk_at dksX8_isAsSeen_4 1 rfl rfl)
theorem dX8_isAsSeen_97 : decode cX8_isAsSeen 97 = .ok (.imul, 1) := dk_104 (dk_at dksX8_isAsSeen_4 3 rfl rfl)
theorem dX8_isAsSeen_98 : decode cX8_isAsSeen 98 = .ok (.iconst 2, 1) := dk_5 (dk_at dksX8_isAsSeen_4 4 rfl rfl)
theorem dX8_isAsSeen_99 : decode cX8_isAsSeen 99 = .ok (.iadd, 1) := dk_96 (dk_at dksX8_isAsSeen_4 5 rfl rfl)
theorem dX8_isAsSeen_100 : decode cX8_isAsSeen 100 = .ok (.iaload, 1) := dk_46 (dk_at dksX8_isAsSeen_4 6 rfl rfl)
theorem dX8_isAsSeen_101 : decode cX8_isAsSeen 101 = .ok (.if_icmp .ne 7, 3) := dk_160 0 7 (dk_at dksX8_isAsSeen_4 7 rfl rfl)
theorem dX8_isAsSeen_104 : decode cX8_isAsSeen 104 = .ok (.iconst 1, 1) := dk_4 (dk_at dksX8_isAsSeen_4 10 rfl rfl)
theorem dX8_isAsSeen_105 : decode cX8_isAsSeen 105 = .ok (.goto 4, 3) := dk_167 0 4 (dk_at dksX8_isAsSeen_4 11 rfl rfl)
theorem dX8_isAsSeen_108 : decode cX8_isAsSeen 108 = .ok (.iconst 0, 1) := dk_3 (dk_at dksX8_isAsSeen_4 14 rfl rfl)
theorem dX8_isAsSeen_109 : decode cX8_isAsSeen 109 = .ok (.istore 7, 2) := dk_54 7 (dk_at dksX8_isAsSeen_4 15 rfl rfl)
theorem dX8_isAsSeen_111 : decode cX8_isAsSeen 111 = .ok (.iload_n 3, 1) := dk_29 (dk_at dksX8_isAsSeen_4 17 rfl rfl)
theorem dX8_isAsSeen_112 : decode cX8_isAsSeen 112 = .ok (.ifCond .eq 26, 3) := dk_153 0 26 (dk_at dksX8_isAsSeen_4 18 rfl rfl)
theorem dX8_isAsSeen_115 : decode cX8_isAsSeen 115 = .ok (.aload_n 0, 1) := dk_42 (dk_at dksX8_isAsSeen_4 21 rfl rfl)
theorem dX8_isAsSeen_116 : decode cX8_isAsSeen 116 = .ok (.getfield 32, 3) := dk_180 0 32 (dk_at dksX8_isAsSeen_5 0 rfl rfl)
theorem dX8_isAsSeen_119 : decode cX8_isAsSeen 119 = .ok (.iconst 3, 1) := dk_6 (dk_at dksX8_isAsSeen_5 3 rfl rfl)
theorem dX8_isAsSeen_120 : decode cX8_isAsSeen 120 = .ok (.iload 5, 2) := dk_21 5 (dk_at dksX8_isAsSeen_5 4 rfl rfl)
theorem dX8_isAsSeen_122 : decode cX8_isAsSeen 122 = .ok (.imul, 1) := dk_104 (dk_at dksX8_isAsSeen_5 6 rfl rfl)
theorem dX8_isAsSeen_123 : decode cX8_isAsSeen 123 = .ok (.iaload, 1) := dk_46 (dk_at dksX8_isAsSeen_5 7 rfl rfl)
theorem dX8_isAsSeen_124 : decode cX8_isAsSeen 124 = .ok (.iload 4, 2) := dk_21 4 (dk_at dksX8_isAsSeen_5 8 rfl rfl)
theorem dX8_isAsSeen_126 : decode cX8_isAsSeen 126 = .ok (.if_icmp .ne 8, 3) := dk_160 0 8 (dk_at dksX8_isAsSeen_5 10 rfl rfl)
theorem dX8_isAsSeen_129 : decode cX8_isAsSeen 129 = .ok (.iload 7, 2) := dk_21 7 (dk_at dksX8_isAsSeen_5 13 rfl rfl)
theorem dX8_isAsSeen_131 : decode cX8_isAsSeen 131 = .ok (.ifCond .eq 7, 3) := dk_153 0 7 (dk_at dksX8_isAsSeen_5 15 rfl rfl)
theorem dX8_isAsSeen_134 : decode cX8_isAsSeen 134 = .ok (.iconst 1, 1) := dk_4 (dk_at dksX8_isAsSeen_5 18 rfl rfl)
theorem dX8_isAsSeen_135 : decode cX8_isAsSeen 135 = .ok (.goto 4, 3) := dk_167 0 4 (dk_at dksX8_isAsSeen_5 19 rfl rfl)
theorem dX8_isAsSeen_138 : decode cX8_isAsSeen 138 = .ok (.iconst 0, 1) := dk_3 (dk_at dksX8_isAsSeen_5 22 rfl rfl)
theorem dX8_isAsSeen_139 : decode cX8_isAsSeen 139 = .ok (.istore_n 3, 1) := dk_62 (dk_at dksX8_isAsSeen_5 23 rfl rfl)
theorem dX8_isAsSeen_140 : decode cX8_isAsSeen 140 = .ok (.iinc 5 1, 3) := dk_132 5 1 (dk_at dksX8_isAsSeen_6 0 rfl rfl)
theorem dX8_isAsSeen_143 : decode cX8_isAsSeen 143 = .ok (.goto (-98), 3) := dk_167 255 158 (dk_at dksX8_isAsSeen_6 3 rfl rfl)
theorem dX8_isAsSeen_146 : decode cX8_isAsSeen 146 = .ok (.aload_n 0, 1) := dk_42 (dk_at dksX8_isAsSeen_6 6 rfl rfl)
theorem dX8_isAsSeen_147 : decode cX8_isAsSeen 147 = .ok (.sipush 156, 3) := dk_17 0 156 (dk_at dksX8_isAsSeen_6 7 rfl rfl)
theorem dX8_isAsSeen_150 : decode cX8_isAsSeen 150 = .ok (.iconst 0, 1) := dk_3 (dk_at dksX8_isAsSeen_6 10 rfl rfl)
theorem dX8_isAsSeen_151 : decode cX8_isAsSeen 151 = .ok (.invokevirtual 172, 3) := dk_182 0 172 (dk_at dksX8_isAsSeen_6 11 rfl rfl)
theorem dX8_isAsSeen_154 : decode cX8_isAsSeen 154 = .ok (.iinc 4 1, 3) := dk_132 4 1 (dk_at dksX8_isAsSeen_6 14 rfl rfl)
theorem dX8_isAsSeen_157 : decode cX8_isAsSeen 157 = .ok (.goto (-144), 3) := dk_167 255 112 (dk_at dksX8_isAsSeen_6 17 rfl rfl)
theorem dX8_isAsSeen_160 : decode cX8_isAsSeen 160 = .ok (.iload_n 3, 1) := dk_29 (dk_at dksX8_isAsSeen_6 20 rfl rfl)
theorem dX8_isAsSeen_161 : decode cX8_isAsSeen 161 = .ok (.ireturn, 1) := dk_172 (dk_at dksX8_isAsSeen_6 21 rfl rfl)
abbrev cX8_losses : ByteArray := prog_12_method_61_code
def yX8_losses : MethodName := ⟨RX8, "losses", "(I)I"⟩
def dkwX8_losses_0 : List UInt8 := [42, 27, 182, 0, 144, 153, 0, 17, 42, 16, 8, 27, 96, 27, 16, 10, 182, 0, 220, 167, 0, 4, 2, 172]
abbrev dktX8_losses_0 : List UInt8 := dkwX8_losses_0 ++ []
theorem dksX8_losses_0 : cX8_losses.data.toList.drop 0 = dktX8_losses_0 := by decide +kernel
theorem dX8_losses_0 : decode cX8_losses 0 = .ok (.aload_n 0, 1) := dk_42 (dk_at dksX8_losses_0 0 rfl rfl)
theorem dX8_losses_1 : decode cX8_losses 1 = .ok (.iload_n 1, 1) := dk_27 (dk_at dksX8_losses_0 1 rfl rfl)
theorem dX8_losses_2 : decode cX8_losses 2 = .ok (.invokevirtual 144, 3) := dk_182 0 144 (dk_at dksX8_losses_0 2 rfl rfl)
theorem dX8_losses_5 : decode cX8_losses 5 = .ok (.ifCond .eq 17, 3) := dk_153 0 17 (dk_at dksX8_losses_0 5 rfl rfl)
theorem dX8_losses_8 : decode cX8_losses 8 = .ok (.aload_n 0, 1) := dk_42 (dk_at dksX8_losses_0 8 rfl rfl)
theorem dX8_losses_9 : decode cX8_losses 9 = .ok (.bipush 8, 2) := dk_16 8 (dk_at dksX8_losses_0 9 rfl rfl)
theorem dX8_losses_11 : decode cX8_losses 11 = .ok (.iload_n 1, 1) := dk_27 (dk_at dksX8_losses_0 11 rfl rfl)
theorem dX8_losses_12 : decode cX8_losses 12 = .ok (.iadd, 1) := dk_96 (dk_at dksX8_losses_0 12 rfl rfl)
theorem dX8_losses_13 : decode cX8_losses 13 = .ok (.iload_n 1, 1) := dk_27 (dk_at dksX8_losses_0 13 rfl rfl)
theorem dX8_losses_14 : decode cX8_losses 14 = .ok (.bipush 10, 2) := dk_16 10 (dk_at dksX8_losses_0 14 rfl rfl)
theorem dX8_losses_16 : decode cX8_losses 16 = .ok (.invokevirtual 220, 3) := dk_182 0 220 (dk_at dksX8_losses_0 16 rfl rfl)
theorem dX8_losses_19 : decode cX8_losses 19 = .ok (.goto 4, 3) := dk_167 0 4 (dk_at dksX8_losses_0 19 rfl rfl)
theorem dX8_losses_22 : decode cX8_losses 22 = .ok (.iconst (-1), 1) := dk_2 (dk_at dksX8_losses_0 22 rfl rfl)
theorem dX8_losses_23 : decode cX8_losses 23 = .ok (.ireturn, 1) := dk_172 (dk_at dksX8_losses_0 23 rfl rfl)
abbrev cX8_ask : ByteArray := prog_12_method_63_code
def yX8_ask : MethodName := ⟨RX8, "ask", "(II)I"⟩
def dkwX8_ask_6 : List UInt8 := [172]
abbrev dktX8_ask_6 : List UInt8 := dkwX8_ask_6 ++ []
def dkwX8_ask_5 : List UInt8 := [132, 6, 1, 167, 255, 205, 21, 5, 16, 252, 159, 0, 7, 28, 154, 0, 8, 21, 5, 167, 0, 5, 21, 4]
abbrev dktX8_ask_5 : List UInt8 := dkwX8_ask_5 ++ dktX8_ask_6
def dkwX8_ask_4 : List UInt8 := [167, 0, 5, 21, 5, 54, 5, 21, 7, 21, 4, 162, 0, 8, 21, 7, 167, 0, 5, 21, 4, 54, 4]
abbrev dktX8_ask_4 : List UInt8 := dkwX8_ask_4 ++ dktX8_ask_5
def dkwX8_ask_3 : List UInt8 := [16, 40, 163, 0, 50, 42, 29, 21, 6, 182, 0, 224, 54, 7, 21, 7, 21, 4, 162, 0, 8, 21, 6]
abbrev dktX8_ask_3 : List UInt8 := dkwX8_ask_3 ++ dktX8_ask_4
def dkwX8_ask_2 : List UInt8 := [21, 5, 122, 4, 126, 96, 54, 4, 132, 5, 1, 167, 255, 235, 16, 252, 54, 5, 3, 54, 6, 21, 6]
abbrev dktX8_ask_2 : List UInt8 := dkwX8_ask_2 ++ dktX8_ask_3
def dkwX8_ask_1 : List UInt8 := [96, 27, 16, 10, 182, 0, 220, 62, 3, 54, 4, 3, 54, 5, 21, 5, 16, 9, 163, 0, 20, 21, 4, 29]
abbrev dktX8_ask_1 : List UInt8 := dkwX8_ask_1 ++ dktX8_ask_2
def dkwX8_ask_0 : List UInt8 := [42, 27, 182, 0, 144, 153, 0, 13, 28, 133, 9, 10, 184, 0, 53, 154, 0, 5, 2, 172, 42, 16, 8, 27]
abbrev dktX8_ask_0 : List UInt8 := dkwX8_ask_0 ++ dktX8_ask_1
theorem dksX8_ask_0 : cX8_ask.data.toList.drop 0 = dktX8_ask_0 := by decide +kernel
theorem dksX8_ask_1 : cX8_ask.data.toList.drop 24 = dktX8_ask_1 := dk_seg dksX8_ask_0 24 rfl rfl
theorem dksX8_ask_2 : cX8_ask.data.toList.drop 48 = dktX8_ask_2 := dk_seg dksX8_ask_1 24 rfl rfl
theorem dksX8_ask_3 : cX8_ask.data.toList.drop 71 = dktX8_ask_3 := dk_seg dksX8_ask_2 23 rfl rfl
theorem dksX8_ask_4 : cX8_ask.data.toList.drop 94 = dktX8_ask_4 := dk_seg dksX8_ask_3 23 rfl rfl
theorem dksX8_ask_5 : cX8_ask.data.toList.drop 117 = dktX8_ask_5 := dk_seg dksX8_ask_4 23 rfl rfl
theorem dksX8_ask_6 : cX8_ask.data.toList.drop 141 = dktX8_ask_6 := dk_seg dksX8_ask_5 24 rfl rfl
theorem dX8_ask_0 : decode cX8_ask 0 = .ok (.aload_n 0, 1) := dk_42 (dk_at dksX8_ask_0 0 rfl rfl)
theorem dX8_ask_1 : decode cX8_ask 1 = .ok (.iload_n 1, 1) := dk_27 (dk_at dksX8_ask_0 1 rfl rfl)
theorem dX8_ask_2 : decode cX8_ask 2 = .ok (.invokevirtual 144, 3) := dk_182 0 144 (dk_at dksX8_ask_0 2 rfl rfl)
theorem dX8_ask_5 : decode cX8_ask 5 = .ok (.ifCond .eq 13, 3) := dk_153 0 13 (dk_at dksX8_ask_0 5 rfl rfl)
theorem dX8_ask_8 : decode cX8_ask 8 = .ok (.iload_n 2, 1) := dk_28 (dk_at dksX8_ask_0 8 rfl rfl)
theorem dX8_ask_9 : decode cX8_ask 9 = .ok (.i2l, 1) := dk_133 (dk_at dksX8_ask_0 9 rfl rfl)
theorem dX8_ask_10 : decode cX8_ask 10 = .ok (.lconst 0, 1) := dk_9 (dk_at dksX8_ask_0 10 rfl rfl)
theorem dX8_ask_11 : decode cX8_ask 11 = .ok (.lconst 1, 1) := dk_10 (dk_at dksX8_ask_0 11 rfl rfl)
theorem dX8_ask_12 : decode cX8_ask 12 = .ok (.invokestatic 53, 3) := dk_184 0 53 (dk_at dksX8_ask_0 12 rfl rfl)
theorem dX8_ask_15 : decode cX8_ask 15 = .ok (.ifCond .ne 5, 3) := dk_154 0 5 (dk_at dksX8_ask_0 15 rfl rfl)
theorem dX8_ask_18 : decode cX8_ask 18 = .ok (.iconst (-1), 1) := dk_2 (dk_at dksX8_ask_0 18 rfl rfl)
theorem dX8_ask_19 : decode cX8_ask 19 = .ok (.ireturn, 1) := dk_172 (dk_at dksX8_ask_0 19 rfl rfl)
theorem dX8_ask_20 : decode cX8_ask 20 = .ok (.aload_n 0, 1) := dk_42 (dk_at dksX8_ask_0 20 rfl rfl)
theorem dX8_ask_21 : decode cX8_ask 21 = .ok (.bipush 8, 2) := dk_16 8 (dk_at dksX8_ask_0 21 rfl rfl)
theorem dX8_ask_23 : decode cX8_ask 23 = .ok (.iload_n 1, 1) := dk_27 (dk_at dksX8_ask_0 23 rfl rfl)
theorem dX8_ask_24 : decode cX8_ask 24 = .ok (.iadd, 1) := dk_96 (dk_at dksX8_ask_1 0 rfl rfl)
theorem dX8_ask_25 : decode cX8_ask 25 = .ok (.iload_n 1, 1) := dk_27 (dk_at dksX8_ask_1 1 rfl rfl)
theorem dX8_ask_26 : decode cX8_ask 26 = .ok (.bipush 10, 2) := dk_16 10 (dk_at dksX8_ask_1 2 rfl rfl)
theorem dX8_ask_28 : decode cX8_ask 28 = .ok (.invokevirtual 220, 3) := dk_182 0 220 (dk_at dksX8_ask_1 4 rfl rfl)
theorem dX8_ask_31 : decode cX8_ask 31 = .ok (.istore_n 3, 1) := dk_62 (dk_at dksX8_ask_1 7 rfl rfl)
theorem dX8_ask_32 : decode cX8_ask 32 = .ok (.iconst 0, 1) := dk_3 (dk_at dksX8_ask_1 8 rfl rfl)
theorem dX8_ask_33 : decode cX8_ask 33 = .ok (.istore 4, 2) := dk_54 4 (dk_at dksX8_ask_1 9 rfl rfl)
theorem dX8_ask_35 : decode cX8_ask 35 = .ok (.iconst 0, 1) := dk_3 (dk_at dksX8_ask_1 11 rfl rfl)
theorem dX8_ask_36 : decode cX8_ask 36 = .ok (.istore 5, 2) := dk_54 5 (dk_at dksX8_ask_1 12 rfl rfl)
theorem dX8_ask_38 : decode cX8_ask 38 = .ok (.iload 5, 2) := dk_21 5 (dk_at dksX8_ask_1 14 rfl rfl)
theorem dX8_ask_40 : decode cX8_ask 40 = .ok (.bipush 9, 2) := dk_16 9 (dk_at dksX8_ask_1 16 rfl rfl)
theorem dX8_ask_42 : decode cX8_ask 42 = .ok (.if_icmp .gt 20, 3) := dk_163 0 20 (dk_at dksX8_ask_1 18 rfl rfl)
theorem dX8_ask_45 : decode cX8_ask 45 = .ok (.iload 4, 2) := dk_21 4 (dk_at dksX8_ask_1 21 rfl rfl)
theorem dX8_ask_47 : decode cX8_ask 47 = .ok (.iload_n 3, 1) := dk_29 (dk_at dksX8_ask_1 23 rfl rfl)
theorem dX8_ask_48 : decode cX8_ask 48 = .ok (.iload 5, 2) := dk_21 5 (dk_at dksX8_ask_2 0 rfl rfl)
theorem dX8_ask_50 : decode cX8_ask 50 = .ok (.ishr, 1) := dk_122 (dk_at dksX8_ask_2 2 rfl rfl)
theorem dX8_ask_51 : decode cX8_ask 51 = .ok (.iconst 1, 1) := dk_4 (dk_at dksX8_ask_2 3 rfl rfl)
theorem dX8_ask_52 : decode cX8_ask 52 = .ok (.iand, 1) := dk_126 (dk_at dksX8_ask_2 4 rfl rfl)
theorem dX8_ask_53 : decode cX8_ask 53 = .ok (.iadd, 1) := dk_96 (dk_at dksX8_ask_2 5 rfl rfl)
theorem dX8_ask_54 : decode cX8_ask 54 = .ok (.istore 4, 2) := dk_54 4 (dk_at dksX8_ask_2 6 rfl rfl)
theorem dX8_ask_56 : decode cX8_ask 56 = .ok (.iinc 5 1, 3) := dk_132 5 1 (dk_at dksX8_ask_2 8 rfl rfl)
theorem dX8_ask_59 : decode cX8_ask 59 = .ok (.goto (-21), 3) := dk_167 255 235 (dk_at dksX8_ask_2 11 rfl rfl)
theorem dX8_ask_62 : decode cX8_ask 62 = .ok (.bipush (-4), 2) := dk_16 252 (dk_at dksX8_ask_2 14 rfl rfl)
theorem dX8_ask_64 : decode cX8_ask 64 = .ok (.istore 5, 2) := dk_54 5 (dk_at dksX8_ask_2 16 rfl rfl)
theorem dX8_ask_66 : decode cX8_ask 66 = .ok (.iconst 0, 1) := dk_3 (dk_at dksX8_ask_2 18 rfl rfl)
theorem dX8_ask_67 : decode cX8_ask 67 = .ok (.istore 6, 2) := dk_54 6 (dk_at dksX8_ask_2 19 rfl rfl)
theorem dX8_ask_69 : decode cX8_ask 69 = .ok (.iload 6, 2) := dk_21 6 (dk_at dksX8_ask_2 21 rfl rfl)
theorem dX8_ask_71 : decode cX8_ask 71 = .ok (.bipush 40, 2) := dk_16 40 (dk_at dksX8_ask_3 0 rfl rfl)
theorem dX8_ask_73 : decode cX8_ask 73 = .ok (.if_icmp .gt 50, 3) := dk_163 0 50 (dk_at dksX8_ask_3 2 rfl rfl)
theorem dX8_ask_76 : decode cX8_ask 76 = .ok (.aload_n 0, 1) := dk_42 (dk_at dksX8_ask_3 5 rfl rfl)
theorem dX8_ask_77 : decode cX8_ask 77 = .ok (.iload_n 3, 1) := dk_29 (dk_at dksX8_ask_3 6 rfl rfl)
theorem dX8_ask_78 : decode cX8_ask 78 = .ok (.iload 6, 2) := dk_21 6 (dk_at dksX8_ask_3 7 rfl rfl)
theorem dX8_ask_80 : decode cX8_ask 80 = .ok (.invokevirtual 224, 3) := dk_182 0 224 (dk_at dksX8_ask_3 9 rfl rfl)
theorem dX8_ask_83 : decode cX8_ask 83 = .ok (.istore 7, 2) := dk_54 7 (dk_at dksX8_ask_3 12 rfl rfl)
theorem dX8_ask_85 : decode cX8_ask 85 = .ok (.iload 7, 2) := dk_21 7 (dk_at dksX8_ask_3 14 rfl rfl)
theorem dX8_ask_87 : decode cX8_ask 87 = .ok (.iload 4, 2) := dk_21 4 (dk_at dksX8_ask_3 16 rfl rfl)
theorem dX8_ask_89 : decode cX8_ask 89 = .ok (.if_icmp .ge 8, 3) := dk_162 0 8 (dk_at dksX8_ask_3 18 rfl rfl)
theorem dX8_ask_92 : decode cX8_ask 92 = .ok (.iload 6, 2) := dk_21 6 (dk_at dksX8_ask_3 21 rfl rfl)
theorem dX8_ask_94 : decode cX8_ask 94 = .ok (.goto 5, 3) := dk_167 0 5 (dk_at dksX8_ask_4 0 rfl rfl)
theorem dX8_ask_97 : decode cX8_ask 97 = .ok (.iload 5, 2) := dk_21 5 (dk_at dksX8_ask_4 3 rfl rfl)
theorem dX8_ask_99 : decode cX8_ask 99 = .ok (.istore 5, 2) := dk_54 5 (dk_at dksX8_ask_4 5 rfl rfl)
theorem dX8_ask_101 : decode cX8_ask 101 = .ok (.iload 7, 2) := dk_21 7 (dk_at dksX8_ask_4 7 rfl rfl)
theorem dX8_ask_103 : decode cX8_ask 103 = .ok (.iload 4, 2) := dk_21 4 (dk_at dksX8_ask_4 9 rfl rfl)
theorem dX8_ask_105 : decode cX8_ask 105 = .ok (.if_icmp .ge 8, 3) := dk_162 0 8 (dk_at dksX8_ask_4 11 rfl rfl)
theorem dX8_ask_108 : decode cX8_ask 108 = .ok (.iload 7, 2) := dk_21 7 (dk_at dksX8_ask_4 14 rfl rfl)
theorem dX8_ask_110 : decode cX8_ask 110 = .ok (.goto 5, 3) := dk_167 0 5 (dk_at dksX8_ask_4 16 rfl rfl)
theorem dX8_ask_113 : decode cX8_ask 113 = .ok (.iload 4, 2) := dk_21 4 (dk_at dksX8_ask_4 19 rfl rfl)
theorem dX8_ask_115 : decode cX8_ask 115 = .ok (.istore 4, 2) := dk_54 4 (dk_at dksX8_ask_4 21 rfl rfl)
theorem dX8_ask_117 : decode cX8_ask 117 = .ok (.iinc 6 1, 3) := dk_132 6 1 (dk_at dksX8_ask_5 0 rfl rfl)
theorem dX8_ask_120 : decode cX8_ask 120 = .ok (.goto (-51), 3) := dk_167 255 205 (dk_at dksX8_ask_5 3 rfl rfl)
theorem dX8_ask_123 : decode cX8_ask 123 = .ok (.iload 5, 2) := dk_21 5 (dk_at dksX8_ask_5 6 rfl rfl)
theorem dX8_ask_125 : decode cX8_ask 125 = .ok (.bipush (-4), 2) := dk_16 252 (dk_at dksX8_ask_5 8 rfl rfl)
theorem dX8_ask_127 : decode cX8_ask 127 = .ok (.if_icmp .eq 7, 3) := dk_159 0 7 (dk_at dksX8_ask_5 10 rfl rfl)
theorem dX8_ask_130 : decode cX8_ask 130 = .ok (.iload_n 2, 1) := dk_28 (dk_at dksX8_ask_5 13 rfl rfl)
theorem dX8_ask_131 : decode cX8_ask 131 = .ok (.ifCond .ne 8, 3) := dk_154 0 8 (dk_at dksX8_ask_5 14 rfl rfl)
theorem dX8_ask_134 : decode cX8_ask 134 = .ok (.iload 5, 2) := dk_21 5 (dk_at dksX8_ask_5 17 rfl rfl)
theorem dX8_ask_136 : decode cX8_ask 136 = .ok (.goto 5, 3) := dk_167 0 5 (dk_at dksX8_ask_5 19 rfl rfl)
theorem dX8_ask_139 : decode cX8_ask 139 = .ok (.iload 4, 2) := dk_21 4 (dk_at dksX8_ask_5 22 rfl rfl)
theorem dX8_ask_141 : decode cX8_ask 141 = .ok (.ireturn, 1) := dk_172 (dk_at dksX8_ask_6 0 rfl rfl)
abbrev cX8_worstAt : ByteArray := prog_12_method_62_code
def yX8_worstAt : MethodName := ⟨RX8, "worstAt", "(II)I"⟩
def dkwX8_worstAt_4 : List UInt8 := [164, 0, 8, 21, 5, 167, 0, 4, 29, 62, 132, 4, 1, 167, 255, 157, 29, 172]
abbrev dktX8_worstAt_4 : List UInt8 := dkwX8_worstAt_4 ++ []
def dkwX8_worstAt_3 : List UInt8 := [28, 96, 46, 160, 0, 7, 4, 167, 0, 4, 3, 96, 54, 5, 132, 6, 1, 167, 255, 189, 21, 5, 29]
abbrev dktX8_worstAt_3 : List UInt8 := dkwX8_worstAt_3 ++ dktX8_worstAt_4
def dkwX8_worstAt_2 : List UInt8 := [160, 0, 34, 42, 180, 0, 35, 16, 41, 21, 4, 104, 28, 96, 46, 42, 180, 0, 35, 16, 41, 21, 6, 104]
abbrev dktX8_worstAt_2 : List UInt8 := dkwX8_worstAt_2 ++ dktX8_worstAt_3
def dkwX8_worstAt_1 : List UInt8 := [163, 0, 66, 27, 21, 4, 122, 4, 126, 4, 160, 0, 56, 21, 5, 27, 21, 6, 122, 4, 126, 4]
abbrev dktX8_worstAt_1 : List UInt8 := dkwX8_worstAt_1 ++ dktX8_worstAt_2
def dkwX8_worstAt_0 : List UInt8 := [3, 62, 3, 54, 4, 21, 4, 16, 9, 163, 0, 98, 3, 54, 5, 3, 54, 6, 21, 6, 16, 9]
abbrev dktX8_worstAt_0 : List UInt8 := dkwX8_worstAt_0 ++ dktX8_worstAt_1
theorem dksX8_worstAt_0 : cX8_worstAt.data.toList.drop 0 = dktX8_worstAt_0 := by decide +kernel
theorem dksX8_worstAt_1 : cX8_worstAt.data.toList.drop 22 = dktX8_worstAt_1 := dk_seg dksX8_worstAt_0 22 rfl rfl
theorem dksX8_worstAt_2 : cX8_worstAt.data.toList.drop 44 = dktX8_worstAt_2 := dk_seg dksX8_worstAt_1 22 rfl rfl
theorem dksX8_worstAt_3 : cX8_worstAt.data.toList.drop 68 = dktX8_worstAt_3 := dk_seg dksX8_worstAt_2 24 rfl rfl
theorem dksX8_worstAt_4 : cX8_worstAt.data.toList.drop 91 = dktX8_worstAt_4 := dk_seg dksX8_worstAt_3 23 rfl rfl
theorem dX8_worstAt_0 : decode cX8_worstAt 0 = .ok (.iconst 0, 1) := dk_3 (dk_at dksX8_worstAt_0 0 rfl rfl)
theorem dX8_worstAt_1 : decode cX8_worstAt 1 = .ok (.istore_n 3, 1) := dk_62 (dk_at dksX8_worstAt_0 1 rfl rfl)
theorem dX8_worstAt_2 : decode cX8_worstAt 2 = .ok (.iconst 0, 1) := dk_3 (dk_at dksX8_worstAt_0 2 rfl rfl)
theorem dX8_worstAt_3 : decode cX8_worstAt 3 = .ok (.istore 4, 2) := dk_54 4 (dk_at dksX8_worstAt_0 3 rfl rfl)
theorem dX8_worstAt_5 : decode cX8_worstAt 5 = .ok (.iload 4, 2) := dk_21 4 (dk_at dksX8_worstAt_0 5 rfl rfl)
theorem dX8_worstAt_7 : decode cX8_worstAt 7 = .ok (.bipush 9, 2) := dk_16 9 (dk_at dksX8_worstAt_0 7 rfl rfl)
theorem dX8_worstAt_9 : decode cX8_worstAt 9 = .ok (.if_icmp .gt 98, 3) := dk_163 0 98 (dk_at dksX8_worstAt_0 9 rfl rfl)
theorem dX8_worstAt_12 : decode cX8_worstAt 12 = .ok (.iconst 0, 1) := dk_3 (dk_at dksX8_worstAt_0 12 rfl rfl)
theorem dX8_worstAt_13 : decode cX8_worstAt 13 = .ok (.istore 5, 2) := dk_54 5 (dk_at dksX8_worstAt_0 13 rfl rfl)
theorem dX8_worstAt_15 : decode cX8_worstAt 15 = .ok (.iconst 0, 1) := dk_3 (dk_at dksX8_worstAt_0 15 rfl rfl)
theorem dX8_worstAt_16 : decode cX8_worstAt 16 = .ok (.istore 6, 2) := dk_54 6 (dk_at dksX8_worstAt_0 16 rfl rfl)
theorem dX8_worstAt_18 : decode cX8_worstAt 18 = .ok (.iload 6, 2) := dk_21 6 (dk_at dksX8_worstAt_0 18 rfl rfl)
theorem dX8_worstAt_20 : decode cX8_worstAt 20 = .ok (.bipush 9, 2) := dk_16 9 (dk_at dksX8_worstAt_0 20 rfl rfl)
theorem dX8_worstAt_22 : decode cX8_worstAt 22 = .ok (.if_icmp .gt 66, 3) := dk_163 0 66 (dk_at dksX8_worstAt_1 0 rfl rfl)
theorem dX8_worstAt_25 : decode cX8_worstAt 25 = .ok (.iload_n 1, 1) := dk_27 (dk_at dksX8_worstAt_1 3 rfl rfl)
theorem dX8_worstAt_26 : decode cX8_worstAt 26 = .ok (.iload 4, 2) := dk_21 4 (dk_at dksX8_worstAt_1 4 rfl rfl)
theorem dX8_worstAt_28 : decode cX8_worstAt 28 = .ok (.ishr, 1) := dk_122 (dk_at dksX8_worstAt_1 6 rfl rfl)
theorem dX8_worstAt_29 : decode cX8_worstAt 29 = .ok (.iconst 1, 1) := dk_4 (dk_at dksX8_worstAt_1 7 rfl rfl)
theorem dX8_worstAt_30 : decode cX8_worstAt 30 = .ok (.iand, 1) := dk_126 (dk_at dksX8_worstAt_1 8 rfl rfl)
theorem dX8_worstAt_31 : decode cX8_worstAt 31 = .ok (.iconst 1, 1) := dk_4 (dk_at dksX8_worstAt_1 9 rfl rfl)
theorem dX8_worstAt_32 : decode cX8_worstAt 32 = .ok (.if_icmp .ne 56, 3) := dk_160 0 56 (dk_at dksX8_worstAt_1 10 rfl rfl)
theorem dX8_worstAt_35 : decode cX8_worstAt 35 = .ok (.iload 5, 2) := dk_21 5 (dk_at dksX8_worstAt_1 13 rfl rfl)
theorem dX8_worstAt_37 : decode cX8_worstAt 37 = .ok (.iload_n 1, 1) := dk_27 (dk_at dksX8_worstAt_1 15 rfl rfl)
theorem dX8_worstAt_38 : decode cX8_worstAt 38 = .ok (.iload 6, 2) := dk_21 6 (dk_at dksX8_worstAt_1 16 rfl rfl)
theorem dX8_worstAt_40 : decode cX8_worstAt 40 = .ok (.ishr, 1) := dk_122 (dk_at dksX8_worstAt_1 18 rfl rfl)
theorem dX8_worstAt_41 : decode cX8_worstAt 41 = .ok (.iconst 1, 1) := dk_4 (dk_at dksX8_worstAt_1 19 rfl rfl)
theorem dX8_worstAt_42 : decode cX8_worstAt 42 = .ok (.iand, 1) := dk_126 (dk_at dksX8_worstAt_1 20 rfl rfl)
theorem dX8_worstAt_43 : decode cX8_worstAt 43 = .ok (.iconst 1, 1) := dk_4 (dk_at dksX8_worstAt_1 21 rfl rfl)
theorem dX8_worstAt_44 : decode cX8_worstAt 44 = .ok (.if_icmp .ne 34, 3) := dk_160 0 34 (dk_at dksX8_worstAt_2 0 rfl rfl)
theorem dX8_worstAt_47 : decode cX8_worstAt 47 = .ok (.aload_n 0, 1) := dk_42 (dk_at dksX8_worstAt_2 3 rfl rfl)
theorem dX8_worstAt_48 : decode cX8_worstAt 48 = .ok (.getfield 35, 3) := dk_180 0 35 (dk_at dksX8_worstAt_2 4 rfl rfl)
theorem dX8_worstAt_51 : decode cX8_worstAt 51 = .ok (.bipush 41, 2) := dk_16 41 (dk_at dksX8_worstAt_2 7 rfl rfl)
theorem dX8_worstAt_53 : decode cX8_worstAt 53 = .ok (.iload 4, 2) := dk_21 4 (dk_at dksX8_worstAt_2 9 rfl rfl)
theorem dX8_worstAt_55 : decode cX8_worstAt 55 = .ok (.imul, 1) := dk_104 (dk_at dksX8_worstAt_2 11 rfl rfl)
theorem dX8_worstAt_56 : decode cX8_worstAt 56 = .ok (.iload_n 2, 1) := dk_28 (dk_at dksX8_worstAt_2 12 rfl rfl)
theorem dX8_worstAt_57 : decode cX8_worstAt 57 = .ok (.iadd, 1) := dk_96 (dk_at dksX8_worstAt_2 13 rfl rfl)
theorem dX8_worstAt_58 : decode cX8_worstAt 58 = .ok (.iaload, 1) := dk_46 (dk_at dksX8_worstAt_2 14 rfl rfl)
theorem dX8_worstAt_59 : decode cX8_worstAt 59 = .ok (.aload_n 0, 1) := dk_42 (dk_at dksX8_worstAt_2 15 rfl rfl)
theorem dX8_worstAt_60 : decode cX8_worstAt 60 = .ok (.getfield 35, 3) := dk_180 0 35 (dk_at dksX8_worstAt_2 16 rfl rfl)
theorem dX8_worstAt_63 : decode cX8_worstAt 63 = .ok (.bipush 41, 2) := dk_16 41 (dk_at dksX8_worstAt_2 19 rfl rfl)
theorem dX8_worstAt_65 : decode cX8_worstAt 65 = .ok (.iload 6, 2) := dk_21 6 (dk_at dksX8_worstAt_2 21 rfl rfl)
theorem dX8_worstAt_67 : decode cX8_worstAt 67 = .ok (.imul, 1) := dk_104 (dk_at dksX8_worstAt_2 23 rfl rfl)
theorem dX8_worstAt_68 : decode cX8_worstAt 68 = .ok (.iload_n 2, 1) := dk_28 (dk_at dksX8_worstAt_3 0 rfl rfl)
theorem dX8_worstAt_69 : decode cX8_worstAt 69 = .ok (.iadd, 1) := dk_96 (dk_at dksX8_worstAt_3 1 rfl rfl)
theorem dX8_worstAt_70 : decode cX8_worstAt 70 = .ok (.iaload, 1) := dk_46 (dk_at dksX8_worstAt_3 2 rfl rfl)
theorem dX8_worstAt_71 : decode cX8_worstAt 71 = .ok (.if_icmp .ne 7, 3) := dk_160 0 7 (dk_at dksX8_worstAt_3 3 rfl rfl)
theorem dX8_worstAt_74 : decode cX8_worstAt 74 = .ok (.iconst 1, 1) := dk_4 (dk_at dksX8_worstAt_3 6 rfl rfl)
theorem dX8_worstAt_75 : decode cX8_worstAt 75 = .ok (.goto 4, 3) := dk_167 0 4 (dk_at dksX8_worstAt_3 7 rfl rfl)
theorem dX8_worstAt_78 : decode cX8_worstAt 78 = .ok (.iconst 0, 1) := dk_3 (dk_at dksX8_worstAt_3 10 rfl rfl)
theorem dX8_worstAt_79 : decode cX8_worstAt 79 = .ok (.iadd, 1) := dk_96 (dk_at dksX8_worstAt_3 11 rfl rfl)
theorem dX8_worstAt_80 : decode cX8_worstAt 80 = .ok (.istore 5, 2) := dk_54 5 (dk_at dksX8_worstAt_3 12 rfl rfl)
theorem dX8_worstAt_82 : decode cX8_worstAt 82 = .ok (.iinc 6 1, 3) := dk_132 6 1 (dk_at dksX8_worstAt_3 14 rfl rfl)
theorem dX8_worstAt_85 : decode cX8_worstAt 85 = .ok (.goto (-67), 3) := dk_167 255 189 (dk_at dksX8_worstAt_3 17 rfl rfl)
theorem dX8_worstAt_88 : decode cX8_worstAt 88 = .ok (.iload 5, 2) := dk_21 5 (dk_at dksX8_worstAt_3 20 rfl rfl)
theorem dX8_worstAt_90 : decode cX8_worstAt 90 = .ok (.iload_n 3, 1) := dk_29 (dk_at dksX8_worstAt_3 22 rfl rfl)
theorem dX8_worstAt_91 : decode cX8_worstAt 91 = .ok (.if_icmp .le 8, 3) := dk_164 0 8 (dk_at dksX8_worstAt_4 0 rfl rfl)
theorem dX8_worstAt_94 : decode cX8_worstAt 94 = .ok (.iload 5, 2) := dk_21 5 (dk_at dksX8_worstAt_4 3 rfl rfl)
theorem dX8_worstAt_96 : decode cX8_worstAt 96 = .ok (.goto 4, 3) := dk_167 0 4 (dk_at dksX8_worstAt_4 5 rfl rfl)
theorem dX8_worstAt_99 : decode cX8_worstAt 99 = .ok (.iload_n 3, 1) := dk_29 (dk_at dksX8_worstAt_4 8 rfl rfl)
theorem dX8_worstAt_100 : decode cX8_worstAt 100 = .ok (.istore_n 3, 1) := dk_62 (dk_at dksX8_worstAt_4 9 rfl rfl)
theorem dX8_worstAt_101 : decode cX8_worstAt 101 = .ok (.iinc 4 1, 3) := dk_132 4 1 (dk_at dksX8_worstAt_4 10 rfl rfl)
theorem dX8_worstAt_104 : decode cX8_worstAt 104 = .ok (.goto (-99), 3) := dk_167 255 157 (dk_at dksX8_worstAt_4 13 rfl rfl)
theorem dX8_worstAt_107 : decode cX8_worstAt 107 = .ok (.iload_n 3, 1) := dk_29 (dk_at dksX8_worstAt_4 16 rfl rfl)
theorem dX8_worstAt_108 : decode cX8_worstAt 108 = .ok (.ireturn, 1) := dk_172 (dk_at dksX8_worstAt_4 17 rfl rfl)
abbrev cX8_drift : ByteArray := prog_12_method_64_code
def yX8_drift : MethodName := ⟨RX8, "drift", "(III)I"⟩
def dkwX8_drift_5 : List UInt8 := [46, 100, 167, 0, 10, 42, 17, 0, 156, 182, 0, 191, 172]
abbrev dktX8_drift_5 : List UInt8 := dkwX8_drift_5 ++ []
def dkwX8_drift_4 : List UInt8 := [132, 5, 1, 167, 255, 208, 29, 154, 0, 22, 42, 180, 0, 7, 17, 0, 193, 46, 42, 180, 0, 7, 16, 37]
abbrev dktX8_drift_4 : List UInt8 := dkwX8_drift_4 ++ dktX8_drift_5
def dkwX8_drift_3 : List UInt8 := [21, 4, 16, 16, 122, 17, 127, 255, 126, 17, 0, 204, 112, 3, 182, 0, 137, 42, 17, 0, 156, 182, 0, 141]
abbrev dktX8_drift_3 : List UInt8 := dkwX8_drift_3 ++ dktX8_drift_4
def dkwX8_drift_2 : List UInt8 := [3, 54, 5, 21, 5, 28, 162, 0, 48, 21, 4, 18, 227, 104, 17, 48, 57, 96, 54, 4, 42, 17, 0, 156]
abbrev dktX8_drift_2 : List UInt8 := dkwX8_drift_2 ++ dktX8_drift_3
def dkwX8_drift_1 : List UInt8 := [42, 180, 0, 7, 16, 16, 46, 154, 0, 6, 16, 254, 172, 42, 3, 17, 0, 156, 182, 0, 176, 27, 54, 4]
abbrev dktX8_drift_1 : List UInt8 := dkwX8_drift_1 ++ dktX8_drift_2
def dkwX8_drift_0 : List UInt8 := [28, 133, 10, 20, 0, 123, 184, 0, 53, 153, 0, 13, 29, 133, 9, 10, 184, 0, 53, 154, 0, 5, 2, 172]
abbrev dktX8_drift_0 : List UInt8 := dkwX8_drift_0 ++ dktX8_drift_1
theorem dksX8_drift_0 : cX8_drift.data.toList.drop 0 = dktX8_drift_0 := by decide +kernel
theorem dksX8_drift_1 : cX8_drift.data.toList.drop 24 = dktX8_drift_1 := dk_seg dksX8_drift_0 24 rfl rfl
theorem dksX8_drift_2 : cX8_drift.data.toList.drop 48 = dktX8_drift_2 := dk_seg dksX8_drift_1 24 rfl rfl
theorem dksX8_drift_3 : cX8_drift.data.toList.drop 72 = dktX8_drift_3 := dk_seg dksX8_drift_2 24 rfl rfl
theorem dksX8_drift_4 : cX8_drift.data.toList.drop 96 = dktX8_drift_4 := dk_seg dksX8_drift_3 24 rfl rfl
theorem dksX8_drift_5 : cX8_drift.data.toList.drop 120 = dktX8_drift_5 := dk_seg dksX8_drift_4 24 rfl rfl
theorem dX8_drift_0 : decode cX8_drift 0 = .ok (.iload_n 2, 1) := dk_28 (dk_at dksX8_drift_0 0 rfl rfl)
theorem dX8_drift_1 : decode cX8_drift 1 = .ok (.i2l, 1) := dk_133 (dk_at dksX8_drift_0 1 rfl rfl)
theorem dX8_drift_2 : decode cX8_drift 2 = .ok (.lconst 1, 1) := dk_10 (dk_at dksX8_drift_0 2 rfl rfl)
theorem dX8_drift_3 : decode cX8_drift 3 = .ok (.ldc2_w 123, 3) := dk_20 0 123 (dk_at dksX8_drift_0 3 rfl rfl)
theorem dX8_drift_6 : decode cX8_drift 6 = .ok (.invokestatic 53, 3) := dk_184 0 53 (dk_at dksX8_drift_0 6 rfl rfl)
theorem dX8_drift_9 : decode cX8_drift 9 = .ok (.ifCond .eq 13, 3) := dk_153 0 13 (dk_at dksX8_drift_0 9 rfl rfl)
theorem dX8_drift_12 : decode cX8_drift 12 = .ok (.iload_n 3, 1) := dk_29 (dk_at dksX8_drift_0 12 rfl rfl)
theorem dX8_drift_13 : decode cX8_drift 13 = .ok (.i2l, 1) := dk_133 (dk_at dksX8_drift_0 13 rfl rfl)
theorem dX8_drift_14 : decode cX8_drift 14 = .ok (.lconst 0, 1) := dk_9 (dk_at dksX8_drift_0 14 rfl rfl)
theorem dX8_drift_15 : decode cX8_drift 15 = .ok (.lconst 1, 1) := dk_10 (dk_at dksX8_drift_0 15 rfl rfl)
theorem dX8_drift_16 : decode cX8_drift 16 = .ok (.invokestatic 53, 3) := dk_184 0 53 (dk_at dksX8_drift_0 16 rfl rfl)
theorem dX8_drift_19 : decode cX8_drift 19 = .ok (.ifCond .ne 5, 3) := dk_154 0 5 (dk_at dksX8_drift_0 19 rfl rfl)
theorem dX8_drift_22 : decode cX8_drift 22 = .ok (.iconst (-1), 1) := dk_2 (dk_at dksX8_drift_0 22 rfl rfl)
theorem dX8_drift_23 : decode cX8_drift 23 = .ok (.ireturn, 1) := dk_172 (dk_at dksX8_drift_0 23 rfl rfl)
theorem dX8_drift_24 : decode cX8_drift 24 = .ok (.aload_n 0, 1) := dk_42 (dk_at dksX8_drift_1 0 rfl rfl)
theorem dX8_drift_25 : decode cX8_drift 25 = .ok (.getfield 7, 3) := dk_180 0 7 (dk_at dksX8_drift_1 1 rfl rfl)
theorem dX8_drift_28 : decode cX8_drift 28 = .ok (.bipush 16, 2) := dk_16 16 (dk_at dksX8_drift_1 4 rfl rfl)
theorem dX8_drift_30 : decode cX8_drift 30 = .ok (.iaload, 1) := dk_46 (dk_at dksX8_drift_1 6 rfl rfl)
theorem dX8_drift_31 : decode cX8_drift 31 = .ok (.ifCond .ne 6, 3) := dk_154 0 6 (dk_at dksX8_drift_1 7 rfl rfl)
theorem dX8_drift_34 : decode cX8_drift 34 = .ok (.bipush (-2), 2) := dk_16 254 (dk_at dksX8_drift_1 10 rfl rfl)
theorem dX8_drift_36 : decode cX8_drift 36 = .ok (.ireturn, 1) := dk_172 (dk_at dksX8_drift_1 12 rfl rfl)
theorem dX8_drift_37 : decode cX8_drift 37 = .ok (.aload_n 0, 1) := dk_42 (dk_at dksX8_drift_1 13 rfl rfl)
theorem dX8_drift_38 : decode cX8_drift 38 = .ok (.iconst 0, 1) := dk_3 (dk_at dksX8_drift_1 14 rfl rfl)
theorem dX8_drift_39 : decode cX8_drift 39 = .ok (.sipush 156, 3) := dk_17 0 156 (dk_at dksX8_drift_1 15 rfl rfl)
theorem dX8_drift_42 : decode cX8_drift 42 = .ok (.invokevirtual 176, 3) := dk_182 0 176 (dk_at dksX8_drift_1 18 rfl rfl)
theorem dX8_drift_45 : decode cX8_drift 45 = .ok (.iload_n 1, 1) := dk_27 (dk_at dksX8_drift_1 21 rfl rfl)
theorem dX8_drift_46 : decode cX8_drift 46 = .ok (.istore 4, 2) := dk_54 4 (dk_at dksX8_drift_1 22 rfl rfl)
theorem dX8_drift_48 : decode cX8_drift 48 = .ok (.iconst 0, 1) := dk_3 (dk_at dksX8_drift_2 0 rfl rfl)
theorem dX8_drift_49 : decode cX8_drift 49 = .ok (.istore 5, 2) := dk_54 5 (dk_at dksX8_drift_2 1 rfl rfl)
theorem dX8_drift_51 : decode cX8_drift 51 = .ok (.iload 5, 2) := dk_21 5 (dk_at dksX8_drift_2 3 rfl rfl)
theorem dX8_drift_53 : decode cX8_drift 53 = .ok (.iload_n 2, 1) := dk_28 (dk_at dksX8_drift_2 5 rfl rfl)
theorem dX8_drift_54 : decode cX8_drift 54 = .ok (.if_icmp .ge 48, 3) := dk_162 0 48 (dk_at dksX8_drift_2 6 rfl rfl)
theorem dX8_drift_57 : decode cX8_drift 57 = .ok (.iload 4, 2) := dk_21 4 (dk_at dksX8_drift_2 9 rfl rfl)
theorem dX8_drift_59 : decode cX8_drift 59 = .ok (.ldc 227, 2) := dk_18 227 (dk_at dksX8_drift_2 11 rfl rfl)
theorem dX8_drift_61 : decode cX8_drift 61 = .ok (.imul, 1) := dk_104 (dk_at dksX8_drift_2 13 rfl rfl)
theorem dX8_drift_62 : decode cX8_drift 62 = .ok (.sipush 12345, 3) := dk_17 48 57 (dk_at dksX8_drift_2 14 rfl rfl)
theorem dX8_drift_65 : decode cX8_drift 65 = .ok (.iadd, 1) := dk_96 (dk_at dksX8_drift_2 17 rfl rfl)
theorem dX8_drift_66 : decode cX8_drift 66 = .ok (.istore 4, 2) := dk_54 4 (dk_at dksX8_drift_2 18 rfl rfl)
theorem dX8_drift_68 : decode cX8_drift 68 = .ok (.aload_n 0, 1) := dk_42 (dk_at dksX8_drift_2 20 rfl rfl)
theorem dX8_drift_69 : decode cX8_drift 69 = .ok (.sipush 156, 3) := dk_17 0 156 (dk_at dksX8_drift_2 21 rfl rfl)
theorem dX8_drift_72 : decode cX8_drift 72 = .ok (.iload 4, 2) := dk_21 4 (dk_at dksX8_drift_3 0 rfl rfl)
theorem dX8_drift_74 : decode cX8_drift 74 = .ok (.bipush 16, 2) := dk_16 16 (dk_at dksX8_drift_3 2 rfl rfl)
theorem dX8_drift_76 : decode cX8_drift 76 = .ok (.ishr, 1) := dk_122 (dk_at dksX8_drift_3 4 rfl rfl)
theorem dX8_drift_77 : decode cX8_drift 77 = .ok (.sipush 32767, 3) := dk_17 127 255 (dk_at dksX8_drift_3 5 rfl rfl)
theorem dX8_drift_80 : decode cX8_drift 80 = .ok (.iand, 1) := dk_126 (dk_at dksX8_drift_3 8 rfl rfl)
theorem dX8_drift_81 : decode cX8_drift 81 = .ok (.sipush 204, 3) := dk_17 0 204 (dk_at dksX8_drift_3 9 rfl rfl)
theorem dX8_drift_84 : decode cX8_drift 84 = .ok (.irem, 1) := dk_112 (dk_at dksX8_drift_3 12 rfl rfl)
theorem dX8_drift_85 : decode cX8_drift 85 = .ok (.iconst 0, 1) := dk_3 (dk_at dksX8_drift_3 13 rfl rfl)
theorem dX8_drift_86 : decode cX8_drift 86 = .ok (.invokevirtual 137, 3) := dk_182 0 137 (dk_at dksX8_drift_3 14 rfl rfl)
theorem dX8_drift_89 : decode cX8_drift 89 = .ok (.aload_n 0, 1) := dk_42 (dk_at dksX8_drift_3 17 rfl rfl)
theorem dX8_drift_90 : decode cX8_drift 90 = .ok (.sipush 156, 3) := dk_17 0 156 (dk_at dksX8_drift_3 18 rfl rfl)
theorem dX8_drift_93 : decode cX8_drift 93 = .ok (.invokevirtual 141, 3) := dk_182 0 141 (dk_at dksX8_drift_3 21 rfl rfl)
theorem dX8_drift_96 : decode cX8_drift 96 = .ok (.iinc 5 1, 3) := dk_132 5 1 (dk_at dksX8_drift_4 0 rfl rfl)
theorem dX8_drift_99 : decode cX8_drift 99 = .ok (.goto (-48), 3) := dk_167 255 208 (dk_at dksX8_drift_4 3 rfl rfl)
theorem dX8_drift_102 : decode cX8_drift 102 = .ok (.iload_n 3, 1) := dk_29 (dk_at dksX8_drift_4 6 rfl rfl)
theorem dX8_drift_103 : decode cX8_drift 103 = .ok (.ifCond .ne 22, 3) := dk_154 0 22 (dk_at dksX8_drift_4 7 rfl rfl)
theorem dX8_drift_106 : decode cX8_drift 106 = .ok (.aload_n 0, 1) := dk_42 (dk_at dksX8_drift_4 10 rfl rfl)
theorem dX8_drift_107 : decode cX8_drift 107 = .ok (.getfield 7, 3) := dk_180 0 7 (dk_at dksX8_drift_4 11 rfl rfl)
theorem dX8_drift_110 : decode cX8_drift 110 = .ok (.sipush 193, 3) := dk_17 0 193 (dk_at dksX8_drift_4 14 rfl rfl)
theorem dX8_drift_113 : decode cX8_drift 113 = .ok (.iaload, 1) := dk_46 (dk_at dksX8_drift_4 17 rfl rfl)
theorem dX8_drift_114 : decode cX8_drift 114 = .ok (.aload_n 0, 1) := dk_42 (dk_at dksX8_drift_4 18 rfl rfl)
theorem dX8_drift_115 : decode cX8_drift 115 = .ok (.getfield 7, 3) := dk_180 0 7 (dk_at dksX8_drift_4 19 rfl rfl)
theorem dX8_drift_118 : decode cX8_drift 118 = .ok (.bipush 37, 2) := dk_16 37 (dk_at dksX8_drift_4 22 rfl rfl)
theorem dX8_drift_120 : decode cX8_drift 120 = .ok (.iaload, 1) := dk_46 (dk_at dksX8_drift_5 0 rfl rfl)
theorem dX8_drift_121 : decode cX8_drift 121 = .ok (.isub, 1) := dk_100 (dk_at dksX8_drift_5 1 rfl rfl)
theorem dX8_drift_122 : decode cX8_drift 122 = .ok (.goto 10, 3) := dk_167 0 10 (dk_at dksX8_drift_5 2 rfl rfl)
theorem dX8_drift_125 : decode cX8_drift 125 = .ok (.aload_n 0, 1) := dk_42 (dk_at dksX8_drift_5 5 rfl rfl)
theorem dX8_drift_126 : decode cX8_drift 126 = .ok (.sipush 156, 3) := dk_17 0 156 (dk_at dksX8_drift_5 6 rfl rfl)
theorem dX8_drift_129 : decode cX8_drift 129 = .ok (.invokevirtual 191, 3) := dk_182 0 191 (dk_at dksX8_drift_5 9 rfl rfl)
theorem dX8_drift_132 : decode cX8_drift 132 = .ok (.ireturn, 1) := dk_172 (dk_at dksX8_drift_5 12 rfl rfl)
abbrev cX8_keep : ByteArray := prog_12_method_65_code
def yX8_keep : MethodName := ⟨RX8, "keep", "(I)I"⟩
def dkwX8_keep_1 : List UInt8 := [180, 0, 38, 27, 51, 153, 0, 7, 4, 167, 0, 4, 3, 61, 42, 180, 0, 38, 27, 4, 84, 28, 172]
abbrev dktX8_keep_1 : List UInt8 := dkwX8_keep_1 ++ []
def dkwX8_keep_0 : List UInt8 := [27, 133, 9, 10, 184, 0, 53, 154, 0, 5, 2, 172, 42, 3, 16, 39, 27, 4, 96, 104, 182, 0, 176, 42]
abbrev dktX8_keep_0 : List UInt8 := dkwX8_keep_0 ++ dktX8_keep_1
theorem dksX8_keep_0 : cX8_keep.data.toList.drop 0 = dktX8_keep_0 := by decide +kernel
theorem dksX8_keep_1 : cX8_keep.data.toList.drop 24 = dktX8_keep_1 := dk_seg dksX8_keep_0 24 rfl rfl
theorem dX8_keep_0 : decode cX8_keep 0 = .ok (.iload_n 1, 1) := dk_27 (dk_at dksX8_keep_0 0 rfl rfl)
theorem dX8_keep_1 : decode cX8_keep 1 = .ok (.i2l, 1) := dk_133 (dk_at dksX8_keep_0 1 rfl rfl)
theorem dX8_keep_2 : decode cX8_keep 2 = .ok (.lconst 0, 1) := dk_9 (dk_at dksX8_keep_0 2 rfl rfl)
theorem dX8_keep_3 : decode cX8_keep 3 = .ok (.lconst 1, 1) := dk_10 (dk_at dksX8_keep_0 3 rfl rfl)
theorem dX8_keep_4 : decode cX8_keep 4 = .ok (.invokestatic 53, 3) := dk_184 0 53 (dk_at dksX8_keep_0 4 rfl rfl)
theorem dX8_keep_7 : decode cX8_keep 7 = .ok (.ifCond .ne 5, 3) := dk_154 0 5 (dk_at dksX8_keep_0 7 rfl rfl)
theorem dX8_keep_10 : decode cX8_keep 10 = .ok (.iconst (-1), 1) := dk_2 (dk_at dksX8_keep_0 10 rfl rfl)
theorem dX8_keep_11 : decode cX8_keep 11 = .ok (.ireturn, 1) := dk_172 (dk_at dksX8_keep_0 11 rfl rfl)
theorem dX8_keep_12 : decode cX8_keep 12 = .ok (.aload_n 0, 1) := dk_42 (dk_at dksX8_keep_0 12 rfl rfl)
theorem dX8_keep_13 : decode cX8_keep 13 = .ok (.iconst 0, 1) := dk_3 (dk_at dksX8_keep_0 13 rfl rfl)
theorem dX8_keep_14 : decode cX8_keep 14 = .ok (.bipush 39, 2) := dk_16 39 (dk_at dksX8_keep_0 14 rfl rfl)
theorem dX8_keep_16 : decode cX8_keep 16 = .ok (.iload_n 1, 1) := dk_27 (dk_at dksX8_keep_0 16 rfl rfl)
theorem dX8_keep_17 : decode cX8_keep 17 = .ok (.iconst 1, 1) := dk_4 (dk_at dksX8_keep_0 17 rfl rfl)
theorem dX8_keep_18 : decode cX8_keep 18 = .ok (.iadd, 1) := dk_96 (dk_at dksX8_keep_0 18 rfl rfl)
theorem dX8_keep_19 : decode cX8_keep 19 = .ok (.imul, 1) := dk_104 (dk_at dksX8_keep_0 19 rfl rfl)
theorem dX8_keep_20 : decode cX8_keep 20 = .ok (.invokevirtual 176, 3) := dk_182 0 176 (dk_at dksX8_keep_0 20 rfl rfl)
theorem dX8_keep_23 : decode cX8_keep 23 = .ok (.aload_n 0, 1) := dk_42 (dk_at dksX8_keep_0 23 rfl rfl)
theorem dX8_keep_24 : decode cX8_keep 24 = .ok (.getfield 38, 3) := dk_180 0 38 (dk_at dksX8_keep_1 0 rfl rfl)
theorem dX8_keep_27 : decode cX8_keep 27 = .ok (.iload_n 1, 1) := dk_27 (dk_at dksX8_keep_1 3 rfl rfl)
theorem dX8_keep_28 : decode cX8_keep 28 = .ok (.baload, 1) := dk_51 (dk_at dksX8_keep_1 4 rfl rfl)
theorem dX8_keep_29 : decode cX8_keep 29 = .ok (.ifCond .eq 7, 3) := dk_153 0 7 (dk_at dksX8_keep_1 5 rfl rfl)
theorem dX8_keep_32 : decode cX8_keep 32 = .ok (.iconst 1, 1) := dk_4 (dk_at dksX8_keep_1 8 rfl rfl)
theorem dX8_keep_33 : decode cX8_keep 33 = .ok (.goto 4, 3) := dk_167 0 4 (dk_at dksX8_keep_1 9 rfl rfl)
theorem dX8_keep_36 : decode cX8_keep 36 = .ok (.iconst 0, 1) := dk_3 (dk_at dksX8_keep_1 12 rfl rfl)
theorem dX8_keep_37 : decode cX8_keep 37 = .ok (.istore_n 2, 1) := dk_61 (dk_at dksX8_keep_1 13 rfl rfl)
theorem dX8_keep_38 : decode cX8_keep 38 = .ok (.aload_n 0, 1) := dk_42 (dk_at dksX8_keep_1 14 rfl rfl)
theorem dX8_keep_39 : decode cX8_keep 39 = .ok (.getfield 38, 3) := dk_180 0 38 (dk_at dksX8_keep_1 15 rfl rfl)
theorem dX8_keep_42 : decode cX8_keep 42 = .ok (.iload_n 1, 1) := dk_27 (dk_at dksX8_keep_1 18 rfl rfl)
theorem dX8_keep_43 : decode cX8_keep 43 = .ok (.iconst 1, 1) := dk_4 (dk_at dksX8_keep_1 19 rfl rfl)
theorem dX8_keep_44 : decode cX8_keep 44 = .ok (.bastore, 1) := dk_84 (dk_at dksX8_keep_1 20 rfl rfl)
theorem dX8_keep_45 : decode cX8_keep 45 = .ok (.iload_n 2, 1) := dk_28 (dk_at dksX8_keep_1 21 rfl rfl)
theorem dX8_keep_46 : decode cX8_keep 46 = .ok (.ireturn, 1) := dk_172 (dk_at dksX8_keep_1 22 rfl rfl)
abbrev cX8_back : ByteArray := prog_12_method_66_code
def yX8_back : MethodName := ⟨RX8, "back", "(I)I"⟩
def dkwX8_back_1 : List UInt8 := [42, 16, 39, 27, 4, 96, 104, 3, 182, 0, 176, 42, 180, 0, 7, 16, 36, 46, 172]
abbrev dktX8_back_1 : List UInt8 := dkwX8_back_1 ++ []
def dkwX8_back_0 : List UInt8 := [27, 133, 9, 10, 184, 0, 53, 154, 0, 5, 2, 172, 42, 180, 0, 38, 27, 51, 154, 0, 6, 16, 254, 172]
abbrev dktX8_back_0 : List UInt8 := dkwX8_back_0 ++ dktX8_back_1
theorem dksX8_back_0 : cX8_back.data.toList.drop 0 = dktX8_back_0 := by decide +kernel
theorem dksX8_back_1 : cX8_back.data.toList.drop 24 = dktX8_back_1 := dk_seg dksX8_back_0 24 rfl rfl
theorem dX8_back_0 : decode cX8_back 0 = .ok (.iload_n 1, 1) := dk_27 (dk_at dksX8_back_0 0 rfl rfl)
theorem dX8_back_1 : decode cX8_back 1 = .ok (.i2l, 1) := dk_133 (dk_at dksX8_back_0 1 rfl rfl)
theorem dX8_back_2 : decode cX8_back 2 = .ok (.lconst 0, 1) := dk_9 (dk_at dksX8_back_0 2 rfl rfl)
theorem dX8_back_3 : decode cX8_back 3 = .ok (.lconst 1, 1) := dk_10 (dk_at dksX8_back_0 3 rfl rfl)
theorem dX8_back_4 : decode cX8_back 4 = .ok (.invokestatic 53, 3) := dk_184 0 53 (dk_at dksX8_back_0 4 rfl rfl)
theorem dX8_back_7 : decode cX8_back 7 = .ok (.ifCond .ne 5, 3) := dk_154 0 5 (dk_at dksX8_back_0 7 rfl rfl)
theorem dX8_back_10 : decode cX8_back 10 = .ok (.iconst (-1), 1) := dk_2 (dk_at dksX8_back_0 10 rfl rfl)
theorem dX8_back_11 : decode cX8_back 11 = .ok (.ireturn, 1) := dk_172 (dk_at dksX8_back_0 11 rfl rfl)
theorem dX8_back_12 : decode cX8_back 12 = .ok (.aload_n 0, 1) := dk_42 (dk_at dksX8_back_0 12 rfl rfl)
theorem dX8_back_13 : decode cX8_back 13 = .ok (.getfield 38, 3) := dk_180 0 38 (dk_at dksX8_back_0 13 rfl rfl)
theorem dX8_back_16 : decode cX8_back 16 = .ok (.iload_n 1, 1) := dk_27 (dk_at dksX8_back_0 16 rfl rfl)
theorem dX8_back_17 : decode cX8_back 17 = .ok (.baload, 1) := dk_51 (dk_at dksX8_back_0 17 rfl rfl)
theorem dX8_back_18 : decode cX8_back 18 = .ok (.ifCond .ne 6, 3) := dk_154 0 6 (dk_at dksX8_back_0 18 rfl rfl)
theorem dX8_back_21 : decode cX8_back 21 = .ok (.bipush (-2), 2) := dk_16 254 (dk_at dksX8_back_0 21 rfl rfl)
theorem dX8_back_23 : decode cX8_back 23 = .ok (.ireturn, 1) := dk_172 (dk_at dksX8_back_0 23 rfl rfl)
theorem dX8_back_24 : decode cX8_back 24 = .ok (.aload_n 0, 1) := dk_42 (dk_at dksX8_back_1 0 rfl rfl)
theorem dX8_back_25 : decode cX8_back 25 = .ok (.bipush 39, 2) := dk_16 39 (dk_at dksX8_back_1 1 rfl rfl)
theorem dX8_back_27 : decode cX8_back 27 = .ok (.iload_n 1, 1) := dk_27 (dk_at dksX8_back_1 3 rfl rfl)
theorem dX8_back_28 : decode cX8_back 28 = .ok (.iconst 1, 1) := dk_4 (dk_at dksX8_back_1 4 rfl rfl)
theorem dX8_back_29 : decode cX8_back 29 = .ok (.iadd, 1) := dk_96 (dk_at dksX8_back_1 5 rfl rfl)
theorem dX8_back_30 : decode cX8_back 30 = .ok (.imul, 1) := dk_104 (dk_at dksX8_back_1 6 rfl rfl)
theorem dX8_back_31 : decode cX8_back 31 = .ok (.iconst 0, 1) := dk_3 (dk_at dksX8_back_1 7 rfl rfl)
theorem dX8_back_32 : decode cX8_back 32 = .ok (.invokevirtual 176, 3) := dk_182 0 176 (dk_at dksX8_back_1 8 rfl rfl)
theorem dX8_back_35 : decode cX8_back 35 = .ok (.aload_n 0, 1) := dk_42 (dk_at dksX8_back_1 11 rfl rfl)
theorem dX8_back_36 : decode cX8_back 36 = .ok (.getfield 7, 3) := dk_180 0 7 (dk_at dksX8_back_1 12 rfl rfl)
theorem dX8_back_39 : decode cX8_back 39 = .ok (.bipush 36, 2) := dk_16 36 (dk_at dksX8_back_1 15 rfl rfl)
theorem dX8_back_41 : decode cX8_back 41 = .ok (.iaload, 1) := dk_46 (dk_at dksX8_back_1 17 rfl rfl)
theorem dX8_back_42 : decode cX8_back 42 = .ok (.ireturn, 1) := dk_172 (dk_at dksX8_back_1 18 rfl rfl)
abbrev cX8_sheet : ByteArray := prog_12_method_67_code
def yX8_sheet : MethodName := ⟨RX8, "sheet", "(III)I"⟩
def dkwX8_sheet_3 : List UInt8 := [21, 4, 96, 3, 79, 132, 4, 1, 167, 255, 233, 4, 172]
abbrev dktX8_sheet_3 : List UInt8 := dkwX8_sheet_3 ++ []
def dkwX8_sheet_2 : List UInt8 := [180, 0, 45, 27, 29, 79, 3, 54, 4, 21, 4, 16, 40, 162, 0, 22, 42, 180, 0, 48, 16, 40, 27, 104]
abbrev dktX8_sheet_2 : List UInt8 := dkwX8_sheet_2 ++ dktX8_sheet_3
def dkwX8_sheet_1 : List UInt8 := [29, 16, 40, 164, 0, 5, 2, 172, 29, 156, 0, 6, 16, 242, 172, 42, 180, 0, 42, 27, 28, 79, 42]
abbrev dktX8_sheet_1 : List UInt8 := dkwX8_sheet_1 ++ dktX8_sheet_2
def dkwX8_sheet_0 : List UInt8 := [27, 133, 9, 20, 0, 153, 184, 0, 53, 153, 0, 21, 28, 133, 9, 20, 0, 228, 184, 0, 53, 153, 0, 9]
abbrev dktX8_sheet_0 : List UInt8 := dkwX8_sheet_0 ++ dktX8_sheet_1
theorem dksX8_sheet_0 : cX8_sheet.data.toList.drop 0 = dktX8_sheet_0 := by decide +kernel
theorem dksX8_sheet_1 : cX8_sheet.data.toList.drop 24 = dktX8_sheet_1 := dk_seg dksX8_sheet_0 24 rfl rfl
theorem dksX8_sheet_2 : cX8_sheet.data.toList.drop 47 = dktX8_sheet_2 := dk_seg dksX8_sheet_1 23 rfl rfl
theorem dksX8_sheet_3 : cX8_sheet.data.toList.drop 71 = dktX8_sheet_3 := dk_seg dksX8_sheet_2 24 rfl rfl
theorem dX8_sheet_0 : decode cX8_sheet 0 = .ok (.iload_n 1, 1) := dk_27 (dk_at dksX8_sheet_0 0 rfl rfl)
theorem dX8_sheet_1 : decode cX8_sheet 1 = .ok (.i2l, 1) := dk_133 (dk_at dksX8_sheet_0 1 rfl rfl)
theorem dX8_sheet_2 : decode cX8_sheet 2 = .ok (.lconst 0, 1) := dk_9 (dk_at dksX8_sheet_0 2 rfl rfl)
theorem dX8_sheet_3 : decode cX8_sheet 3 = .ok (.ldc2_w 153, 3) := dk_20 0 153 (dk_at dksX8_sheet_0 3 rfl rfl)
theorem dX8_sheet_6 : decode cX8_sheet 6 = .ok (.invokestatic 53, 3) := dk_184 0 53 (dk_at dksX8_sheet_0 6 rfl rfl)
theorem dX8_sheet_9 : decode cX8_sheet 9 = .ok (.ifCond .eq 21, 3) := dk_153 0 21 (dk_at dksX8_sheet_0 9 rfl rfl)
theorem dX8_sheet_12 : decode cX8_sheet 12 = .ok (.iload_n 2, 1) := dk_28 (dk_at dksX8_sheet_0 12 rfl rfl)
theorem dX8_sheet_13 : decode cX8_sheet 13 = .ok (.i2l, 1) := dk_133 (dk_at dksX8_sheet_0 13 rfl rfl)
theorem dX8_sheet_14 : decode cX8_sheet 14 = .ok (.lconst 0, 1) := dk_9 (dk_at dksX8_sheet_0 14 rfl rfl)
theorem dX8_sheet_15 : decode cX8_sheet 15 = .ok (.ldc2_w 228, 3) := dk_20 0 228 (dk_at dksX8_sheet_0 15 rfl rfl)
theorem dX8_sheet_18 : decode cX8_sheet 18 = .ok (.invokestatic 53, 3) := dk_184 0 53 (dk_at dksX8_sheet_0 18 rfl rfl)
theorem dX8_sheet_21 : decode cX8_sheet 21 = .ok (.ifCond .eq 9, 3) := dk_153 0 9 (dk_at dksX8_sheet_0 21 rfl rfl)
theorem dX8_sheet_24 : decode cX8_sheet 24 = .ok (.iload_n 3, 1) := dk_29 (dk_at dksX8_sheet_1 0 rfl rfl)
theorem dX8_sheet_25 : decode cX8_sheet 25 = .ok (.bipush 40, 2) := dk_16 40 (dk_at dksX8_sheet_1 1 rfl rfl)
theorem dX8_sheet_27 : decode cX8_sheet 27 = .ok (.if_icmp .le 5, 3) := dk_164 0 5 (dk_at dksX8_sheet_1 3 rfl rfl)
theorem dX8_sheet_30 : decode cX8_sheet 30 = .ok (.iconst (-1), 1) := dk_2 (dk_at dksX8_sheet_1 6 rfl rfl)
theorem dX8_sheet_31 : decode cX8_sheet 31 = .ok (.ireturn, 1) := dk_172 (dk_at dksX8_sheet_1 7 rfl rfl)
theorem dX8_sheet_32 : decode cX8_sheet 32 = .ok (.iload_n 3, 1) := dk_29 (dk_at dksX8_sheet_1 8 rfl rfl)
theorem dX8_sheet_33 : decode cX8_sheet 33 = .ok (.ifCond .ge 6, 3) := dk_156 0 6 (dk_at dksX8_sheet_1 9 rfl rfl)
theorem dX8_sheet_36 : decode cX8_sheet 36 = .ok (.bipush (-14), 2) := dk_16 242 (dk_at dksX8_sheet_1 12 rfl rfl)
theorem dX8_sheet_38 : decode cX8_sheet 38 = .ok (.ireturn, 1) := dk_172 (dk_at dksX8_sheet_1 14 rfl rfl)
theorem dX8_sheet_39 : decode cX8_sheet 39 = .ok (.aload_n 0, 1) := dk_42 (dk_at dksX8_sheet_1 15 rfl rfl)
theorem dX8_sheet_40 : decode cX8_sheet 40 = .ok (.getfield 42, 3) := dk_180 0 42 (dk_at dksX8_sheet_1 16 rfl rfl)
theorem dX8_sheet_43 : decode cX8_sheet 43 = .ok (.iload_n 1, 1) := dk_27 (dk_at dksX8_sheet_1 19 rfl rfl)
theorem dX8_sheet_44 : decode cX8_sheet 44 = .ok (.iload_n 2, 1) := dk_28 (dk_at dksX8_sheet_1 20 rfl rfl)
theorem dX8_sheet_45 : decode cX8_sheet 45 = .ok (.iastore, 1) := dk_79 (dk_at dksX8_sheet_1 21 rfl rfl)
theorem dX8_sheet_46 : decode cX8_sheet 46 = .ok (.aload_n 0, 1) := dk_42 (dk_at dksX8_sheet_1 22 rfl rfl)
theorem dX8_sheet_47 : decode cX8_sheet 47 = .ok (.getfield 45, 3) := dk_180 0 45 (dk_at dksX8_sheet_2 0 rfl rfl)
theorem dX8_sheet_50 : decode cX8_sheet 50 = .ok (.iload_n 1, 1) := dk_27 (dk_at dksX8_sheet_2 3 rfl rfl)
theorem dX8_sheet_51 : decode cX8_sheet 51 = .ok (.iload_n 3, 1) := dk_29 (dk_at dksX8_sheet_2 4 rfl rfl)
theorem dX8_sheet_52 : decode cX8_sheet 52 = .ok (.iastore, 1) := dk_79 (dk_at dksX8_sheet_2 5 rfl rfl)
theorem dX8_sheet_53 : decode cX8_sheet 53 = .ok (.iconst 0, 1) := dk_3 (dk_at dksX8_sheet_2 6 rfl rfl)
theorem dX8_sheet_54 : decode cX8_sheet 54 = .ok (.istore 4, 2) := dk_54 4 (dk_at dksX8_sheet_2 7 rfl rfl)
theorem dX8_sheet_56 : decode cX8_sheet 56 = .ok (.iload 4, 2) := dk_21 4 (dk_at dksX8_sheet_2 9 rfl rfl)
theorem dX8_sheet_58 : decode cX8_sheet 58 = .ok (.bipush 40, 2) := dk_16 40 (dk_at dksX8_sheet_2 11 rfl rfl)
theorem dX8_sheet_60 : decode cX8_sheet 60 = .ok (.if_icmp .ge 22, 3) := dk_162 0 22 (dk_at dksX8_sheet_2 13 rfl rfl)
theorem dX8_sheet_63 : decode cX8_sheet 63 = .ok (.aload_n 0, 1) := dk_42 (dk_at dksX8_sheet_2 16 rfl rfl)
theorem dX8_sheet_64 : decode cX8_sheet 64 = .ok (.getfield 48, 3) := dk_180 0 48 (dk_at dksX8_sheet_2 17 rfl rfl)
theorem dX8_sheet_67 : decode cX8_sheet 67 = .ok (.bipush 40, 2) := dk_16 40 (dk_at dksX8_sheet_2 20 rfl rfl)
theorem dX8_sheet_69 : decode cX8_sheet 69 = .ok (.iload_n 1, 1) := dk_27 (dk_at dksX8_sheet_2 22 rfl rfl)
theorem dX8_sheet_70 : decode cX8_sheet 70 = .ok (.imul, 1) := dk_104 (dk_at dksX8_sheet_2 23 rfl rfl)
theorem dX8_sheet_71 : decode cX8_sheet 71 = .ok (.iload 4, 2) := dk_21 4 (dk_at dksX8_sheet_3 0 rfl rfl)
theorem dX8_sheet_73 : decode cX8_sheet 73 = .ok (.iadd, 1) := dk_96 (dk_at dksX8_sheet_3 2 rfl rfl)
theorem dX8_sheet_74 : decode cX8_sheet 74 = .ok (.iconst 0, 1) := dk_3 (dk_at dksX8_sheet_3 3 rfl rfl)
theorem dX8_sheet_75 : decode cX8_sheet 75 = .ok (.iastore, 1) := dk_79 (dk_at dksX8_sheet_3 4 rfl rfl)
theorem dX8_sheet_76 : decode cX8_sheet 76 = .ok (.iinc 4 1, 3) := dk_132 4 1 (dk_at dksX8_sheet_3 5 rfl rfl)
theorem dX8_sheet_79 : decode cX8_sheet 79 = .ok (.goto (-23), 3) := dk_167 255 233 (dk_at dksX8_sheet_3 8 rfl rfl)
theorem dX8_sheet_82 : decode cX8_sheet 82 = .ok (.iconst 1, 1) := dk_4 (dk_at dksX8_sheet_3 11 rfl rfl)
theorem dX8_sheet_83 : decode cX8_sheet 83 = .ok (.ireturn, 1) := dk_172 (dk_at dksX8_sheet_3 12 rfl rfl)
abbrev cX8_lay : ByteArray := prog_12_method_68_code
def yX8_lay : MethodName := ⟨RX8, "lay", "(III)I"⟩
def dkwX8_lay_4 : List UInt8 := [16, 16, 122, 167, 0, 4, 29, 79, 4, 172]
abbrev dktX8_lay_4 : List UInt8 := dkwX8_lay_4 ++ []
def dkwX8_lay_3 : List UInt8 := [16, 24, 120, 16, 24, 122, 167, 0, 24, 42, 180, 0, 42, 27, 46, 4, 160, 0, 13, 29, 16, 16, 120]
abbrev dktX8_lay_3 : List UInt8 := dkwX8_lay_3 ++ dktX8_lay_4
def dkwX8_lay_2 : List UInt8 := [16, 244, 172, 42, 180, 0, 48, 16, 40, 27, 104, 28, 96, 42, 180, 0, 42, 27, 46, 154, 0, 13, 29]
abbrev dktX8_lay_2 : List UInt8 := dkwX8_lay_2 ++ dktX8_lay_3
def dkwX8_lay_1 : List UInt8 := [160, 0, 6, 16, 245, 172, 28, 133, 9, 42, 180, 0, 45, 27, 46, 4, 100, 133, 184, 0, 53, 154, 0, 6]
abbrev dktX8_lay_1 : List UInt8 := dkwX8_lay_1 ++ dktX8_lay_2
def dkwX8_lay_0 : List UInt8 := [27, 133, 9, 20, 0, 153, 184, 0, 53, 154, 0, 5, 2, 172, 42, 180, 0, 42, 27, 46, 16, 252]
abbrev dktX8_lay_0 : List UInt8 := dkwX8_lay_0 ++ dktX8_lay_1
theorem dksX8_lay_0 : cX8_lay.data.toList.drop 0 = dktX8_lay_0 := by decide +kernel
theorem dksX8_lay_1 : cX8_lay.data.toList.drop 22 = dktX8_lay_1 := dk_seg dksX8_lay_0 22 rfl rfl
theorem dksX8_lay_2 : cX8_lay.data.toList.drop 46 = dktX8_lay_2 := dk_seg dksX8_lay_1 24 rfl rfl
theorem dksX8_lay_3 : cX8_lay.data.toList.drop 69 = dktX8_lay_3 := dk_seg dksX8_lay_2 23 rfl rfl
theorem dksX8_lay_4 : cX8_lay.data.toList.drop 92 = dktX8_lay_4 := dk_seg dksX8_lay_3 23 rfl rfl
theorem dX8_lay_0 : decode cX8_lay 0 = .ok (.iload_n 1, 1) := dk_27 (dk_at dksX8_lay_0 0 rfl rfl)
theorem dX8_lay_1 : decode cX8_lay 1 = .ok (.i2l, 1) := dk_133 (dk_at dksX8_lay_0 1 rfl rfl)
theorem dX8_lay_2 : decode cX8_lay 2 = .ok (.lconst 0, 1) := dk_9 (dk_at dksX8_lay_0 2 rfl rfl)
theorem dX8_lay_3 : decode cX8_lay 3 = .ok (.ldc2_w 153, 3) := dk_20 0 153 (dk_at dksX8_lay_0 3 rfl rfl)
theorem dX8_lay_6 : decode cX8_lay 6 = .ok (.invokestatic 53, 3) := dk_184 0 53 (dk_at dksX8_lay_0 6 rfl rfl)
theorem dX8_lay_9 : decode cX8_lay 9 = .ok (.ifCond .ne 5, 3) := dk_154 0 5 (dk_at dksX8_lay_0 9 rfl rfl)
theorem dX8_lay_12 : decode cX8_lay 12 = .ok (.iconst (-1), 1) := dk_2 (dk_at dksX8_lay_0 12 rfl rfl)
theorem dX8_lay_13 : decode cX8_lay 13 = .ok (.ireturn, 1) := dk_172 (dk_at dksX8_lay_0 13 rfl rfl)
theorem dX8_lay_14 : decode cX8_lay 14 = .ok (.aload_n 0, 1) := dk_42 (dk_at dksX8_lay_0 14 rfl rfl)
theorem dX8_lay_15 : decode cX8_lay 15 = .ok (.getfield 42, 3) := dk_180 0 42 (dk_at dksX8_lay_0 15 rfl rfl)
theorem dX8_lay_18 : decode cX8_lay 18 = .ok (.iload_n 1, 1) := dk_27 (dk_at dksX8_lay_0 18 rfl rfl)
theorem dX8_lay_19 : decode cX8_lay 19 = .ok (.iaload, 1) := dk_46 (dk_at dksX8_lay_0 19 rfl rfl)
theorem dX8_lay_20 : decode cX8_lay 20 = .ok (.bipush (-4), 2) := dk_16 252 (dk_at dksX8_lay_0 20 rfl rfl)
theorem dX8_lay_22 : decode cX8_lay 22 = .ok (.if_icmp .ne 6, 3) := dk_160 0 6 (dk_at dksX8_lay_1 0 rfl rfl)
theorem dX8_lay_25 : decode cX8_lay 25 = .ok (.bipush (-11), 2) := dk_16 245 (dk_at dksX8_lay_1 3 rfl rfl)
theorem dX8_lay_27 : decode cX8_lay 27 = .ok (.ireturn, 1) := dk_172 (dk_at dksX8_lay_1 5 rfl rfl)
theorem dX8_lay_28 : decode cX8_lay 28 = .ok (.iload_n 2, 1) := dk_28 (dk_at dksX8_lay_1 6 rfl rfl)
theorem dX8_lay_29 : decode cX8_lay 29 = .ok (.i2l, 1) := dk_133 (dk_at dksX8_lay_1 7 rfl rfl)
theorem dX8_lay_30 : decode cX8_lay 30 = .ok (.lconst 0, 1) := dk_9 (dk_at dksX8_lay_1 8 rfl rfl)
theorem dX8_lay_31 : decode cX8_lay 31 = .ok (.aload_n 0, 1) := dk_42 (dk_at dksX8_lay_1 9 rfl rfl)
theorem dX8_lay_32 : decode cX8_lay 32 = .ok (.getfield 45, 3) := dk_180 0 45 (dk_at dksX8_lay_1 10 rfl rfl)
theorem dX8_lay_35 : decode cX8_lay 35 = .ok (.iload_n 1, 1) := dk_27 (dk_at dksX8_lay_1 13 rfl rfl)
theorem dX8_lay_36 : decode cX8_lay 36 = .ok (.iaload, 1) := dk_46 (dk_at dksX8_lay_1 14 rfl rfl)
theorem dX8_lay_37 : decode cX8_lay 37 = .ok (.iconst 1, 1) := dk_4 (dk_at dksX8_lay_1 15 rfl rfl)
theorem dX8_lay_38 : decode cX8_lay 38 = .ok (.isub, 1) := dk_100 (dk_at dksX8_lay_1 16 rfl rfl)
theorem dX8_lay_39 : decode cX8_lay 39 = .ok (.i2l, 1) := dk_133 (dk_at dksX8_lay_1 17 rfl rfl)
theorem dX8_lay_40 : decode cX8_lay 40 = .ok (.invokestatic 53, 3) := dk_184 0 53 (dk_at dksX8_lay_1 18 rfl rfl)
theorem dX8_lay_43 : decode cX8_lay 43 = .ok (.ifCond .ne 6, 3) := dk_154 0 6 (dk_at dksX8_lay_1 21 rfl rfl)
theorem dX8_lay_46 : decode cX8_lay 46 = .ok (.bipush (-12), 2) := dk_16 244 (dk_at dksX8_lay_2 0 rfl rfl)
theorem dX8_lay_48 : decode cX8_lay 48 = .ok (.ireturn, 1) := dk_172 (dk_at dksX8_lay_2 2 rfl rfl)
theorem dX8_lay_49 : decode cX8_lay 49 = .ok (.aload_n 0, 1) := dk_42 (dk_at dksX8_lay_2 3 rfl rfl)
theorem dX8_lay_50 : decode cX8_lay 50 = .ok (.getfield 48, 3) := dk_180 0 48 (dk_at dksX8_lay_2 4 rfl rfl)
theorem dX8_lay_53 : decode cX8_lay 53 = .ok (.bipush 40, 2) := dk_16 40 (dk_at dksX8_lay_2 7 rfl rfl)
theorem dX8_lay_55 : decode cX8_lay 55 = .ok (.iload_n 1, 1) := dk_27 (dk_at dksX8_lay_2 9 rfl rfl)
theorem dX8_lay_56 : decode cX8_lay 56 = .ok (.imul, 1) := dk_104 (dk_at dksX8_lay_2 10 rfl rfl)
theorem dX8_lay_57 : decode cX8_lay 57 = .ok (.iload_n 2, 1) := dk_28 (dk_at dksX8_lay_2 11 rfl rfl)
theorem dX8_lay_58 : decode cX8_lay 58 = .ok (.iadd, 1) := dk_96 (dk_at dksX8_lay_2 12 rfl rfl)
theorem dX8_lay_59 : decode cX8_lay 59 = .ok (.aload_n 0, 1) := dk_42 (dk_at dksX8_lay_2 13 rfl rfl)
theorem dX8_lay_60 : decode cX8_lay 60 = .ok (.getfield 42, 3) := dk_180 0 42 (dk_at dksX8_lay_2 14 rfl rfl)
theorem dX8_lay_63 : decode cX8_lay 63 = .ok (.iload_n 1, 1) := dk_27 (dk_at dksX8_lay_2 17 rfl rfl)
theorem dX8_lay_64 : decode cX8_lay 64 = .ok (.iaload, 1) := dk_46 (dk_at dksX8_lay_2 18 rfl rfl)
theorem dX8_lay_65 : decode cX8_lay 65 = .ok (.ifCond .ne 13, 3) := dk_154 0 13 (dk_at dksX8_lay_2 19 rfl rfl)
theorem dX8_lay_68 : decode cX8_lay 68 = .ok (.iload_n 3, 1) := dk_29 (dk_at dksX8_lay_2 22 rfl rfl)
theorem dX8_lay_69 : decode cX8_lay 69 = .ok (.bipush 24, 2) := dk_16 24 (dk_at dksX8_lay_3 0 rfl rfl)
theorem dX8_lay_71 : decode cX8_lay 71 = .ok (.ishl, 1) := dk_120 (dk_at dksX8_lay_3 2 rfl rfl)
theorem dX8_lay_72 : decode cX8_lay 72 = .ok (.bipush 24, 2) := dk_16 24 (dk_at dksX8_lay_3 3 rfl rfl)
theorem dX8_lay_74 : decode cX8_lay 74 = .ok (.ishr, 1) := dk_122 (dk_at dksX8_lay_3 5 rfl rfl)
theorem dX8_lay_75 : decode cX8_lay 75 = .ok (.goto 24, 3) := dk_167 0 24 (dk_at dksX8_lay_3 6 rfl rfl)
theorem dX8_lay_78 : decode cX8_lay 78 = .ok (.aload_n 0, 1) := dk_42 (dk_at dksX8_lay_3 9 rfl rfl)
theorem dX8_lay_79 : decode cX8_lay 79 = .ok (.getfield 42, 3) := dk_180 0 42 (dk_at dksX8_lay_3 10 rfl rfl)
theorem dX8_lay_82 : decode cX8_lay 82 = .ok (.iload_n 1, 1) := dk_27 (dk_at dksX8_lay_3 13 rfl rfl)
theorem dX8_lay_83 : decode cX8_lay 83 = .ok (.iaload, 1) := dk_46 (dk_at dksX8_lay_3 14 rfl rfl)
theorem dX8_lay_84 : decode cX8_lay 84 = .ok (.iconst 1, 1) := dk_4 (dk_at dksX8_lay_3 15 rfl rfl)
theorem dX8_lay_85 : decode cX8_lay 85 = .ok (.if_icmp .ne 13, 3) := dk_160 0 13 (dk_at dksX8_lay_3 16 rfl rfl)
theorem dX8_lay_88 : decode cX8_lay 88 = .ok (.iload_n 3, 1) := dk_29 (dk_at dksX8_lay_3 19 rfl rfl)
theorem dX8_lay_89 : decode cX8_lay 89 = .ok (.bipush 16, 2) := dk_16 16 (dk_at dksX8_lay_3 20 rfl rfl)
theorem dX8_lay_91 : decode cX8_lay 91 = .ok (.ishl, 1) := dk_120 (dk_at dksX8_lay_3 22 rfl rfl)
theorem dX8_lay_92 : decode cX8_lay 92 = .ok (.bipush 16, 2) := dk_16 16 (dk_at dksX8_lay_4 0 rfl rfl)
theorem dX8_lay_94 : decode cX8_lay 94 = .ok (.ishr, 1) := dk_122 (dk_at dksX8_lay_4 2 rfl rfl)
theorem dX8_lay_95 : decode cX8_lay 95 = .ok (.goto 4, 3) := dk_167 0 4 (dk_at dksX8_lay_4 3 rfl rfl)
theorem dX8_lay_98 : decode cX8_lay 98 = .ok (.iload_n 3, 1) := dk_29 (dk_at dksX8_lay_4 6 rfl rfl)
theorem dX8_lay_99 : decode cX8_lay 99 = .ok (.iastore, 1) := dk_79 (dk_at dksX8_lay_4 7 rfl rfl)
theorem dX8_lay_100 : decode cX8_lay 100 = .ok (.iconst 1, 1) := dk_4 (dk_at dksX8_lay_4 8 rfl rfl)
theorem dX8_lay_101 : decode cX8_lay 101 = .ok (.ireturn, 1) := dk_172 (dk_at dksX8_lay_4 9 rfl rfl)
abbrev cX8_read : ByteArray := prog_12_method_69_code
def yX8_read : MethodName := ⟨RX8, "read", "(IIII)I"⟩
def dkwX8_read_7 : List UInt8 := [16, 236, 21, 6, 100, 172, 132, 6, 1, 132, 7, 1, 167, 255, 137, 42, 21, 5, 181, 0, 230, 21, 6, 172]
abbrev dktX8_read_7 : List UInt8 := dkwX8_read_7 ++ []
def dkwX8_read_6 : List UInt8 := [54, 8, 42, 42, 180, 0, 48, 21, 8, 46, 182, 0, 167, 156, 0, 16, 42, 16, 117, 3, 182, 0, 176]
abbrev dktX8_read_6 : List UInt8 := dkwX8_read_6 ++ dktX8_read_7
def dkwX8_read_5 : List UInt8 := [154, 0, 7, 5, 167, 0, 4, 3, 54, 5, 21, 5, 154, 0, 44, 16, 40, 27, 104, 29, 96, 21, 7, 96]
abbrev dktX8_read_5 : List UInt8 := dkwX8_read_5 ++ dktX8_read_6
def dkwX8_read_4 : List UInt8 := [167, 0, 30, 29, 133, 21, 7, 133, 97, 9, 42, 180, 0, 45, 27, 46, 4, 100, 133, 184, 0, 53]
abbrev dktX8_read_4 : List UInt8 := dkwX8_read_4 ++ dktX8_read_5
def dkwX8_read_3 : List UInt8 := [27, 46, 16, 252, 160, 0, 7, 4, 167, 0, 44, 42, 180, 0, 42, 27, 46, 28, 159, 0, 7, 6]
abbrev dktX8_read_3 : List UInt8 := dkwX8_read_3 ++ dktX8_read_4
def dkwX8_read_2 : List UInt8 := [54, 5, 3, 54, 6, 3, 54, 7, 21, 7, 21, 4, 162, 0, 118, 21, 5, 154, 0, 113, 42, 180, 0, 42]
abbrev dktX8_read_2 : List UInt8 := dkwX8_read_2 ++ dktX8_read_3
def dkwX8_read_1 : List UInt8 := [21, 4, 133, 9, 20, 0, 212, 184, 0, 53, 154, 0, 5, 2, 172, 42, 3, 16, 117, 182, 0, 176, 3]
abbrev dktX8_read_1 : List UInt8 := dkwX8_read_1 ++ dktX8_read_2
def dkwX8_read_0 : List UInt8 := [27, 133, 9, 20, 0, 153, 184, 0, 53, 153, 0, 28, 28, 133, 9, 20, 0, 228, 184, 0, 53, 153, 0, 16]
abbrev dktX8_read_0 : List UInt8 := dkwX8_read_0 ++ dktX8_read_1
theorem dksX8_read_0 : cX8_read.data.toList.drop 0 = dktX8_read_0 := by decide +kernel
theorem dksX8_read_1 : cX8_read.data.toList.drop 24 = dktX8_read_1 := dk_seg dksX8_read_0 24 rfl rfl
theorem dksX8_read_2 : cX8_read.data.toList.drop 47 = dktX8_read_2 := dk_seg dksX8_read_1 23 rfl rfl
theorem dksX8_read_3 : cX8_read.data.toList.drop 71 = dktX8_read_3 := dk_seg dksX8_read_2 24 rfl rfl
theorem dksX8_read_4 : cX8_read.data.toList.drop 93 = dktX8_read_4 := dk_seg dksX8_read_3 22 rfl rfl
theorem dksX8_read_5 : cX8_read.data.toList.drop 115 = dktX8_read_5 := dk_seg dksX8_read_4 22 rfl rfl
theorem dksX8_read_6 : cX8_read.data.toList.drop 139 = dktX8_read_6 := dk_seg dksX8_read_5 24 rfl rfl
theorem dksX8_read_7 : cX8_read.data.toList.drop 162 = dktX8_read_7 := dk_seg dksX8_read_6 23 rfl rfl
theorem dX8_read_0 : decode cX8_read 0 = .ok (.iload_n 1, 1) := dk_27 (dk_at dksX8_read_0 0 rfl rfl)
theorem dX8_read_1 : decode cX8_read 1 = .ok (.i2l, 1) := dk_133 (dk_at dksX8_read_0 1 rfl rfl)
theorem dX8_read_2 : decode cX8_read 2 = .ok (.lconst 0, 1) := dk_9 (dk_at dksX8_read_0 2 rfl rfl)
theorem dX8_read_3 : decode cX8_read 3 = .ok (.ldc2_w 153, 3) := dk_20 0 153 (dk_at dksX8_read_0 3 rfl rfl)
theorem dX8_read_6 : decode cX8_read 6 = .ok (.invokestatic 53, 3) := dk_184 0 53 (dk_at dksX8_read_0 6 rfl rfl)
theorem dX8_read_9 : decode cX8_read 9 = .ok (.ifCond .eq 28, 3) := dk_153 0 28 (dk_at dksX8_read_0 9 rfl rfl)
theorem dX8_read_12 : decode cX8_read 12 = .ok (.iload_n 2, 1) := dk_28 (dk_at dksX8_read_0 12 rfl rfl)
theorem dX8_read_13 : decode cX8_read 13 = .ok (.i2l, 1) := dk_133 (dk_at dksX8_read_0 13 rfl rfl)
theorem dX8_read_14 : decode cX8_read 14 = .ok (.lconst 0, 1) := dk_9 (dk_at dksX8_read_0 14 rfl rfl)
theorem dX8_read_15 : decode cX8_read 15 = .ok (.ldc2_w 228, 3) := dk_20 0 228 (dk_at dksX8_read_0 15 rfl rfl)
theorem dX8_read_18 : decode cX8_read 18 = .ok (.invokestatic 53, 3) := dk_184 0 53 (dk_at dksX8_read_0 18 rfl rfl)
theorem dX8_read_21 : decode cX8_read 21 = .ok (.ifCond .eq 16, 3) := dk_153 0 16 (dk_at dksX8_read_0 21 rfl rfl)
theorem dX8_read_24 : decode cX8_read 24 = .ok (.iload 4, 2) := dk_21 4 (dk_at dksX8_read_1 0 rfl rfl)
theorem dX8_read_26 : decode cX8_read 26 = .ok (.i2l, 1) := dk_133 (dk_at dksX8_read_1 2 rfl rfl)
theorem dX8_read_27 : decode cX8_read 27 = .ok (.lconst 0, 1) := dk_9 (dk_at dksX8_read_1 3 rfl rfl)
theorem dX8_read_28 : decode cX8_read 28 = .ok (.ldc2_w 212, 3) := dk_20 0 212 (dk_at dksX8_read_1 4 rfl rfl)
theorem dX8_read_31 : decode cX8_read 31 = .ok (.invokestatic 53, 3) := dk_184 0 53 (dk_at dksX8_read_1 7 rfl rfl)
theorem dX8_read_34 : decode cX8_read 34 = .ok (.ifCond .ne 5, 3) := dk_154 0 5 (dk_at dksX8_read_1 10 rfl rfl)
theorem dX8_read_37 : decode cX8_read 37 = .ok (.iconst (-1), 1) := dk_2 (dk_at dksX8_read_1 13 rfl rfl)
theorem dX8_read_38 : decode cX8_read 38 = .ok (.ireturn, 1) := dk_172 (dk_at dksX8_read_1 14 rfl rfl)
theorem dX8_read_39 : decode cX8_read 39 = .ok (.aload_n 0, 1) := dk_42 (dk_at dksX8_read_1 15 rfl rfl)
theorem dX8_read_40 : decode cX8_read 40 = .ok (.iconst 0, 1) := dk_3 (dk_at dksX8_read_1 16 rfl rfl)
theorem dX8_read_41 : decode cX8_read 41 = .ok (.bipush 117, 2) := dk_16 117 (dk_at dksX8_read_1 17 rfl rfl)
theorem dX8_read_43 : decode cX8_read 43 = .ok (.invokevirtual 176, 3) := dk_182 0 176 (dk_at dksX8_read_1 19 rfl rfl)
theorem dX8_read_46 : decode cX8_read 46 = .ok (.iconst 0, 1) := dk_3 (dk_at dksX8_read_1 22 rfl rfl)
theorem dX8_read_47 : decode cX8_read 47 = .ok (.istore 5, 2) := dk_54 5 (dk_at dksX8_read_2 0 rfl rfl)
theorem dX8_read_49 : decode cX8_read 49 = .ok (.iconst 0, 1) := dk_3 (dk_at dksX8_read_2 2 rfl rfl)
theorem dX8_read_50 : decode cX8_read 50 = .ok (.istore 6, 2) := dk_54 6 (dk_at dksX8_read_2 3 rfl rfl)
theorem dX8_read_52 : decode cX8_read 52 = .ok (.iconst 0, 1) := dk_3 (dk_at dksX8_read_2 5 rfl rfl)
theorem dX8_read_53 : decode cX8_read 53 = .ok (.istore 7, 2) := dk_54 7 (dk_at dksX8_read_2 6 rfl rfl)
theorem dX8_read_55 : decode cX8_read 55 = .ok (.iload 7, 2) := dk_21 7 (dk_at dksX8_read_2 8 rfl rfl)
theorem dX8_read_57 : decode cX8_read 57 = .ok (.iload 4, 2) := dk_21 4 (dk_at dksX8_read_2 10 rfl rfl)
theorem dX8_read_59 : decode cX8_read 59 = .ok (.if_icmp .ge 118, 3) := dk_162 0 118 (dk_at dksX8_read_2 12 rfl rfl)
theorem dX8_read_62 : decode cX8_read 62 = .ok (.iload 5, 2) := dk_21 5 (dk_at dksX8_read_2 15 rfl rfl)
theorem dX8_read_64 : decode cX8_read 64 = .ok (.ifCond .ne 113, 3) := dk_154 0 113 (dk_at dksX8_read_2 17 rfl rfl)
theorem dX8_read_67 : decode cX8_read 67 = .ok (.aload_n 0, 1) := dk_42 (dk_at dksX8_read_2 20 rfl rfl)
theorem dX8_read_68 : decode cX8_read 68 = .ok (.getfield 42, 3) := dk_180 0 42 (dk_at dksX8_read_2 21 rfl rfl)
theorem dX8_read_71 : decode cX8_read 71 = .ok (.iload_n 1, 1) := dk_27 (dk_at dksX8_read_3 0 rfl rfl)
theorem dX8_read_72 : decode cX8_read 72 = .ok (.iaload, 1) := dk_46 (dk_at dksX8_read_3 1 rfl rfl)
theorem dX8_read_73 : decode cX8_read 73 = .ok (.bipush (-4), 2) := dk_16 252 (dk_at dksX8_read_3 2 rfl rfl)
theorem dX8_read_75 : decode cX8_read 75 = .ok (.if_icmp .ne 7, 3) := dk_160 0 7 (dk_at dksX8_read_3 4 rfl rfl)
theorem dX8_read_78 : decode cX8_read 78 = .ok (.iconst 1, 1) := dk_4 (dk_at dksX8_read_3 7 rfl rfl)
theorem dX8_read_79 : decode cX8_read 79 = .ok (.goto 44, 3) := dk_167 0 44 (dk_at dksX8_read_3 8 rfl rfl)
theorem dX8_read_82 : decode cX8_read 82 = .ok (.aload_n 0, 1) := dk_42 (dk_at dksX8_read_3 11 rfl rfl)
theorem dX8_read_83 : decode cX8_read 83 = .ok (.getfield 42, 3) := dk_180 0 42 (dk_at dksX8_read_3 12 rfl rfl)
theorem dX8_read_86 : decode cX8_read 86 = .ok (.iload_n 1, 1) := dk_27 (dk_at dksX8_read_3 15 rfl rfl)
theorem dX8_read_87 : decode cX8_read 87 = .ok (.iaload, 1) := dk_46 (dk_at dksX8_read_3 16 rfl rfl)
theorem dX8_read_88 : decode cX8_read 88 = .ok (.iload_n 2, 1) := dk_28 (dk_at dksX8_read_3 17 rfl rfl)
theorem dX8_read_89 : decode cX8_read 89 = .ok (.if_icmp .eq 7, 3) := dk_159 0 7 (dk_at dksX8_read_3 18 rfl rfl)
theorem dX8_read_92 : decode cX8_read 92 = .ok (.iconst 3, 1) := dk_6 (dk_at dksX8_read_3 21 rfl rfl)
theorem dX8_read_93 : decode cX8_read 93 = .ok (.goto 30, 3) := dk_167 0 30 (dk_at dksX8_read_4 0 rfl rfl)
theorem dX8_read_96 : decode cX8_read 96 = .ok (.iload_n 3, 1) := dk_29 (dk_at dksX8_read_4 3 rfl rfl)
theorem dX8_read_97 : decode cX8_read 97 = .ok (.i2l, 1) := dk_133 (dk_at dksX8_read_4 4 rfl rfl)
theorem dX8_read_98 : decode cX8_read 98 = .ok (.iload 7, 2) := dk_21 7 (dk_at dksX8_read_4 5 rfl rfl)
theorem dX8_read_100 : decode cX8_read 100 = .ok (.i2l, 1) := dk_133 (dk_at dksX8_read_4 7 rfl rfl)
theorem dX8_read_101 : decode cX8_read 101 = .ok (.ladd, 1) := dk_97 (dk_at dksX8_read_4 8 rfl rfl)
theorem dX8_read_102 : decode cX8_read 102 = .ok (.lconst 0, 1) := dk_9 (dk_at dksX8_read_4 9 rfl rfl)
theorem dX8_read_103 : decode cX8_read 103 = .ok (.aload_n 0, 1) := dk_42 (dk_at dksX8_read_4 10 rfl rfl)
theorem dX8_read_104 : decode cX8_read 104 = .ok (.getfield 45, 3) := dk_180 0 45 (dk_at dksX8_read_4 11 rfl rfl)
theorem dX8_read_107 : decode cX8_read 107 = .ok (.iload_n 1, 1) := dk_27 (dk_at dksX8_read_4 14 rfl rfl)
theorem dX8_read_108 : decode cX8_read 108 = .ok (.iaload, 1) := dk_46 (dk_at dksX8_read_4 15 rfl rfl)
theorem dX8_read_109 : decode cX8_read 109 = .ok (.iconst 1, 1) := dk_4 (dk_at dksX8_read_4 16 rfl rfl)
theorem dX8_read_110 : decode cX8_read 110 = .ok (.isub, 1) := dk_100 (dk_at dksX8_read_4 17 rfl rfl)
theorem dX8_read_111 : decode cX8_read 111 = .ok (.i2l, 1) := dk_133 (dk_at dksX8_read_4 18 rfl rfl)
theorem dX8_read_112 : decode cX8_read 112 = .ok (.invokestatic 53, 3) := dk_184 0 53 (dk_at dksX8_read_4 19 rfl rfl)
theorem dX8_read_115 : decode cX8_read 115 = .ok (.ifCond .ne 7, 3) := dk_154 0 7 (dk_at dksX8_read_5 0 rfl rfl)
theorem dX8_read_118 : decode cX8_read 118 = .ok (.iconst 2, 1) := dk_5 (dk_at dksX8_read_5 3 rfl rfl)
theorem dX8_read_119 : decode cX8_read 119 = .ok (.goto 4, 3) := dk_167 0 4 (dk_at dksX8_read_5 4 rfl rfl)
theorem dX8_read_122 : decode cX8_read 122 = .ok (.iconst 0, 1) := dk_3 (dk_at dksX8_read_5 7 rfl rfl)
theorem dX8_read_123 : decode cX8_read 123 = .ok (.istore 5, 2) := dk_54 5 (dk_at dksX8_read_5 8 rfl rfl)
theorem dX8_read_125 : decode cX8_read 125 = .ok (.iload 5, 2) := dk_21 5 (dk_at dksX8_read_5 10 rfl rfl)
theorem dX8_read_127 : decode cX8_read 127 = .ok (.ifCond .ne 44, 3) := dk_154 0 44 (dk_at dksX8_read_5 12 rfl rfl)
theorem dX8_read_130 : decode cX8_read 130 = .ok (.bipush 40, 2) := dk_16 40 (dk_at dksX8_read_5 15 rfl rfl)
theorem dX8_read_132 : decode cX8_read 132 = .ok (.iload_n 1, 1) := dk_27 (dk_at dksX8_read_5 17 rfl rfl)
theorem dX8_read_133 : decode cX8_read 133 = .ok (.imul, 1) := dk_104 (dk_at dksX8_read_5 18 rfl rfl)
theorem dX8_read_134 : decode cX8_read 134 = .ok (.iload_n 3, 1) := dk_29 (dk_at dksX8_read_5 19 rfl rfl)
theorem dX8_read_135 : decode cX8_read 135 = .ok (.iadd, 1) := dk_96 (dk_at dksX8_read_5 20 rfl rfl)
theorem dX8_read_136 : decode cX8_read 136 = .ok (.iload 7, 2) := dk_21 7 (dk_at dksX8_read_5 21 rfl rfl)
theorem dX8_read_138 : decode cX8_read 138 = .ok (.iadd, 1) := dk_96 (dk_at dksX8_read_5 23 rfl rfl)
theorem dX8_read_139 : decode cX8_read 139 = .ok (.istore 8, 2) := dk_54 8 (dk_at dksX8_read_6 0 rfl rfl)
theorem dX8_read_141 : decode cX8_read 141 = .ok (.aload_n 0, 1) := dk_42 (dk_at dksX8_read_6 2 rfl rfl)
theorem dX8_read_142 : decode cX8_read 142 = .ok (.aload_n 0, 1) := dk_42 (dk_at dksX8_read_6 3 rfl rfl)
theorem dX8_read_143 : decode cX8_read 143 = .ok (.getfield 48, 3) := dk_180 0 48 (dk_at dksX8_read_6 4 rfl rfl)
theorem dX8_read_146 : decode cX8_read 146 = .ok (.iload 8, 2) := dk_21 8 (dk_at dksX8_read_6 7 rfl rfl)
theorem dX8_read_148 : decode cX8_read 148 = .ok (.iaload, 1) := dk_46 (dk_at dksX8_read_6 9 rfl rfl)
theorem dX8_read_149 : decode cX8_read 149 = .ok (.invokevirtual 167, 3) := dk_182 0 167 (dk_at dksX8_read_6 10 rfl rfl)
theorem dX8_read_152 : decode cX8_read 152 = .ok (.ifCond .ge 16, 3) := dk_156 0 16 (dk_at dksX8_read_6 13 rfl rfl)
theorem dX8_read_155 : decode cX8_read 155 = .ok (.aload_n 0, 1) := dk_42 (dk_at dksX8_read_6 16 rfl rfl)
theorem dX8_read_156 : decode cX8_read 156 = .ok (.bipush 117, 2) := dk_16 117 (dk_at dksX8_read_6 17 rfl rfl)
theorem dX8_read_158 : decode cX8_read 158 = .ok (.iconst 0, 1) := dk_3 (dk_at dksX8_read_6 19 rfl rfl)
theorem dX8_read_159 : decode cX8_read 159 = .ok (.invokevirtual 176, 3) := dk_182 0 176 (dk_at dksX8_read_6 20 rfl rfl)
theorem dX8_read_162 : decode cX8_read 162 = .ok (.bipush (-20), 2) := dk_16 236 (dk_at dksX8_read_7 0 rfl rfl)
theorem dX8_read_164 : decode cX8_read 164 = .ok (.iload 6, 2) := dk_21 6 (dk_at dksX8_read_7 2 rfl rfl)
theorem dX8_read_166 : decode cX8_read 166 = .ok (.isub, 1) := dk_100 (dk_at dksX8_read_7 4 rfl rfl)
theorem dX8_read_167 : decode cX8_read 167 = .ok (.ireturn, 1) := dk_172 (dk_at dksX8_read_7 5 rfl rfl)
theorem dX8_read_168 : decode cX8_read 168 = .ok (.iinc 6 1, 3) := dk_132 6 1 (dk_at dksX8_read_7 6 rfl rfl)
theorem dX8_read_171 : decode cX8_read 171 = .ok (.iinc 7 1, 3) := dk_132 7 1 (dk_at dksX8_read_7 9 rfl rfl)
theorem dX8_read_174 : decode cX8_read 174 = .ok (.goto (-119), 3) := dk_167 255 137 (dk_at dksX8_read_7 12 rfl rfl)
theorem dX8_read_177 : decode cX8_read 177 = .ok (.aload_n 0, 1) := dk_42 (dk_at dksX8_read_7 15 rfl rfl)
theorem dX8_read_178 : decode cX8_read 178 = .ok (.iload 5, 2) := dk_21 5 (dk_at dksX8_read_7 16 rfl rfl)
theorem dX8_read_180 : decode cX8_read 180 = .ok (.putfield 230, 3) := dk_181 0 230 (dk_at dksX8_read_7 18 rfl rfl)
theorem dX8_read_183 : decode cX8_read 183 = .ok (.iload 6, 2) := dk_21 6 (dk_at dksX8_read_7 21 rfl rfl)
theorem dX8_read_185 : decode cX8_read 185 = .ok (.ireturn, 1) := dk_172 (dk_at dksX8_read_7 23 rfl rfl)
abbrev cX8_torn : ByteArray := prog_12_method_70_code
def yX8_torn : MethodName := ⟨RX8, "torn", "()I"⟩
theorem dX8_torn_0 : decode cX8_torn 0 = .ok (.aload_n 0, 1) := by decide +kernel
theorem dX8_torn_1 : decode cX8_torn 1 = .ok (.getfield 230, 3) := by decide +kernel
theorem dX8_torn_4 : decode cX8_torn 4 = .ok (.ireturn, 1) := by decide +kernel
abbrev cX8_count : ByteArray := prog_12_method_71_code
def yX8_count : MethodName := ⟨RX8, "count", "(I)I"⟩
def dkwX8_count_6 : List UInt8 := [160, 0, 8, 16, 252, 167, 0, 9, 42, 180, 0, 45, 3, 46, 172, 28, 172, 29, 172, 2, 172]
abbrev dktX8_count_6 : List UInt8 := dkwX8_count_6 ++ []
def dkwX8_count_5 : List UInt8 := [51, 153, 0, 7, 4, 167, 0, 4, 3, 96, 172, 42, 180, 0, 57, 172, 42, 180, 0, 42, 3, 46, 16, 252]
abbrev dktX8_count_5 : List UInt8 := dkwX8_count_5 ++ dktX8_count_6
def dkwX8_count_4 : List UInt8 := [42, 180, 0, 120, 172, 42, 180, 0, 38, 3, 51, 153, 0, 7, 4, 167, 0, 4, 3, 42, 180, 0, 38, 4]
abbrev dktX8_count_4 : List UInt8 := dkwX8_count_4 ++ dktX8_count_5
def dkwX8_count_3 : List UInt8 := [170, 0, 0, 0, 104, 0, 0, 0, 0, 0, 0, 0, 5, 0, 0, 0, 37, 0, 0, 0, 42, 0, 0, 0, 72, 0, 0, 0, 77, 0, 0, 0, 100, 0, 0, 0, 102]
abbrev dktX8_count_3 : List UInt8 := dkwX8_count_3 ++ dktX8_count_4
def dkwX8_count_2 : List UInt8 := [167, 255, 216, 27]
abbrev dktX8_count_2 : List UInt8 := dkwX8_count_2 ++ dktX8_count_3
def dkwX8_count_1 : List UInt8 := [7, 21, 4, 96, 46, 96, 61, 29, 42, 180, 0, 7, 16, 8, 21, 4, 96, 46, 96, 62, 132, 4, 1]
abbrev dktX8_count_1 : List UInt8 := dkwX8_count_1 ++ dktX8_count_2
def dkwX8_count_0 : List UInt8 := [3, 61, 3, 62, 3, 54, 4, 21, 4, 42, 180, 0, 7, 16, 16, 46, 162, 0, 34, 28, 42, 180, 0, 7]
abbrev dktX8_count_0 : List UInt8 := dkwX8_count_0 ++ dktX8_count_1
theorem dksX8_count_0 : cX8_count.data.toList.drop 0 = dktX8_count_0 := by decide +kernel
theorem dksX8_count_1 : cX8_count.data.toList.drop 24 = dktX8_count_1 := dk_seg dksX8_count_0 24 rfl rfl
theorem dksX8_count_2 : cX8_count.data.toList.drop 47 = dktX8_count_2 := dk_seg dksX8_count_1 23 rfl rfl
theorem dksX8_count_3 : cX8_count.data.toList.drop 51 = dktX8_count_3 := dk_seg dksX8_count_2 4 rfl rfl
theorem dksX8_count_4 : cX8_count.data.toList.drop 88 = dktX8_count_4 := dk_seg dksX8_count_3 37 rfl rfl
theorem dksX8_count_5 : cX8_count.data.toList.drop 112 = dktX8_count_5 := dk_seg dksX8_count_4 24 rfl rfl
theorem dksX8_count_6 : cX8_count.data.toList.drop 136 = dktX8_count_6 := dk_seg dksX8_count_5 24 rfl rfl
theorem dX8_count_0 : decode cX8_count 0 = .ok (.iconst 0, 1) := dk_3 (dk_at dksX8_count_0 0 rfl rfl)
theorem dX8_count_1 : decode cX8_count 1 = .ok (.istore_n 2, 1) := dk_61 (dk_at dksX8_count_0 1 rfl rfl)
theorem dX8_count_2 : decode cX8_count 2 = .ok (.iconst 0, 1) := dk_3 (dk_at dksX8_count_0 2 rfl rfl)
theorem dX8_count_3 : decode cX8_count 3 = .ok (.istore_n 3, 1) := dk_62 (dk_at dksX8_count_0 3 rfl rfl)
theorem dX8_count_4 : decode cX8_count 4 = .ok (.iconst 0, 1) := dk_3 (dk_at dksX8_count_0 4 rfl rfl)
theorem dX8_count_5 : decode cX8_count 5 = .ok (.istore 4, 2) := dk_54 4 (dk_at dksX8_count_0 5 rfl rfl)
theorem dX8_count_7 : decode cX8_count 7 = .ok (.iload 4, 2) := dk_21 4 (dk_at dksX8_count_0 7 rfl rfl)
theorem dX8_count_9 : decode cX8_count 9 = .ok (.aload_n 0, 1) := dk_42 (dk_at dksX8_count_0 9 rfl rfl)
theorem dX8_count_10 : decode cX8_count 10 = .ok (.getfield 7, 3) := dk_180 0 7 (dk_at dksX8_count_0 10 rfl rfl)
theorem dX8_count_13 : decode cX8_count 13 = .ok (.bipush 16, 2) := dk_16 16 (dk_at dksX8_count_0 13 rfl rfl)
theorem dX8_count_15 : decode cX8_count 15 = .ok (.iaload, 1) := dk_46 (dk_at dksX8_count_0 15 rfl rfl)
theorem dX8_count_16 : decode cX8_count 16 = .ok (.if_icmp .ge 34, 3) := dk_162 0 34 (dk_at dksX8_count_0 16 rfl rfl)
theorem dX8_count_19 : decode cX8_count 19 = .ok (.iload_n 2, 1) := dk_28 (dk_at dksX8_count_0 19 rfl rfl)
theorem dX8_count_20 : decode cX8_count 20 = .ok (.aload_n 0, 1) := dk_42 (dk_at dksX8_count_0 20 rfl rfl)
theorem dX8_count_21 : decode cX8_count 21 = .ok (.getfield 7, 3) := dk_180 0 7 (dk_at dksX8_count_0 21 rfl rfl)
theorem dX8_count_24 : decode cX8_count 24 = .ok (.iconst 4, 1) := dk_7 (dk_at dksX8_count_1 0 rfl rfl)
theorem dX8_count_25 : decode cX8_count 25 = .ok (.iload 4, 2) := dk_21 4 (dk_at dksX8_count_1 1 rfl rfl)
theorem dX8_count_27 : decode cX8_count 27 = .ok (.iadd, 1) := dk_96 (dk_at dksX8_count_1 3 rfl rfl)
theorem dX8_count_28 : decode cX8_count 28 = .ok (.iaload, 1) := dk_46 (dk_at dksX8_count_1 4 rfl rfl)
theorem dX8_count_29 : decode cX8_count 29 = .ok (.iadd, 1) := dk_96 (dk_at dksX8_count_1 5 rfl rfl)
theorem dX8_count_30 : decode cX8_count 30 = .ok (.istore_n 2, 1) := dk_61 (dk_at dksX8_count_1 6 rfl rfl)
theorem dX8_count_31 : decode cX8_count 31 = .ok (.iload_n 3, 1) := dk_29 (dk_at dksX8_count_1 7 rfl rfl)
theorem dX8_count_32 : decode cX8_count 32 = .ok (.aload_n 0, 1) := dk_42 (dk_at dksX8_count_1 8 rfl rfl)
theorem dX8_count_33 : decode cX8_count 33 = .ok (.getfield 7, 3) := dk_180 0 7 (dk_at dksX8_count_1 9 rfl rfl)
theorem dX8_count_36 : decode cX8_count 36 = .ok (.bipush 8, 2) := dk_16 8 (dk_at dksX8_count_1 12 rfl rfl)
theorem dX8_count_38 : decode cX8_count 38 = .ok (.iload 4, 2) := dk_21 4 (dk_at dksX8_count_1 14 rfl rfl)
theorem dX8_count_40 : decode cX8_count 40 = .ok (.iadd, 1) := dk_96 (dk_at dksX8_count_1 16 rfl rfl)
theorem dX8_count_41 : decode cX8_count 41 = .ok (.iaload, 1) := dk_46 (dk_at dksX8_count_1 17 rfl rfl)
theorem dX8_count_42 : decode cX8_count 42 = .ok (.iadd, 1) := dk_96 (dk_at dksX8_count_1 18 rfl rfl)
theorem dX8_count_43 : decode cX8_count 43 = .ok (.istore_n 3, 1) := dk_62 (dk_at dksX8_count_1 19 rfl rfl)
theorem dX8_count_44 : decode cX8_count 44 = .ok (.iinc 4 1, 3) := dk_132 4 1 (dk_at dksX8_count_1 20 rfl rfl)
theorem dX8_count_47 : decode cX8_count 47 = .ok (.goto (-40), 3) := dk_167 255 216 (dk_at dksX8_count_2 0 rfl rfl)
theorem dX8_count_50 : decode cX8_count 50 = .ok (.iload_n 1, 1) := dk_27 (dk_at dksX8_count_2 3 rfl rfl)
theorem dX8_count_51 : decode cX8_count 51 = .ok (.tableswitch 104 0 5 #[37, 42, 72, 77, 100, 102], 37) := by decide +kernel
theorem dX8_count_88 : decode cX8_count 88 = .ok (.aload_n 0, 1) := dk_42 (dk_at dksX8_count_4 0 rfl rfl)
theorem dX8_count_89 : decode cX8_count 89 = .ok (.getfield 120, 3) := dk_180 0 120 (dk_at dksX8_count_4 1 rfl rfl)
theorem dX8_count_92 : decode cX8_count 92 = .ok (.ireturn, 1) := dk_172 (dk_at dksX8_count_4 4 rfl rfl)
theorem dX8_count_93 : decode cX8_count 93 = .ok (.aload_n 0, 1) := dk_42 (dk_at dksX8_count_4 5 rfl rfl)
theorem dX8_count_94 : decode cX8_count 94 = .ok (.getfield 38, 3) := dk_180 0 38 (dk_at dksX8_count_4 6 rfl rfl)
theorem dX8_count_97 : decode cX8_count 97 = .ok (.iconst 0, 1) := dk_3 (dk_at dksX8_count_4 9 rfl rfl)
theorem dX8_count_98 : decode cX8_count 98 = .ok (.baload, 1) := dk_51 (dk_at dksX8_count_4 10 rfl rfl)
theorem dX8_count_99 : decode cX8_count 99 = .ok (.ifCond .eq 7, 3) := dk_153 0 7 (dk_at dksX8_count_4 11 rfl rfl)
theorem dX8_count_102 : decode cX8_count 102 = .ok (.iconst 1, 1) := dk_4 (dk_at dksX8_count_4 14 rfl rfl)
theorem dX8_count_103 : decode cX8_count 103 = .ok (.goto 4, 3) := dk_167 0 4 (dk_at dksX8_count_4 15 rfl rfl)
theorem dX8_count_106 : decode cX8_count 106 = .ok (.iconst 0, 1) := dk_3 (dk_at dksX8_count_4 18 rfl rfl)
theorem dX8_count_107 : decode cX8_count 107 = .ok (.aload_n 0, 1) := dk_42 (dk_at dksX8_count_4 19 rfl rfl)
theorem dX8_count_108 : decode cX8_count 108 = .ok (.getfield 38, 3) := dk_180 0 38 (dk_at dksX8_count_4 20 rfl rfl)
theorem dX8_count_111 : decode cX8_count 111 = .ok (.iconst 1, 1) := dk_4 (dk_at dksX8_count_4 23 rfl rfl)
theorem dX8_count_112 : decode cX8_count 112 = .ok (.baload, 1) := dk_51 (dk_at dksX8_count_5 0 rfl rfl)
theorem dX8_count_113 : decode cX8_count 113 = .ok (.ifCond .eq 7, 3) := dk_153 0 7 (dk_at dksX8_count_5 1 rfl rfl)
theorem dX8_count_116 : decode cX8_count 116 = .ok (.iconst 1, 1) := dk_4 (dk_at dksX8_count_5 4 rfl rfl)
theorem dX8_count_117 : decode cX8_count 117 = .ok (.goto 4, 3) := dk_167 0 4 (dk_at dksX8_count_5 5 rfl rfl)
theorem dX8_count_120 : decode cX8_count 120 = .ok (.iconst 0, 1) := dk_3 (dk_at dksX8_count_5 8 rfl rfl)
theorem dX8_count_121 : decode cX8_count 121 = .ok (.iadd, 1) := dk_96 (dk_at dksX8_count_5 9 rfl rfl)
theorem dX8_count_122 : decode cX8_count 122 = .ok (.ireturn, 1) := dk_172 (dk_at dksX8_count_5 10 rfl rfl)
theorem dX8_count_123 : decode cX8_count 123 = .ok (.aload_n 0, 1) := dk_42 (dk_at dksX8_count_5 11 rfl rfl)
theorem dX8_count_124 : decode cX8_count 124 = .ok (.getfield 57, 3) := dk_180 0 57 (dk_at dksX8_count_5 12 rfl rfl)
theorem dX8_count_127 : decode cX8_count 127 = .ok (.ireturn, 1) := dk_172 (dk_at dksX8_count_5 15 rfl rfl)
theorem dX8_count_128 : decode cX8_count 128 = .ok (.aload_n 0, 1) := dk_42 (dk_at dksX8_count_5 16 rfl rfl)
theorem dX8_count_129 : decode cX8_count 129 = .ok (.getfield 42, 3) := dk_180 0 42 (dk_at dksX8_count_5 17 rfl rfl)
theorem dX8_count_132 : decode cX8_count 132 = .ok (.iconst 0, 1) := dk_3 (dk_at dksX8_count_5 20 rfl rfl)
theorem dX8_count_133 : decode cX8_count 133 = .ok (.iaload, 1) := dk_46 (dk_at dksX8_count_5 21 rfl rfl)
theorem dX8_count_134 : decode cX8_count 134 = .ok (.bipush (-4), 2) := dk_16 252 (dk_at dksX8_count_5 22 rfl rfl)
theorem dX8_count_136 : decode cX8_count 136 = .ok (.if_icmp .ne 8, 3) := dk_160 0 8 (dk_at dksX8_count_6 0 rfl rfl)
theorem dX8_count_139 : decode cX8_count 139 = .ok (.bipush (-4), 2) := dk_16 252 (dk_at dksX8_count_6 3 rfl rfl)
theorem dX8_count_141 : decode cX8_count 141 = .ok (.goto 9, 3) := dk_167 0 9 (dk_at dksX8_count_6 5 rfl rfl)
theorem dX8_count_144 : decode cX8_count 144 = .ok (.aload_n 0, 1) := dk_42 (dk_at dksX8_count_6 8 rfl rfl)
theorem dX8_count_145 : decode cX8_count 145 = .ok (.getfield 45, 3) := dk_180 0 45 (dk_at dksX8_count_6 9 rfl rfl)
theorem dX8_count_148 : decode cX8_count 148 = .ok (.iconst 0, 1) := dk_3 (dk_at dksX8_count_6 12 rfl rfl)
theorem dX8_count_149 : decode cX8_count 149 = .ok (.iaload, 1) := dk_46 (dk_at dksX8_count_6 13 rfl rfl)
theorem dX8_count_150 : decode cX8_count 150 = .ok (.ireturn, 1) := dk_172 (dk_at dksX8_count_6 14 rfl rfl)
theorem dX8_count_151 : decode cX8_count 151 = .ok (.iload_n 2, 1) := dk_28 (dk_at dksX8_count_6 15 rfl rfl)
theorem dX8_count_152 : decode cX8_count 152 = .ok (.ireturn, 1) := dk_172 (dk_at dksX8_count_6 16 rfl rfl)
theorem dX8_count_153 : decode cX8_count 153 = .ok (.iload_n 3, 1) := dk_29 (dk_at dksX8_count_6 17 rfl rfl)
theorem dX8_count_154 : decode cX8_count 154 = .ok (.ireturn, 1) := dk_172 (dk_at dksX8_count_6 18 rfl rfl)
theorem dX8_count_155 : decode cX8_count 155 = .ok (.iconst (-1), 1) := dk_2 (dk_at dksX8_count_6 19 rfl rfl)
theorem dX8_count_156 : decode cX8_count 156 = .ok (.ireturn, 1) := dk_172 (dk_at dksX8_count_6 20 rfl rfl)
theorem q65 : (Jvm.Cond.initialized "FlyWheelsModel") ∈ lw_all := lw_g (lw_at lw_m1 9 rfl) rfl
theorem q950 : (Jvm.Cond.instantiable "FlyWheelsModel" (26 : Nat)) ∈ lw_all := lw_g (lw_at lw_m4 174 rfl) rfl
theorem q952 : (Jvm.Cond.instanceMethod ({ cls := "FlyWheelsModel", name := "<init>", desc := "()V" } : Jvm.MethodName)) ∈ lw_all := lw_g (lw_at lw_m4 176 rfl) rfl
theorem q953 : (Jvm.Cond.code ({ cls := "FlyWheelsModel", name := "<init>", desc := "()V" } : Jvm.MethodName) prog_12_method_1_code (1 : Nat) (Option.none : Option Jvm.ClassFile.FieldType)) ∈ lw_all := lw_g (lw_at lw_m4 177 rfl) rfl
theorem q954 : (Jvm.Cond.methodLink "FlyWheelsModel" (1 : Nat) ({ cls := "java/lang/Object", name := "<init>", desc := "()V" } : Jvm.MethodName)) ∈ lw_all := lw_g (lw_at lw_m4 178 rfl) rfl
theorem q955 : (Jvm.Cond.fieldLink "FlyWheelsModel" (7 : Nat) "FlyWheelsModel" "state" "[I") ∈ lw_all := lw_g (lw_at lw_m4 179 rfl) rfl
theorem q956 : (Jvm.Cond.fieldLink "FlyWheelsModel" (13 : Nat) "FlyWheelsModel" "readPage" "[I") ∈ lw_all := lw_g (lw_at lw_m4 180 rfl) rfl
theorem q957 : (Jvm.Cond.fieldLink "FlyWheelsModel" (107 : Nat) "FlyWheelsModel" "isShaftTold" "Z") ∈ lw_all := lw_g (lw_at lw_m4 181 rfl) rfl
theorem q958 : (Jvm.Cond.fieldLink "FlyWheelsModel" (16 : Nat) "FlyWheelsModel" "tape" "[I") ∈ lw_all := lw_g (lw_at lw_m4 182 rfl) rfl
theorem q959 : (Jvm.Cond.fieldLink "FlyWheelsModel" (57 : Nat) "FlyWheelsModel" "taped" "I") ∈ lw_all := lw_g (lw_at lw_m4 183 rfl) rfl
theorem q960 : (Jvm.Cond.fieldLink "FlyWheelsModel" (117 : Nat) "FlyWheelsModel" "fault" "I") ∈ lw_all := lw_g (lw_at lw_m4 184 rfl) rfl
theorem q961 : (Jvm.Cond.fieldLink "FlyWheelsModel" (60 : Nat) "FlyWheelsModel" "broken" "I") ∈ lw_all := lw_g (lw_at lw_m4 185 rfl) rfl
theorem q962 : (Jvm.Cond.fieldLink "FlyWheelsModel" (66 : Nat) "FlyWheelsModel" "brokenAt" "I") ∈ lw_all := lw_g (lw_at lw_m4 186 rfl) rfl
theorem q963 : (Jvm.Cond.fieldLink "FlyWheelsModel" (72 : Nat) "FlyWheelsModel" "spot" "I") ∈ lw_all := lw_g (lw_at lw_m4 187 rfl) rfl
theorem q964 : (Jvm.Cond.fieldLink "FlyWheelsModel" (63 : Nat) "FlyWheelsModel" "here" "I") ∈ lw_all := lw_g (lw_at lw_m4 188 rfl) rfl
theorem q965 : (Jvm.Cond.fieldLink "FlyWheelsModel" (69 : Nat) "FlyWheelsModel" "token" "I") ∈ lw_all := lw_g (lw_at lw_m4 189 rfl) rfl
theorem q966 : (Jvm.Cond.fieldLink "FlyWheelsModel" (79 : Nat) "FlyWheelsModel" "value" "I") ∈ lw_all := lw_g (lw_at lw_m4 190 rfl) rfl
theorem q967 : (Jvm.Cond.fieldLink "FlyWheelsModel" (19 : Nat) "FlyWheelsModel" "ends" "[I") ∈ lw_all := lw_g (lw_at lw_m4 191 rfl) rfl
theorem q968 : (Jvm.Cond.fieldLink "FlyWheelsModel" (22 : Nat) "FlyWheelsModel" "letters" "[I") ∈ lw_all := lw_g (lw_at lw_m4 192 rfl) rfl
theorem q969 : (Jvm.Cond.fieldLink "FlyWheelsModel" (25 : Nat) "FlyWheelsModel" "freed" "I") ∈ lw_all := lw_g (lw_at lw_m4 193 rfl) rfl
theorem q970 : (Jvm.Cond.fieldLink "FlyWheelsModel" (29 : Nat) "FlyWheelsModel" "omitted" "I") ∈ lw_all := lw_g (lw_at lw_m4 194 rfl) rfl
theorem q971 : (Jvm.Cond.fieldLink "FlyWheelsModel" (128 : Nat) "FlyWheelsModel" "taken" "I") ∈ lw_all := lw_g (lw_at lw_m4 195 rfl) rfl
theorem q972 : (Jvm.Cond.fieldLink "FlyWheelsModel" (134 : Nat) "FlyWheelsModel" "fastest" "I") ∈ lw_all := lw_g (lw_at lw_m4 196 rfl) rfl
theorem q973 : (Jvm.Cond.fieldLink "FlyWheelsModel" (32 : Nat) "FlyWheelsModel" "seen" "[I") ∈ lw_all := lw_g (lw_at lw_m4 197 rfl) rfl
theorem q974 : (Jvm.Cond.fieldLink "FlyWheelsModel" (120 : Nat) "FlyWheelsModel" "seenMany" "I") ∈ lw_all := lw_g (lw_at lw_m4 198 rfl) rfl
theorem q975 : (Jvm.Cond.fieldLink "FlyWheelsModel" (35 : Nat) "FlyWheelsModel" "swingBy" "[I") ∈ lw_all := lw_g (lw_at lw_m4 199 rfl) rfl
theorem q976 : (Jvm.Cond.fieldLink "FlyWheelsModel" (38 : Nat) "FlyWheelsModel" "isKept" "[Z") ∈ lw_all := lw_g (lw_at lw_m4 200 rfl) rfl
theorem q977 : (Jvm.Cond.fieldLink "FlyWheelsModel" (42 : Nat) "FlyWheelsModel" "lanes" "[I") ∈ lw_all := lw_g (lw_at lw_m4 201 rfl) rfl
theorem q978 : (Jvm.Cond.fieldLink "FlyWheelsModel" (45 : Nat) "FlyWheelsModel" "lengths" "[I") ∈ lw_all := lw_g (lw_at lw_m4 202 rfl) rfl
theorem q979 : (Jvm.Cond.fieldLink "FlyWheelsModel" (48 : Nat) "FlyWheelsModel" "cells" "[I") ∈ lw_all := lw_g (lw_at lw_m4 203 rfl) rfl
theorem q980 : (Jvm.Cond.fieldLink "FlyWheelsModel" (230 : Nat) "FlyWheelsModel" "torn" "I") ∈ lw_all := lw_g (lw_at lw_m4 204 rfl) rfl
theorem q981 : (Jvm.Cond.laysFinal "FlyWheelsModel" "FlyWheelsModel" "state" "[I") ∈ lw_all := lw_g (lw_at lw_m4 205 rfl) rfl
theorem q982 : (Jvm.Cond.soleField "FlyWheelsModel" "state") ∈ lw_all := lw_g (lw_at lw_m4 206 rfl) rfl
theorem q983 : (Jvm.Cond.laysFinal "FlyWheelsModel" "FlyWheelsModel" "readPage" "[I") ∈ lw_all := lw_g (lw_at lw_m4 207 rfl) rfl
theorem q984 : (Jvm.Cond.soleField "FlyWheelsModel" "readPage") ∈ lw_all := lw_g (lw_at lw_m4 208 rfl) rfl
theorem q985 : (Jvm.Cond.lays "FlyWheelsModel" "FlyWheelsModel" "isShaftTold" "Z") ∈ lw_all := lw_g (lw_at lw_m4 209 rfl) rfl
theorem q986 : (Jvm.Cond.soleField "FlyWheelsModel" "isShaftTold") ∈ lw_all := lw_g (lw_at lw_m4 210 rfl) rfl
theorem q987 : (Jvm.Cond.laysFinal "FlyWheelsModel" "FlyWheelsModel" "tape" "[I") ∈ lw_all := lw_g (lw_at lw_m4 211 rfl) rfl
theorem q988 : (Jvm.Cond.soleField "FlyWheelsModel" "tape") ∈ lw_all := lw_g (lw_at lw_m4 212 rfl) rfl
theorem q989 : (Jvm.Cond.lays "FlyWheelsModel" "FlyWheelsModel" "taped" "I") ∈ lw_all := lw_g (lw_at lw_m4 213 rfl) rfl
theorem q990 : (Jvm.Cond.soleField "FlyWheelsModel" "taped") ∈ lw_all := lw_g (lw_at lw_m4 214 rfl) rfl
theorem q991 : (Jvm.Cond.lays "FlyWheelsModel" "FlyWheelsModel" "fault" "I") ∈ lw_all := lw_g (lw_at lw_m4 215 rfl) rfl
theorem q992 : (Jvm.Cond.soleField "FlyWheelsModel" "fault") ∈ lw_all := lw_g (lw_at lw_m4 216 rfl) rfl
theorem q993 : (Jvm.Cond.lays "FlyWheelsModel" "FlyWheelsModel" "broken" "I") ∈ lw_all := lw_g (lw_at lw_m4 217 rfl) rfl
theorem q994 : (Jvm.Cond.soleField "FlyWheelsModel" "broken") ∈ lw_all := lw_g (lw_at lw_m4 218 rfl) rfl
theorem q995 : (Jvm.Cond.lays "FlyWheelsModel" "FlyWheelsModel" "brokenAt" "I") ∈ lw_all := lw_g (lw_at lw_m4 219 rfl) rfl
theorem q996 : (Jvm.Cond.soleField "FlyWheelsModel" "brokenAt") ∈ lw_all := lw_g (lw_at lw_m4 220 rfl) rfl
theorem q997 : (Jvm.Cond.lays "FlyWheelsModel" "FlyWheelsModel" "spot" "I") ∈ lw_all := lw_g (lw_at lw_m4 221 rfl) rfl
theorem q998 : (Jvm.Cond.soleField "FlyWheelsModel" "spot") ∈ lw_all := lw_g (lw_at lw_m4 222 rfl) rfl
theorem q999 : (Jvm.Cond.lays "FlyWheelsModel" "FlyWheelsModel" "here" "I") ∈ lw_all := lw_g (lw_at lw_m4 223 rfl) rfl
theorem q1000 : (Jvm.Cond.soleField "FlyWheelsModel" "here") ∈ lw_all := lw_g (lw_at lw_m4 224 rfl) rfl
theorem q1001 : (Jvm.Cond.lays "FlyWheelsModel" "FlyWheelsModel" "token" "I") ∈ lw_all := lw_g (lw_at lw_m4 225 rfl) rfl
theorem q1002 : (Jvm.Cond.soleField "FlyWheelsModel" "token") ∈ lw_all := lw_g (lw_at lw_m4 226 rfl) rfl
theorem q1003 : (Jvm.Cond.lays "FlyWheelsModel" "FlyWheelsModel" "value" "I") ∈ lw_all := lw_g (lw_at lw_m4 227 rfl) rfl
theorem q1004 : (Jvm.Cond.soleField "FlyWheelsModel" "value") ∈ lw_all := lw_g (lw_at lw_m4 228 rfl) rfl
theorem q1005 : (Jvm.Cond.laysFinal "FlyWheelsModel" "FlyWheelsModel" "ends" "[I") ∈ lw_all := lw_g (lw_at lw_m4 229 rfl) rfl
theorem q1006 : (Jvm.Cond.soleField "FlyWheelsModel" "ends") ∈ lw_all := lw_g (lw_at lw_m4 230 rfl) rfl
theorem q1007 : (Jvm.Cond.laysFinal "FlyWheelsModel" "FlyWheelsModel" "letters" "[I") ∈ lw_all := lw_g (lw_at lw_m4 231 rfl) rfl
theorem q1008 : (Jvm.Cond.soleField "FlyWheelsModel" "letters") ∈ lw_all := lw_g (lw_at lw_m4 232 rfl) rfl
theorem q1009 : (Jvm.Cond.lays "FlyWheelsModel" "FlyWheelsModel" "freed" "I") ∈ lw_all := lw_g (lw_at lw_m4 233 rfl) rfl
theorem q1010 : (Jvm.Cond.soleField "FlyWheelsModel" "freed") ∈ lw_all := lw_g (lw_at lw_m4 234 rfl) rfl
theorem q1011 : (Jvm.Cond.lays "FlyWheelsModel" "FlyWheelsModel" "omitted" "I") ∈ lw_all := lw_g (lw_at lw_m4 235 rfl) rfl
theorem q1012 : (Jvm.Cond.soleField "FlyWheelsModel" "omitted") ∈ lw_all := lw_g (lw_at lw_m4 236 rfl) rfl
theorem q1013 : (Jvm.Cond.lays "FlyWheelsModel" "FlyWheelsModel" "taken" "I") ∈ lw_all := lw_g (lw_at lw_m4 237 rfl) rfl
theorem q1014 : (Jvm.Cond.soleField "FlyWheelsModel" "taken") ∈ lw_all := lw_g (lw_at lw_m4 238 rfl) rfl
theorem q1015 : (Jvm.Cond.lays "FlyWheelsModel" "FlyWheelsModel" "fastest" "I") ∈ lw_all := lw_g (lw_at lw_m4 239 rfl) rfl
theorem q1016 : (Jvm.Cond.soleField "FlyWheelsModel" "fastest") ∈ lw_all := lw_g (lw_at lw_m5 0 rfl) rfl
theorem q1017 : (Jvm.Cond.laysFinal "FlyWheelsModel" "FlyWheelsModel" "seen" "[I") ∈ lw_all := lw_g (lw_at lw_m5 1 rfl) rfl
theorem q1018 : (Jvm.Cond.soleField "FlyWheelsModel" "seen") ∈ lw_all := lw_g (lw_at lw_m5 2 rfl) rfl
theorem q1019 : (Jvm.Cond.lays "FlyWheelsModel" "FlyWheelsModel" "seenMany" "I") ∈ lw_all := lw_g (lw_at lw_m5 3 rfl) rfl
theorem q1020 : (Jvm.Cond.soleField "FlyWheelsModel" "seenMany") ∈ lw_all := lw_g (lw_at lw_m5 4 rfl) rfl
theorem q1021 : (Jvm.Cond.laysFinal "FlyWheelsModel" "FlyWheelsModel" "swingBy" "[I") ∈ lw_all := lw_g (lw_at lw_m5 5 rfl) rfl
theorem q1022 : (Jvm.Cond.soleField "FlyWheelsModel" "swingBy") ∈ lw_all := lw_g (lw_at lw_m5 6 rfl) rfl
theorem q1023 : (Jvm.Cond.laysFinal "FlyWheelsModel" "FlyWheelsModel" "isKept" "[Z") ∈ lw_all := lw_g (lw_at lw_m5 7 rfl) rfl
theorem q1024 : (Jvm.Cond.soleField "FlyWheelsModel" "isKept") ∈ lw_all := lw_g (lw_at lw_m5 8 rfl) rfl
theorem q1025 : (Jvm.Cond.laysFinal "FlyWheelsModel" "FlyWheelsModel" "lanes" "[I") ∈ lw_all := lw_g (lw_at lw_m5 9 rfl) rfl
theorem q1026 : (Jvm.Cond.soleField "FlyWheelsModel" "lanes") ∈ lw_all := lw_g (lw_at lw_m5 10 rfl) rfl
theorem q1027 : (Jvm.Cond.laysFinal "FlyWheelsModel" "FlyWheelsModel" "lengths" "[I") ∈ lw_all := lw_g (lw_at lw_m5 11 rfl) rfl
theorem q1028 : (Jvm.Cond.soleField "FlyWheelsModel" "lengths") ∈ lw_all := lw_g (lw_at lw_m5 12 rfl) rfl
theorem q1029 : (Jvm.Cond.laysFinal "FlyWheelsModel" "FlyWheelsModel" "cells" "[I") ∈ lw_all := lw_g (lw_at lw_m5 13 rfl) rfl
theorem q1030 : (Jvm.Cond.soleField "FlyWheelsModel" "cells") ∈ lw_all := lw_g (lw_at lw_m5 14 rfl) rfl
theorem q1031 : (Jvm.Cond.lays "FlyWheelsModel" "FlyWheelsModel" "torn" "I") ∈ lw_all := lw_g (lw_at lw_m5 15 rfl) rfl
theorem q1032 : (Jvm.Cond.soleField "FlyWheelsModel" "torn") ∈ lw_all := lw_g (lw_at lw_m5 16 rfl) rfl
theorem q1033 : (Jvm.Cond.superclass "FlyWheelsModel" "java/lang/Object") ∈ lw_all := lw_g (lw_at lw_m5 17 rfl) rfl
theorem q1036 : (Jvm.Cond.instanceMethod ({ cls := "FlyWheelsModel", name := "feed", desc := "(I)I" } : Jvm.MethodName)) ∈ lw_all := lw_g (lw_at lw_m5 20 rfl) rfl
theorem q1037 : (Jvm.Cond.selects "FlyWheelsModel" ({ cls := "FlyWheelsModel", name := "feed", desc := "(I)I" } : Jvm.MethodName) ({ cls := "FlyWheelsModel", name := "feed", desc := "(I)I" } : Jvm.MethodName)) ∈ lw_all := lw_g (lw_at lw_m5 21 rfl) rfl
theorem q1038 : (Jvm.Cond.code ({ cls := "FlyWheelsModel", name := "feed", desc := "(I)I" } : Jvm.MethodName) prog_12_method_4_code (2 : Nat) (Option.some Jvm.ClassFile.FieldType.int)) ∈ lw_all := lw_g (lw_at lw_m5 22 rfl) rfl
theorem q1039 : (Jvm.Cond.constantLong "FlyWheelsModel" (51 : Nat) (127 : Int64)) ∈ lw_all := lw_g (lw_at lw_m5 23 rfl) rfl
theorem q1040 : (Jvm.Cond.methodLink "FlyWheelsModel" (53 : Nat) ({ cls := "FlyWheelsModel", name := "in", desc := "(JJJ)Z" } : Jvm.MethodName)) ∈ lw_all := lw_g (lw_at lw_m5 24 rfl) rfl
theorem q1041 : (Jvm.Cond.static ({ cls := "FlyWheelsModel", name := "in", desc := "(JJJ)Z" } : Jvm.MethodName)) ∈ lw_all := lw_g (lw_at lw_m5 25 rfl) rfl
theorem q1042 : (Jvm.Cond.code ({ cls := "FlyWheelsModel", name := "in", desc := "(JJJ)Z" } : Jvm.MethodName) prog_12_method_3_code (6 : Nat) (Option.some Jvm.ClassFile.FieldType.boolean)) ∈ lw_all := lw_g (lw_at lw_m5 26 rfl) rfl
theorem q1044 : (Jvm.Cond.instanceMethod ({ cls := "FlyWheelsModel", name := "end", desc := "(I)I" } : Jvm.MethodName)) ∈ lw_all := lw_g (lw_at lw_m5 28 rfl) rfl
theorem q1045 : (Jvm.Cond.selects "FlyWheelsModel" ({ cls := "FlyWheelsModel", name := "end", desc := "(I)I" } : Jvm.MethodName) ({ cls := "FlyWheelsModel", name := "end", desc := "(I)I" } : Jvm.MethodName)) ∈ lw_all := lw_g (lw_at lw_m5 29 rfl) rfl
theorem q1046 : (Jvm.Cond.code ({ cls := "FlyWheelsModel", name := "end", desc := "(I)I" } : Jvm.MethodName) prog_12_method_5_code (3 : Nat) (Option.some Jvm.ClassFile.FieldType.int)) ∈ lw_all := lw_g (lw_at lw_m5 30 rfl) rfl
theorem q1048 : (Jvm.Cond.instanceMethod ({ cls := "FlyWheelsModel", name := "text", desc := "()I" } : Jvm.MethodName)) ∈ lw_all := lw_g (lw_at lw_m5 32 rfl) rfl
theorem q1049 : (Jvm.Cond.selects "FlyWheelsModel" ({ cls := "FlyWheelsModel", name := "text", desc := "()I" } : Jvm.MethodName) ({ cls := "FlyWheelsModel", name := "text", desc := "()I" } : Jvm.MethodName)) ∈ lw_all := lw_g (lw_at lw_m5 33 rfl) rfl
theorem q1050 : (Jvm.Cond.code ({ cls := "FlyWheelsModel", name := "text", desc := "()I" } : Jvm.MethodName) prog_12_method_13_code (3 : Nat) (Option.some Jvm.ClassFile.FieldType.int)) ∈ lw_all := lw_g (lw_at lw_m5 34 rfl) rfl
theorem q1051 : (Jvm.Cond.methodLink "FlyWheelsModel" (94 : Nat) ({ cls := "FlyWheelsModel", name := "readsOn", desc := "()V" } : Jvm.MethodName)) ∈ lw_all := lw_g (lw_at lw_m5 35 rfl) rfl
theorem q1052 : (Jvm.Cond.privateMethod ({ cls := "FlyWheelsModel", name := "readsOn", desc := "()V" } : Jvm.MethodName)) ∈ lw_tbl := lw_at lw_m5 36 rfl
theorem q1053 : (Jvm.Cond.instanceMethod ({ cls := "FlyWheelsModel", name := "readsOn", desc := "()V" } : Jvm.MethodName)) ∈ lw_all := lw_g (lw_at lw_m5 37 rfl) rfl
theorem q1054 : (Jvm.Cond.code ({ cls := "FlyWheelsModel", name := "readsOn", desc := "()V" } : Jvm.MethodName) prog_12_method_9_code (2 : Nat) (Option.none : Option Jvm.ClassFile.FieldType)) ∈ lw_all := lw_g (lw_at lw_m5 38 rfl) rfl
theorem q1055 : (Jvm.Cond.methodLink "FlyWheelsModel" (75 : Nat) ({ cls := "FlyWheelsModel", name := "byteAt", desc := "(I)I" } : Jvm.MethodName)) ∈ lw_all := lw_g (lw_at lw_m5 39 rfl) rfl
theorem q1056 : (Jvm.Cond.privateMethod ({ cls := "FlyWheelsModel", name := "byteAt", desc := "(I)I" } : Jvm.MethodName)) ∈ lw_tbl := lw_at lw_m5 40 rfl
theorem q1057 : (Jvm.Cond.instanceMethod ({ cls := "FlyWheelsModel", name := "byteAt", desc := "(I)I" } : Jvm.MethodName)) ∈ lw_all := lw_g (lw_at lw_m5 41 rfl) rfl
theorem q1058 : (Jvm.Cond.code ({ cls := "FlyWheelsModel", name := "byteAt", desc := "(I)I" } : Jvm.MethodName) prog_12_method_6_code (2 : Nat) (Option.some Jvm.ClassFile.FieldType.int)) ∈ lw_all := lw_g (lw_at lw_m5 42 rfl) rfl
theorem q1059 : (Jvm.Cond.constantLong "FlyWheelsModel" (82 : Nat) (97 : Int64)) ∈ lw_all := lw_g (lw_at lw_m5 43 rfl) rfl
theorem q1060 : (Jvm.Cond.constantLong "FlyWheelsModel" (84 : Nat) (122 : Int64)) ∈ lw_all := lw_g (lw_at lw_m5 44 rfl) rfl
theorem q1061 : (Jvm.Cond.constantLong "FlyWheelsModel" (86 : Nat) (48 : Int64)) ∈ lw_all := lw_g (lw_at lw_m5 45 rfl) rfl
theorem q1062 : (Jvm.Cond.constantLong "FlyWheelsModel" (88 : Nat) (57 : Int64)) ∈ lw_all := lw_g (lw_at lw_m5 46 rfl) rfl
theorem q1063 : (Jvm.Cond.methodLink "FlyWheelsModel" (90 : Nat) ({ cls := "FlyWheelsModel", name := "fails", desc := "(I)V" } : Jvm.MethodName)) ∈ lw_all := lw_g (lw_at lw_m5 47 rfl) rfl
theorem q1064 : (Jvm.Cond.privateMethod ({ cls := "FlyWheelsModel", name := "fails", desc := "(I)V" } : Jvm.MethodName)) ∈ lw_tbl := lw_at lw_m5 48 rfl
theorem q1065 : (Jvm.Cond.instanceMethod ({ cls := "FlyWheelsModel", name := "fails", desc := "(I)V" } : Jvm.MethodName)) ∈ lw_all := lw_g (lw_at lw_m5 49 rfl) rfl
theorem q1066 : (Jvm.Cond.code ({ cls := "FlyWheelsModel", name := "fails", desc := "(I)V" } : Jvm.MethodName) prog_12_method_7_code (2 : Nat) (Option.none : Option Jvm.ClassFile.FieldType)) ∈ lw_all := lw_g (lw_at lw_m5 50 rfl) rfl
theorem q1067 : (Jvm.Cond.methodLink "FlyWheelsModel" (114 : Nat) ({ cls := "FlyWheelsModel", name := "readLine", desc := "()V" } : Jvm.MethodName)) ∈ lw_all := lw_g (lw_at lw_m5 51 rfl) rfl
theorem q1068 : (Jvm.Cond.privateMethod ({ cls := "FlyWheelsModel", name := "readLine", desc := "()V" } : Jvm.MethodName)) ∈ lw_tbl := lw_at lw_m5 52 rfl
theorem q1069 : (Jvm.Cond.instanceMethod ({ cls := "FlyWheelsModel", name := "readLine", desc := "()V" } : Jvm.MethodName)) ∈ lw_all := lw_g (lw_at lw_m5 53 rfl) rfl
theorem q1070 : (Jvm.Cond.code ({ cls := "FlyWheelsModel", name := "readLine", desc := "()V" } : Jvm.MethodName) prog_12_method_12_code (2 : Nat) (Option.none : Option Jvm.ClassFile.FieldType)) ∈ lw_all := lw_g (lw_at lw_m5 54 rfl) rfl
theorem q1071 : (Jvm.Cond.methodLink "FlyWheelsModel" (101 : Nat) ({ cls := "FlyWheelsModel", name := "nameHere", desc := "()I" } : Jvm.MethodName)) ∈ lw_all := lw_g (lw_at lw_m5 55 rfl) rfl
theorem q1072 : (Jvm.Cond.privateMethod ({ cls := "FlyWheelsModel", name := "nameHere", desc := "()I" } : Jvm.MethodName)) ∈ lw_tbl := lw_at lw_m5 56 rfl
theorem q1073 : (Jvm.Cond.instanceMethod ({ cls := "FlyWheelsModel", name := "nameHere", desc := "()I" } : Jvm.MethodName)) ∈ lw_all := lw_g (lw_at lw_m5 57 rfl) rfl
theorem q1074 : (Jvm.Cond.code ({ cls := "FlyWheelsModel", name := "nameHere", desc := "()I" } : Jvm.MethodName) prog_12_method_8_code (4 : Nat) (Option.some Jvm.ClassFile.FieldType.int)) ∈ lw_all := lw_g (lw_at lw_m5 58 rfl) rfl
theorem q1075 : (Jvm.Cond.constantLong "FlyWheelsModel" (105 : Nat) (7 : Int64)) ∈ lw_all := lw_g (lw_at lw_m5 59 rfl) rfl
theorem q1076 : (Jvm.Cond.methodLink "FlyWheelsModel" (111 : Nat) ({ cls := "FlyWheelsModel", name := "readMore", desc := "(I)V" } : Jvm.MethodName)) ∈ lw_all := lw_g (lw_at lw_m5 60 rfl) rfl
theorem q1077 : (Jvm.Cond.privateMethod ({ cls := "FlyWheelsModel", name := "readMore", desc := "(I)V" } : Jvm.MethodName)) ∈ lw_tbl := lw_at lw_m5 61 rfl
theorem q1078 : (Jvm.Cond.instanceMethod ({ cls := "FlyWheelsModel", name := "readMore", desc := "(I)V" } : Jvm.MethodName)) ∈ lw_all := lw_g (lw_at lw_m5 62 rfl) rfl
theorem q1079 : (Jvm.Cond.code ({ cls := "FlyWheelsModel", name := "readMore", desc := "(I)V" } : Jvm.MethodName) prog_12_method_11_code (3 : Nat) (Option.none : Option Jvm.ClassFile.FieldType)) ∈ lw_all := lw_g (lw_at lw_m5 63 rfl) rfl
theorem q1080 : (Jvm.Cond.methodLink "FlyWheelsModel" (97 : Nat) ({ cls := "FlyWheelsModel", name := "number", desc := "(II)I" } : Jvm.MethodName)) ∈ lw_all := lw_g (lw_at lw_m5 64 rfl) rfl
theorem q1081 : (Jvm.Cond.privateMethod ({ cls := "FlyWheelsModel", name := "number", desc := "(II)I" } : Jvm.MethodName)) ∈ lw_tbl := lw_at lw_m5 65 rfl
theorem q1082 : (Jvm.Cond.instanceMethod ({ cls := "FlyWheelsModel", name := "number", desc := "(II)I" } : Jvm.MethodName)) ∈ lw_all := lw_g (lw_at lw_m5 66 rfl) rfl
theorem q1083 : (Jvm.Cond.code ({ cls := "FlyWheelsModel", name := "number", desc := "(II)I" } : Jvm.MethodName) prog_12_method_10_code (4 : Nat) (Option.some Jvm.ClassFile.FieldType.int)) ∈ lw_all := lw_g (lw_at lw_m5 67 rfl) rfl
theorem q1085 : (Jvm.Cond.instanceMethod ({ cls := "FlyWheelsModel", name := "fault", desc := "()I" } : Jvm.MethodName)) ∈ lw_all := lw_g (lw_at lw_m5 69 rfl) rfl
theorem q1086 : (Jvm.Cond.selects "FlyWheelsModel" ({ cls := "FlyWheelsModel", name := "fault", desc := "()I" } : Jvm.MethodName) ({ cls := "FlyWheelsModel", name := "fault", desc := "()I" } : Jvm.MethodName)) ∈ lw_all := lw_g (lw_at lw_m5 70 rfl) rfl
theorem q1087 : (Jvm.Cond.code ({ cls := "FlyWheelsModel", name := "fault", desc := "()I" } : Jvm.MethodName) prog_12_method_14_code (1 : Nat) (Option.some Jvm.ClassFile.FieldType.int)) ∈ lw_all := lw_g (lw_at lw_m5 71 rfl) rfl
theorem q1089 : (Jvm.Cond.instanceMethod ({ cls := "FlyWheelsModel", name := "rule", desc := "(I)I" } : Jvm.MethodName)) ∈ lw_all := lw_g (lw_at lw_m5 73 rfl) rfl
theorem q1090 : (Jvm.Cond.selects "FlyWheelsModel" ({ cls := "FlyWheelsModel", name := "rule", desc := "(I)I" } : Jvm.MethodName) ({ cls := "FlyWheelsModel", name := "rule", desc := "(I)I" } : Jvm.MethodName)) ∈ lw_all := lw_g (lw_at lw_m5 74 rfl) rfl
theorem q1091 : (Jvm.Cond.code ({ cls := "FlyWheelsModel", name := "rule", desc := "(I)I" } : Jvm.MethodName) prog_12_method_24_code (3 : Nat) (Option.some Jvm.ClassFile.FieldType.int)) ∈ lw_all := lw_g (lw_at lw_m5 75 rfl) rfl
theorem q1092 : (Jvm.Cond.methodLink "FlyWheelsModel" (131 : Nat) ({ cls := "FlyWheelsModel", name := "speedOn", desc := "(I)I" } : Jvm.MethodName)) ∈ lw_all := lw_g (lw_at lw_m5 76 rfl) rfl
theorem q1093 : (Jvm.Cond.privateMethod ({ cls := "FlyWheelsModel", name := "speedOn", desc := "(I)I" } : Jvm.MethodName)) ∈ lw_tbl := lw_at lw_m5 77 rfl
theorem q1094 : (Jvm.Cond.instanceMethod ({ cls := "FlyWheelsModel", name := "speedOn", desc := "(I)I" } : Jvm.MethodName)) ∈ lw_all := lw_g (lw_at lw_m5 78 rfl) rfl
theorem q1095 : (Jvm.Cond.code ({ cls := "FlyWheelsModel", name := "speedOn", desc := "(I)I" } : Jvm.MethodName) prog_12_method_19_code (2 : Nat) (Option.some Jvm.ClassFile.FieldType.int)) ∈ lw_all := lw_g (lw_at lw_m5 79 rfl) rfl
theorem q1097 : (Jvm.Cond.instanceMethod ({ cls := "FlyWheelsModel", name := "wheel", desc := "(II)I" } : Jvm.MethodName)) ∈ lw_all := lw_g (lw_at lw_m5 81 rfl) rfl
theorem q1098 : (Jvm.Cond.selects "FlyWheelsModel" ({ cls := "FlyWheelsModel", name := "wheel", desc := "(II)I" } : Jvm.MethodName) ({ cls := "FlyWheelsModel", name := "wheel", desc := "(II)I" } : Jvm.MethodName)) ∈ lw_all := lw_g (lw_at lw_m5 82 rfl) rfl
theorem q1099 : (Jvm.Cond.code ({ cls := "FlyWheelsModel", name := "wheel", desc := "(II)I" } : Jvm.MethodName) prog_12_method_25_code (3 : Nat) (Option.some Jvm.ClassFile.FieldType.int)) ∈ lw_all := lw_g (lw_at lw_m5 83 rfl) rfl
theorem q1100 : (Jvm.Cond.methodLink "FlyWheelsModel" (144 : Nat) ({ cls := "FlyWheelsModel", name := "isWheel", desc := "(I)Z" } : Jvm.MethodName)) ∈ lw_all := lw_g (lw_at lw_m5 84 rfl) rfl
theorem q1101 : (Jvm.Cond.privateMethod ({ cls := "FlyWheelsModel", name := "isWheel", desc := "(I)Z" } : Jvm.MethodName)) ∈ lw_tbl := lw_at lw_m5 85 rfl
theorem q1102 : (Jvm.Cond.instanceMethod ({ cls := "FlyWheelsModel", name := "isWheel", desc := "(I)Z" } : Jvm.MethodName)) ∈ lw_all := lw_g (lw_at lw_m5 86 rfl) rfl
theorem q1103 : (Jvm.Cond.code ({ cls := "FlyWheelsModel", name := "isWheel", desc := "(I)Z" } : Jvm.MethodName) prog_12_method_15_code (2 : Nat) (Option.some Jvm.ClassFile.FieldType.boolean)) ∈ lw_all := lw_g (lw_at lw_m5 87 rfl) rfl
theorem q1104 : (Jvm.Cond.constantLong "FlyWheelsModel" (148 : Nat) (5 : Int64)) ∈ lw_all := lw_g (lw_at lw_m5 88 rfl) rfl
theorem q1105 : (Jvm.Cond.methodLink "FlyWheelsModel" (125 : Nat) ({ cls := "FlyWheelsModel", name := "joinedOn", desc := "(II)I" } : Jvm.MethodName)) ∈ lw_all := lw_g (lw_at lw_m5 89 rfl) rfl
theorem q1106 : (Jvm.Cond.privateMethod ({ cls := "FlyWheelsModel", name := "joinedOn", desc := "(II)I" } : Jvm.MethodName)) ∈ lw_tbl := lw_at lw_m5 90 rfl
theorem q1107 : (Jvm.Cond.instanceMethod ({ cls := "FlyWheelsModel", name := "joinedOn", desc := "(II)I" } : Jvm.MethodName)) ∈ lw_all := lw_g (lw_at lw_m5 91 rfl) rfl
theorem q1108 : (Jvm.Cond.code ({ cls := "FlyWheelsModel", name := "joinedOn", desc := "(II)I" } : Jvm.MethodName) prog_12_method_18_code (8 : Nat) (Option.some Jvm.ClassFile.FieldType.int)) ∈ lw_all := lw_g (lw_at lw_m5 92 rfl) rfl
theorem q1110 : (Jvm.Cond.instanceMethod ({ cls := "FlyWheelsModel", name := "act", desc := "(I)I" } : Jvm.MethodName)) ∈ lw_all := lw_g (lw_at lw_m5 94 rfl) rfl
theorem q1111 : (Jvm.Cond.selects "FlyWheelsModel" ({ cls := "FlyWheelsModel", name := "act", desc := "(I)I" } : Jvm.MethodName) ({ cls := "FlyWheelsModel", name := "act", desc := "(I)I" } : Jvm.MethodName)) ∈ lw_all := lw_g (lw_at lw_m5 95 rfl) rfl
theorem q1112 : (Jvm.Cond.code ({ cls := "FlyWheelsModel", name := "act", desc := "(I)I" } : Jvm.MethodName) prog_12_method_26_code (2 : Nat) (Option.some Jvm.ClassFile.FieldType.int)) ∈ lw_all := lw_g (lw_at lw_m5 96 rfl) rfl
theorem q1113 : (Jvm.Cond.methodLink "FlyWheelsModel" (150 : Nat) ({ cls := "FlyWheelsModel", name := "isAct", desc := "(I)Z" } : Jvm.MethodName)) ∈ lw_all := lw_g (lw_at lw_m5 97 rfl) rfl
theorem q1114 : (Jvm.Cond.privateMethod ({ cls := "FlyWheelsModel", name := "isAct", desc := "(I)Z" } : Jvm.MethodName)) ∈ lw_tbl := lw_at lw_m5 98 rfl
theorem q1115 : (Jvm.Cond.instanceMethod ({ cls := "FlyWheelsModel", name := "isAct", desc := "(I)Z" } : Jvm.MethodName)) ∈ lw_all := lw_g (lw_at lw_m5 99 rfl) rfl
theorem q1116 : (Jvm.Cond.code ({ cls := "FlyWheelsModel", name := "isAct", desc := "(I)Z" } : Jvm.MethodName) prog_12_method_16_code (2 : Nat) (Option.some Jvm.ClassFile.FieldType.boolean)) ∈ lw_all := lw_g (lw_at lw_m5 100 rfl) rfl
theorem q1118 : (Jvm.Cond.instanceMethod ({ cls := "FlyWheelsModel", name := "alter", desc := "(III)I" } : Jvm.MethodName)) ∈ lw_all := lw_g (lw_at lw_m5 102 rfl) rfl
theorem q1119 : (Jvm.Cond.selects "FlyWheelsModel" ({ cls := "FlyWheelsModel", name := "alter", desc := "(III)I" } : Jvm.MethodName) ({ cls := "FlyWheelsModel", name := "alter", desc := "(III)I" } : Jvm.MethodName)) ∈ lw_all := lw_g (lw_at lw_m5 103 rfl) rfl
theorem q1120 : (Jvm.Cond.code ({ cls := "FlyWheelsModel", name := "alter", desc := "(III)I" } : Jvm.MethodName) prog_12_method_28_code (5 : Nat) (Option.some Jvm.ClassFile.FieldType.int)) ∈ lw_all := lw_g (lw_at lw_m5 104 rfl) rfl
theorem q1121 : (Jvm.Cond.constantLong "FlyWheelsModel" (153 : Nat) (3 : Int64)) ∈ lw_all := lw_g (lw_at lw_m5 105 rfl) rfl
theorem q1122 : (Jvm.Cond.constantLong "FlyWheelsModel" (155 : Nat) (20 : Int64)) ∈ lw_all := lw_g (lw_at lw_m5 106 rfl) rfl
theorem q1123 : (Jvm.Cond.constantLong "FlyWheelsModel" (157 : Nat) (9 : Int64)) ∈ lw_all := lw_g (lw_at lw_m5 107 rfl) rfl
theorem q1124 : (Jvm.Cond.constantLong "FlyWheelsModel" (159 : Nat) (9999 : Int64)) ∈ lw_all := lw_g (lw_at lw_m5 108 rfl) rfl
theorem q1125 : (Jvm.Cond.methodLink "FlyWheelsModel" (161 : Nat) ({ cls := "FlyWheelsModel", name := "puts", desc := "(ZIII)I" } : Jvm.MethodName)) ∈ lw_all := lw_g (lw_at lw_m5 109 rfl) rfl
theorem q1126 : (Jvm.Cond.privateMethod ({ cls := "FlyWheelsModel", name := "puts", desc := "(ZIII)I" } : Jvm.MethodName)) ∈ lw_tbl := lw_at lw_m5 110 rfl
theorem q1127 : (Jvm.Cond.instanceMethod ({ cls := "FlyWheelsModel", name := "puts", desc := "(ZIII)I" } : Jvm.MethodName)) ∈ lw_all := lw_g (lw_at lw_m5 111 rfl) rfl
theorem q1128 : (Jvm.Cond.code ({ cls := "FlyWheelsModel", name := "puts", desc := "(ZIII)I" } : Jvm.MethodName) prog_12_method_27_code (6 : Nat) (Option.some Jvm.ClassFile.FieldType.int)) ∈ lw_all := lw_g (lw_at lw_m5 112 rfl) rfl
theorem q1130 : (Jvm.Cond.instanceMethod ({ cls := "FlyWheelsModel", name := "shaft", desc := "(I)I" } : Jvm.MethodName)) ∈ lw_all := lw_g (lw_at lw_m5 114 rfl) rfl
theorem q1131 : (Jvm.Cond.selects "FlyWheelsModel" ({ cls := "FlyWheelsModel", name := "shaft", desc := "(I)I" } : Jvm.MethodName) ({ cls := "FlyWheelsModel", name := "shaft", desc := "(I)I" } : Jvm.MethodName)) ∈ lw_all := lw_g (lw_at lw_m5 115 rfl) rfl
theorem q1132 : (Jvm.Cond.code ({ cls := "FlyWheelsModel", name := "shaft", desc := "(I)I" } : Jvm.MethodName) prog_12_method_29_code (2 : Nat) (Option.some Jvm.ClassFile.FieldType.int)) ∈ lw_all := lw_g (lw_at lw_m5 116 rfl) rfl
theorem q1134 : (Jvm.Cond.instanceMethod ({ cls := "FlyWheelsModel", name := "put", desc := "(III)I" } : Jvm.MethodName)) ∈ lw_all := lw_g (lw_at lw_m5 118 rfl) rfl
theorem q1135 : (Jvm.Cond.selects "FlyWheelsModel" ({ cls := "FlyWheelsModel", name := "put", desc := "(III)I" } : Jvm.MethodName) ({ cls := "FlyWheelsModel", name := "put", desc := "(III)I" } : Jvm.MethodName)) ∈ lw_all := lw_g (lw_at lw_m5 119 rfl) rfl
theorem q1136 : (Jvm.Cond.code ({ cls := "FlyWheelsModel", name := "put", desc := "(III)I" } : Jvm.MethodName) prog_12_method_30_code (5 : Nat) (Option.some Jvm.ClassFile.FieldType.int)) ∈ lw_all := lw_g (lw_at lw_m5 120 rfl) rfl
theorem q1138 : (Jvm.Cond.instanceMethod ({ cls := "FlyWheelsModel", name := "cut", desc := "(I)I" } : Jvm.MethodName)) ∈ lw_all := lw_g (lw_at lw_m5 122 rfl) rfl
theorem q1139 : (Jvm.Cond.selects "FlyWheelsModel" ({ cls := "FlyWheelsModel", name := "cut", desc := "(I)I" } : Jvm.MethodName) ({ cls := "FlyWheelsModel", name := "cut", desc := "(I)I" } : Jvm.MethodName)) ∈ lw_all := lw_g (lw_at lw_m5 123 rfl) rfl
theorem q1140 : (Jvm.Cond.code ({ cls := "FlyWheelsModel", name := "cut", desc := "(I)I" } : Jvm.MethodName) prog_12_method_31_code (2 : Nat) (Option.some Jvm.ClassFile.FieldType.int)) ∈ lw_all := lw_g (lw_at lw_m5 124 rfl) rfl
theorem q1142 : (Jvm.Cond.instanceMethod ({ cls := "FlyWheelsModel", name := "set", desc := "(II)I" } : Jvm.MethodName)) ∈ lw_all := lw_g (lw_at lw_m5 126 rfl) rfl
theorem q1143 : (Jvm.Cond.selects "FlyWheelsModel" ({ cls := "FlyWheelsModel", name := "set", desc := "(II)I" } : Jvm.MethodName) ({ cls := "FlyWheelsModel", name := "set", desc := "(II)I" } : Jvm.MethodName)) ∈ lw_all := lw_g (lw_at lw_m5 127 rfl) rfl
theorem q1144 : (Jvm.Cond.code ({ cls := "FlyWheelsModel", name := "set", desc := "(II)I" } : Jvm.MethodName) prog_12_method_32_code (3 : Nat) (Option.some Jvm.ClassFile.FieldType.int)) ∈ lw_all := lw_g (lw_at lw_m5 128 rfl) rfl
theorem q1145 : (Jvm.Cond.constantLong "FlyWheelsModel" (165 : Nat) (203 : Int64)) ∈ lw_all := lw_g (lw_at lw_m5 129 rfl) rfl
theorem q1147 : (Jvm.Cond.instanceMethod ({ cls := "FlyWheelsModel", name := "add", desc := "(I)I" } : Jvm.MethodName)) ∈ lw_all := lw_g (lw_at lw_m5 131 rfl) rfl
theorem q1148 : (Jvm.Cond.selects "FlyWheelsModel" ({ cls := "FlyWheelsModel", name := "add", desc := "(I)I" } : Jvm.MethodName) ({ cls := "FlyWheelsModel", name := "add", desc := "(I)I" } : Jvm.MethodName)) ∈ lw_all := lw_g (lw_at lw_m5 132 rfl) rfl
theorem q1149 : (Jvm.Cond.code ({ cls := "FlyWheelsModel", name := "add", desc := "(I)I" } : Jvm.MethodName) prog_12_method_34_code (2 : Nat) (Option.some Jvm.ClassFile.FieldType.int)) ∈ lw_all := lw_g (lw_at lw_m5 133 rfl) rfl
theorem q1150 : (Jvm.Cond.methodLink "FlyWheelsModel" (167 : Nat) ({ cls := "FlyWheelsModel", name := "adds", desc := "(I)I" } : Jvm.MethodName)) ∈ lw_all := lw_g (lw_at lw_m5 134 rfl) rfl
theorem q1151 : (Jvm.Cond.privateMethod ({ cls := "FlyWheelsModel", name := "adds", desc := "(I)I" } : Jvm.MethodName)) ∈ lw_tbl := lw_at lw_m5 135 rfl
theorem q1152 : (Jvm.Cond.instanceMethod ({ cls := "FlyWheelsModel", name := "adds", desc := "(I)I" } : Jvm.MethodName)) ∈ lw_all := lw_g (lw_at lw_m5 136 rfl) rfl
theorem q1153 : (Jvm.Cond.code ({ cls := "FlyWheelsModel", name := "adds", desc := "(I)I" } : Jvm.MethodName) prog_12_method_33_code (2 : Nat) (Option.some Jvm.ClassFile.FieldType.int)) ∈ lw_all := lw_g (lw_at lw_m5 137 rfl) rfl
theorem q1155 : (Jvm.Cond.instanceMethod ({ cls := "FlyWheelsModel", name := "drop", desc := "(I)I" } : Jvm.MethodName)) ∈ lw_all := lw_g (lw_at lw_m5 139 rfl) rfl
theorem q1156 : (Jvm.Cond.selects "FlyWheelsModel" ({ cls := "FlyWheelsModel", name := "drop", desc := "(I)I" } : Jvm.MethodName) ({ cls := "FlyWheelsModel", name := "drop", desc := "(I)I" } : Jvm.MethodName)) ∈ lw_all := lw_g (lw_at lw_m5 140 rfl) rfl
theorem q1157 : (Jvm.Cond.code ({ cls := "FlyWheelsModel", name := "drop", desc := "(I)I" } : Jvm.MethodName) prog_12_method_35_code (2 : Nat) (Option.some Jvm.ClassFile.FieldType.int)) ∈ lw_all := lw_g (lw_at lw_m5 141 rfl) rfl
theorem q1159 : (Jvm.Cond.instanceMethod ({ cls := "FlyWheelsModel", name := "turn", desc := "(I)I" } : Jvm.MethodName)) ∈ lw_all := lw_g (lw_at lw_m5 143 rfl) rfl
theorem q1160 : (Jvm.Cond.selects "FlyWheelsModel" ({ cls := "FlyWheelsModel", name := "turn", desc := "(I)I" } : Jvm.MethodName) ({ cls := "FlyWheelsModel", name := "turn", desc := "(I)I" } : Jvm.MethodName)) ∈ lw_all := lw_g (lw_at lw_m5 144 rfl) rfl
theorem q1161 : (Jvm.Cond.code ({ cls := "FlyWheelsModel", name := "turn", desc := "(I)I" } : Jvm.MethodName) prog_12_method_36_code (2 : Nat) (Option.some Jvm.ClassFile.FieldType.int)) ∈ lw_all := lw_g (lw_at lw_m5 145 rfl) rfl
theorem q1162 : (Jvm.Cond.methodLink "FlyWheelsModel" (137 : Nat) ({ cls := "FlyWheelsModel", name := "actOn", desc := "(IIZ)V" } : Jvm.MethodName)) ∈ lw_all := lw_g (lw_at lw_m5 146 rfl) rfl
theorem q1163 : (Jvm.Cond.privateMethod ({ cls := "FlyWheelsModel", name := "actOn", desc := "(IIZ)V" } : Jvm.MethodName)) ∈ lw_tbl := lw_at lw_m5 147 rfl
theorem q1164 : (Jvm.Cond.instanceMethod ({ cls := "FlyWheelsModel", name := "actOn", desc := "(IIZ)V" } : Jvm.MethodName)) ∈ lw_all := lw_g (lw_at lw_m5 148 rfl) rfl
theorem q1165 : (Jvm.Cond.code ({ cls := "FlyWheelsModel", name := "actOn", desc := "(IIZ)V" } : Jvm.MethodName) prog_12_method_20_code (6 : Nat) (Option.none : Option Jvm.ClassFile.FieldType)) ∈ lw_all := lw_g (lw_at lw_m5 149 rfl) rfl
theorem q1167 : (Jvm.Cond.instanceMethod ({ cls := "FlyWheelsModel", name := "ticks", desc := "(I)I" } : Jvm.MethodName)) ∈ lw_all := lw_g (lw_at lw_m5 151 rfl) rfl
theorem q1168 : (Jvm.Cond.selects "FlyWheelsModel" ({ cls := "FlyWheelsModel", name := "ticks", desc := "(I)I" } : Jvm.MethodName) ({ cls := "FlyWheelsModel", name := "ticks", desc := "(I)I" } : Jvm.MethodName)) ∈ lw_all := lw_g (lw_at lw_m5 152 rfl) rfl
theorem q1169 : (Jvm.Cond.code ({ cls := "FlyWheelsModel", name := "ticks", desc := "(I)I" } : Jvm.MethodName) prog_12_method_37_code (4 : Nat) (Option.some Jvm.ClassFile.FieldType.int)) ∈ lw_all := lw_g (lw_at lw_m5 153 rfl) rfl
theorem q1170 : (Jvm.Cond.constantLong "FlyWheelsModel" (170 : Nat) (100 : Int64)) ∈ lw_all := lw_g (lw_at lw_m5 154 rfl) rfl
theorem q1171 : (Jvm.Cond.methodLink "FlyWheelsModel" (172 : Nat) ({ cls := "FlyWheelsModel", name := "tickOn", desc := "(IZ)V" } : Jvm.MethodName)) ∈ lw_all := lw_g (lw_at lw_m5 155 rfl) rfl
theorem q1172 : (Jvm.Cond.privateMethod ({ cls := "FlyWheelsModel", name := "tickOn", desc := "(IZ)V" } : Jvm.MethodName)) ∈ lw_tbl := lw_at lw_m5 156 rfl
theorem q1173 : (Jvm.Cond.instanceMethod ({ cls := "FlyWheelsModel", name := "tickOn", desc := "(IZ)V" } : Jvm.MethodName)) ∈ lw_all := lw_g (lw_at lw_m5 157 rfl) rfl
theorem q1174 : (Jvm.Cond.code ({ cls := "FlyWheelsModel", name := "tickOn", desc := "(IZ)V" } : Jvm.MethodName) prog_12_method_22_code (4 : Nat) (Option.none : Option Jvm.ClassFile.FieldType)) ∈ lw_all := lw_g (lw_at lw_m5 158 rfl) rfl
theorem q1175 : (Jvm.Cond.methodLink "FlyWheelsModel" (141 : Nat) ({ cls := "FlyWheelsModel", name := "lossesOn", desc := "(I)V" } : Jvm.MethodName)) ∈ lw_all := lw_g (lw_at lw_m5 159 rfl) rfl
theorem q1176 : (Jvm.Cond.privateMethod ({ cls := "FlyWheelsModel", name := "lossesOn", desc := "(I)V" } : Jvm.MethodName)) ∈ lw_tbl := lw_at lw_m5 160 rfl
theorem q1177 : (Jvm.Cond.instanceMethod ({ cls := "FlyWheelsModel", name := "lossesOn", desc := "(I)V" } : Jvm.MethodName)) ∈ lw_all := lw_g (lw_at lw_m5 161 rfl) rfl
theorem q1178 : (Jvm.Cond.code ({ cls := "FlyWheelsModel", name := "lossesOn", desc := "(I)V" } : Jvm.MethodName) prog_12_method_21_code (6 : Nat) (Option.none : Option Jvm.ClassFile.FieldType)) ∈ lw_all := lw_g (lw_at lw_m5 162 rfl) rfl
theorem q1180 : (Jvm.Cond.instanceMethod ({ cls := "FlyWheelsModel", name := "runs", desc := "(II)I" } : Jvm.MethodName)) ∈ lw_all := lw_g (lw_at lw_m5 164 rfl) rfl
theorem q1181 : (Jvm.Cond.selects "FlyWheelsModel" ({ cls := "FlyWheelsModel", name := "runs", desc := "(II)I" } : Jvm.MethodName) ({ cls := "FlyWheelsModel", name := "runs", desc := "(II)I" } : Jvm.MethodName)) ∈ lw_all := lw_g (lw_at lw_m5 165 rfl) rfl
theorem q1182 : (Jvm.Cond.code ({ cls := "FlyWheelsModel", name := "runs", desc := "(II)I" } : Jvm.MethodName) prog_12_method_41_code (4 : Nat) (Option.some Jvm.ClassFile.FieldType.int)) ∈ lw_all := lw_g (lw_at lw_m5 166 rfl) rfl
theorem q1183 : (Jvm.Cond.methodLink "FlyWheelsModel" (180 : Nat) ({ cls := "FlyWheelsModel", name := "isLong", desc := "(I)Z" } : Jvm.MethodName)) ∈ lw_all := lw_g (lw_at lw_m5 167 rfl) rfl
theorem q1184 : (Jvm.Cond.static ({ cls := "FlyWheelsModel", name := "isLong", desc := "(I)Z" } : Jvm.MethodName)) ∈ lw_all := lw_g (lw_at lw_m5 168 rfl) rfl
theorem q1185 : (Jvm.Cond.code ({ cls := "FlyWheelsModel", name := "isLong", desc := "(I)Z" } : Jvm.MethodName) prog_12_method_17_code (1 : Nat) (Option.some Jvm.ClassFile.FieldType.boolean)) ∈ lw_all := lw_g (lw_at lw_m5 169 rfl) rfl
theorem q1186 : (Jvm.Cond.constantLong "FlyWheelsModel" (123 : Nat) (200 : Int64)) ∈ lw_all := lw_g (lw_at lw_m5 170 rfl) rfl
theorem q1187 : (Jvm.Cond.constantLong "FlyWheelsModel" (183 : Nat) (4 : Int64)) ∈ lw_all := lw_g (lw_at lw_m5 171 rfl) rfl
theorem q1188 : (Jvm.Cond.methodLink "FlyWheelsModel" (185 : Nat) ({ cls := "FlyWheelsModel", name := "ticksGo", desc := "(II)I" } : Jvm.MethodName)) ∈ lw_all := lw_g (lw_at lw_m5 172 rfl) rfl
theorem q1189 : (Jvm.Cond.privateMethod ({ cls := "FlyWheelsModel", name := "ticksGo", desc := "(II)I" } : Jvm.MethodName)) ∈ lw_tbl := lw_at lw_m5 173 rfl
theorem q1190 : (Jvm.Cond.instanceMethod ({ cls := "FlyWheelsModel", name := "ticksGo", desc := "(II)I" } : Jvm.MethodName)) ∈ lw_all := lw_g (lw_at lw_m5 174 rfl) rfl
theorem q1191 : (Jvm.Cond.code ({ cls := "FlyWheelsModel", name := "ticksGo", desc := "(II)I" } : Jvm.MethodName) prog_12_method_39_code (4 : Nat) (Option.some Jvm.ClassFile.FieldType.int)) ∈ lw_all := lw_g (lw_at lw_m5 175 rfl) rfl
theorem q1192 : (Jvm.Cond.methodLink "FlyWheelsModel" (176 : Nat) ({ cls := "FlyWheelsModel", name := "copies", desc := "(II)V" } : Jvm.MethodName)) ∈ lw_all := lw_g (lw_at lw_m5 176 rfl) rfl
theorem q1193 : (Jvm.Cond.privateMethod ({ cls := "FlyWheelsModel", name := "copies", desc := "(II)V" } : Jvm.MethodName)) ∈ lw_tbl := lw_at lw_m5 177 rfl
theorem q1194 : (Jvm.Cond.instanceMethod ({ cls := "FlyWheelsModel", name := "copies", desc := "(II)V" } : Jvm.MethodName)) ∈ lw_all := lw_g (lw_at lw_m5 178 rfl) rfl
theorem q1195 : (Jvm.Cond.code ({ cls := "FlyWheelsModel", name := "copies", desc := "(II)V" } : Jvm.MethodName) prog_12_method_38_code (4 : Nat) (Option.none : Option Jvm.ClassFile.FieldType)) ∈ lw_all := lw_g (lw_at lw_m5 179 rfl) rfl
theorem q1196 : (Jvm.Cond.methodLink "FlyWheelsModel" (188 : Nat) ({ cls := "FlyWheelsModel", name := "lackThen", desc := "()I" } : Jvm.MethodName)) ∈ lw_all := lw_g (lw_at lw_m5 180 rfl) rfl
theorem q1197 : (Jvm.Cond.privateMethod ({ cls := "FlyWheelsModel", name := "lackThen", desc := "()I" } : Jvm.MethodName)) ∈ lw_tbl := lw_at lw_m5 181 rfl
theorem q1198 : (Jvm.Cond.instanceMethod ({ cls := "FlyWheelsModel", name := "lackThen", desc := "()I" } : Jvm.MethodName)) ∈ lw_all := lw_g (lw_at lw_m5 182 rfl) rfl
theorem q1199 : (Jvm.Cond.code ({ cls := "FlyWheelsModel", name := "lackThen", desc := "()I" } : Jvm.MethodName) prog_12_method_40_code (1 : Nat) (Option.some Jvm.ClassFile.FieldType.int)) ∈ lw_all := lw_g (lw_at lw_m5 183 rfl) rfl
theorem q1200 : (Jvm.Cond.methodLink "FlyWheelsModel" (191 : Nat) ({ cls := "FlyWheelsModel", name := "swingOn", desc := "(I)I" } : Jvm.MethodName)) ∈ lw_all := lw_g (lw_at lw_m5 184 rfl) rfl
theorem q1201 : (Jvm.Cond.privateMethod ({ cls := "FlyWheelsModel", name := "swingOn", desc := "(I)I" } : Jvm.MethodName)) ∈ lw_tbl := lw_at lw_m5 185 rfl
theorem q1202 : (Jvm.Cond.instanceMethod ({ cls := "FlyWheelsModel", name := "swingOn", desc := "(I)I" } : Jvm.MethodName)) ∈ lw_all := lw_g (lw_at lw_m5 186 rfl) rfl
theorem q1203 : (Jvm.Cond.code ({ cls := "FlyWheelsModel", name := "swingOn", desc := "(I)I" } : Jvm.MethodName) prog_12_method_23_code (4 : Nat) (Option.some Jvm.ClassFile.FieldType.int)) ∈ lw_all := lw_g (lw_at lw_m5 187 rfl) rfl
theorem q1205 : (Jvm.Cond.instanceMethod ({ cls := "FlyWheelsModel", name := "ahead", desc := "(II)I" } : Jvm.MethodName)) ∈ lw_all := lw_g (lw_at lw_m5 189 rfl) rfl
theorem q1206 : (Jvm.Cond.selects "FlyWheelsModel" ({ cls := "FlyWheelsModel", name := "ahead", desc := "(II)I" } : Jvm.MethodName) ({ cls := "FlyWheelsModel", name := "ahead", desc := "(II)I" } : Jvm.MethodName)) ∈ lw_all := lw_g (lw_at lw_m5 190 rfl) rfl
theorem q1207 : (Jvm.Cond.code ({ cls := "FlyWheelsModel", name := "ahead", desc := "(II)I" } : Jvm.MethodName) prog_12_method_42_code (3 : Nat) (Option.some Jvm.ClassFile.FieldType.int)) ∈ lw_all := lw_g (lw_at lw_m5 191 rfl) rfl
theorem q1209 : (Jvm.Cond.instanceMethod ({ cls := "FlyWheelsModel", name := "when", desc := "(I)I" } : Jvm.MethodName)) ∈ lw_all := lw_g (lw_at lw_m5 193 rfl) rfl
theorem q1210 : (Jvm.Cond.selects "FlyWheelsModel" ({ cls := "FlyWheelsModel", name := "when", desc := "(I)I" } : Jvm.MethodName) ({ cls := "FlyWheelsModel", name := "when", desc := "(I)I" } : Jvm.MethodName)) ∈ lw_all := lw_g (lw_at lw_m5 194 rfl) rfl
theorem q1211 : (Jvm.Cond.code ({ cls := "FlyWheelsModel", name := "when", desc := "(I)I" } : Jvm.MethodName) prog_12_method_43_code (3 : Nat) (Option.some Jvm.ClassFile.FieldType.int)) ∈ lw_all := lw_g (lw_at lw_m5 195 rfl) rfl
theorem q1213 : (Jvm.Cond.instanceMethod ({ cls := "FlyWheelsModel", name := "again", desc := "()I" } : Jvm.MethodName)) ∈ lw_all := lw_g (lw_at lw_m5 197 rfl) rfl
theorem q1214 : (Jvm.Cond.selects "FlyWheelsModel" ({ cls := "FlyWheelsModel", name := "again", desc := "()I" } : Jvm.MethodName) ({ cls := "FlyWheelsModel", name := "again", desc := "()I" } : Jvm.MethodName)) ∈ lw_all := lw_g (lw_at lw_m5 198 rfl) rfl
theorem q1215 : (Jvm.Cond.code ({ cls := "FlyWheelsModel", name := "again", desc := "()I" } : Jvm.MethodName) prog_12_method_44_code (5 : Nat) (Option.some Jvm.ClassFile.FieldType.int)) ∈ lw_all := lw_g (lw_at lw_m5 199 rfl) rfl
theorem q1217 : (Jvm.Cond.instanceMethod ({ cls := "FlyWheelsModel", name := "mass", desc := "(III)I" } : Jvm.MethodName)) ∈ lw_all := lw_g (lw_at lw_m5 201 rfl) rfl
theorem q1218 : (Jvm.Cond.selects "FlyWheelsModel" ({ cls := "FlyWheelsModel", name := "mass", desc := "(III)I" } : Jvm.MethodName) ({ cls := "FlyWheelsModel", name := "mass", desc := "(III)I" } : Jvm.MethodName)) ∈ lw_all := lw_g (lw_at lw_m5 202 rfl) rfl
theorem q1219 : (Jvm.Cond.code ({ cls := "FlyWheelsModel", name := "mass", desc := "(III)I" } : Jvm.MethodName) prog_12_method_46_code (4 : Nat) (Option.some Jvm.ClassFile.FieldType.int)) ∈ lw_all := lw_g (lw_at lw_m5 203 rfl) rfl
theorem q1220 : (Jvm.Cond.methodLink "FlyWheelsModel" (194 : Nat) ({ cls := "FlyWheelsModel", name := "mostAt", desc := "(IIIII)I" } : Jvm.MethodName)) ∈ lw_all := lw_g (lw_at lw_m5 204 rfl) rfl
theorem q1221 : (Jvm.Cond.privateMethod ({ cls := "FlyWheelsModel", name := "mostAt", desc := "(IIIII)I" } : Jvm.MethodName)) ∈ lw_tbl := lw_at lw_m5 205 rfl
theorem q1222 : (Jvm.Cond.instanceMethod ({ cls := "FlyWheelsModel", name := "mostAt", desc := "(IIIII)I" } : Jvm.MethodName)) ∈ lw_all := lw_g (lw_at lw_m5 206 rfl) rfl
theorem q1223 : (Jvm.Cond.code ({ cls := "FlyWheelsModel", name := "mostAt", desc := "(IIIII)I" } : Jvm.MethodName) prog_12_method_45_code (10 : Nat) (Option.some Jvm.ClassFile.FieldType.int)) ∈ lw_all := lw_g (lw_at lw_m5 207 rfl) rfl
theorem q1225 : (Jvm.Cond.instanceMethod ({ cls := "FlyWheelsModel", name := "kind", desc := "(III)I" } : Jvm.MethodName)) ∈ lw_all := lw_g (lw_at lw_m5 209 rfl) rfl
theorem q1226 : (Jvm.Cond.selects "FlyWheelsModel" ({ cls := "FlyWheelsModel", name := "kind", desc := "(III)I" } : Jvm.MethodName) ({ cls := "FlyWheelsModel", name := "kind", desc := "(III)I" } : Jvm.MethodName)) ∈ lw_all := lw_g (lw_at lw_m5 210 rfl) rfl
theorem q1227 : (Jvm.Cond.code ({ cls := "FlyWheelsModel", name := "kind", desc := "(III)I" } : Jvm.MethodName) prog_12_method_47_code (4 : Nat) (Option.some Jvm.ClassFile.FieldType.int)) ∈ lw_all := lw_g (lw_at lw_m5 211 rfl) rfl
theorem q1229 : (Jvm.Cond.instanceMethod ({ cls := "FlyWheelsModel", name := "bears", desc := "(II)I" } : Jvm.MethodName)) ∈ lw_all := lw_g (lw_at lw_m5 213 rfl) rfl
theorem q1230 : (Jvm.Cond.selects "FlyWheelsModel" ({ cls := "FlyWheelsModel", name := "bears", desc := "(II)I" } : Jvm.MethodName) ({ cls := "FlyWheelsModel", name := "bears", desc := "(II)I" } : Jvm.MethodName)) ∈ lw_all := lw_g (lw_at lw_m5 214 rfl) rfl
theorem q1231 : (Jvm.Cond.code ({ cls := "FlyWheelsModel", name := "bears", desc := "(II)I" } : Jvm.MethodName) prog_12_method_48_code (4 : Nat) (Option.some Jvm.ClassFile.FieldType.int)) ∈ lw_all := lw_g (lw_at lw_m5 215 rfl) rfl
theorem q1233 : (Jvm.Cond.instanceMethod ({ cls := "FlyWheelsModel", name := "swap", desc := "(II)I" } : Jvm.MethodName)) ∈ lw_all := lw_g (lw_at lw_m5 217 rfl) rfl
theorem q1234 : (Jvm.Cond.selects "FlyWheelsModel" ({ cls := "FlyWheelsModel", name := "swap", desc := "(II)I" } : Jvm.MethodName) ({ cls := "FlyWheelsModel", name := "swap", desc := "(II)I" } : Jvm.MethodName)) ∈ lw_all := lw_g (lw_at lw_m5 218 rfl) rfl
theorem q1235 : (Jvm.Cond.code ({ cls := "FlyWheelsModel", name := "swap", desc := "(II)I" } : Jvm.MethodName) prog_12_method_49_code (8 : Nat) (Option.some Jvm.ClassFile.FieldType.int)) ∈ lw_all := lw_g (lw_at lw_m5 219 rfl) rfl
theorem q1237 : (Jvm.Cond.instanceMethod ({ cls := "FlyWheelsModel", name := "omit", desc := "(II)I" } : Jvm.MethodName)) ∈ lw_all := lw_g (lw_at lw_m5 221 rfl) rfl
theorem q1238 : (Jvm.Cond.selects "FlyWheelsModel" ({ cls := "FlyWheelsModel", name := "omit", desc := "(II)I" } : Jvm.MethodName) ({ cls := "FlyWheelsModel", name := "omit", desc := "(II)I" } : Jvm.MethodName)) ∈ lw_all := lw_g (lw_at lw_m5 222 rfl) rfl
theorem q1239 : (Jvm.Cond.code ({ cls := "FlyWheelsModel", name := "omit", desc := "(II)I" } : Jvm.MethodName) prog_12_method_50_code (7 : Nat) (Option.some Jvm.ClassFile.FieldType.int)) ∈ lw_all := lw_g (lw_at lw_m5 223 rfl) rfl
theorem q1241 : (Jvm.Cond.instanceMethod ({ cls := "FlyWheelsModel", name := "off", desc := "(II)I" } : Jvm.MethodName)) ∈ lw_all := lw_g (lw_at lw_m5 225 rfl) rfl
theorem q1242 : (Jvm.Cond.selects "FlyWheelsModel" ({ cls := "FlyWheelsModel", name := "off", desc := "(II)I" } : Jvm.MethodName) ({ cls := "FlyWheelsModel", name := "off", desc := "(II)I" } : Jvm.MethodName)) ∈ lw_all := lw_g (lw_at lw_m5 226 rfl) rfl
theorem q1243 : (Jvm.Cond.code ({ cls := "FlyWheelsModel", name := "off", desc := "(II)I" } : Jvm.MethodName) prog_12_method_51_code (7 : Nat) (Option.some Jvm.ClassFile.FieldType.int)) ∈ lw_all := lw_g (lw_at lw_m5 227 rfl) rfl
theorem q1245 : (Jvm.Cond.instanceMethod ({ cls := "FlyWheelsModel", name := "luck", desc := "(III)J" } : Jvm.MethodName)) ∈ lw_all := lw_g (lw_at lw_m5 229 rfl) rfl
theorem q1246 : (Jvm.Cond.selects "FlyWheelsModel" ({ cls := "FlyWheelsModel", name := "luck", desc := "(III)J" } : Jvm.MethodName) ({ cls := "FlyWheelsModel", name := "luck", desc := "(III)J" } : Jvm.MethodName)) ∈ lw_all := lw_g (lw_at lw_m5 230 rfl) rfl
theorem q1247 : (Jvm.Cond.code ({ cls := "FlyWheelsModel", name := "luck", desc := "(III)J" } : Jvm.MethodName) prog_12_method_54_code (4 : Nat) (Option.some Jvm.ClassFile.FieldType.long)) ∈ lw_all := lw_g (lw_at lw_m5 231 rfl) rfl
theorem q1248 : (Jvm.Cond.constantLong "FlyWheelsModel" (198 : Nat) (10 : Int64)) ∈ lw_all := lw_g (lw_at lw_m5 232 rfl) rfl
theorem q1249 : (Jvm.Cond.constantLong "FlyWheelsModel" (204 : Nat) (8 : Int64)) ∈ lw_all := lw_g (lw_at lw_m5 233 rfl) rfl
theorem q1250 : (Jvm.Cond.methodLink "FlyWheelsModel" (206 : Nat) ({ cls := "FlyWheelsModel", name := "byFails", desc := "(IIZI)J" } : Jvm.MethodName)) ∈ lw_all := lw_g (lw_at lw_m5 234 rfl) rfl
theorem q1251 : (Jvm.Cond.privateMethod ({ cls := "FlyWheelsModel", name := "byFails", desc := "(IIZI)J" } : Jvm.MethodName)) ∈ lw_tbl := lw_at lw_m5 235 rfl
theorem q1252 : (Jvm.Cond.instanceMethod ({ cls := "FlyWheelsModel", name := "byFails", desc := "(IIZI)J" } : Jvm.MethodName)) ∈ lw_all := lw_g (lw_at lw_m5 236 rfl) rfl
theorem q1253 : (Jvm.Cond.code ({ cls := "FlyWheelsModel", name := "byFails", desc := "(IIZI)J" } : Jvm.MethodName) prog_12_method_53_code (14 : Nat) (Option.some Jvm.ClassFile.FieldType.long)) ∈ lw_all := lw_g (lw_at lw_m5 237 rfl) rfl
theorem q1254 : (Jvm.Cond.methodLink "FlyWheelsModel" (200 : Nat) ({ cls := "FlyWheelsModel", name := "lowest", desc := "(JJI)J" } : Jvm.MethodName)) ∈ lw_all := lw_g (lw_at lw_m5 238 rfl) rfl
theorem q1255 : (Jvm.Cond.static ({ cls := "FlyWheelsModel", name := "lowest", desc := "(JJI)J" } : Jvm.MethodName)) ∈ lw_all := lw_g (lw_at lw_m5 239 rfl) rfl
theorem q1256 : (Jvm.Cond.code ({ cls := "FlyWheelsModel", name := "lowest", desc := "(JJI)J" } : Jvm.MethodName) prog_12_method_52_code (11 : Nat) (Option.some Jvm.ClassFile.FieldType.long)) ∈ lw_all := lw_g (lw_at lw_m6 0 rfl) rfl
theorem q1257 : (Jvm.Cond.constantLong "FlyWheelsModel" (210 : Nat) (-1 : Int64)) ∈ lw_all := lw_g (lw_at lw_m6 1 rfl) rfl
theorem q1259 : (Jvm.Cond.instanceMethod ({ cls := "FlyWheelsModel", name := "mean", desc := "(III)J" } : Jvm.MethodName)) ∈ lw_all := lw_g (lw_at lw_m6 3 rfl) rfl
theorem q1260 : (Jvm.Cond.selects "FlyWheelsModel" ({ cls := "FlyWheelsModel", name := "mean", desc := "(III)J" } : Jvm.MethodName) ({ cls := "FlyWheelsModel", name := "mean", desc := "(III)J" } : Jvm.MethodName)) ∈ lw_all := lw_g (lw_at lw_m6 4 rfl) rfl
theorem q1261 : (Jvm.Cond.code ({ cls := "FlyWheelsModel", name := "mean", desc := "(III)J" } : Jvm.MethodName) prog_12_method_55_code (4 : Nat) (Option.some Jvm.ClassFile.FieldType.long)) ∈ lw_all := lw_g (lw_at lw_m6 5 rfl) rfl
theorem q1263 : (Jvm.Cond.instanceMethod ({ cls := "FlyWheelsModel", name := "see", desc := "(III)I" } : Jvm.MethodName)) ∈ lw_all := lw_g (lw_at lw_m6 7 rfl) rfl
theorem q1264 : (Jvm.Cond.selects "FlyWheelsModel" ({ cls := "FlyWheelsModel", name := "see", desc := "(III)I" } : Jvm.MethodName) ({ cls := "FlyWheelsModel", name := "see", desc := "(III)I" } : Jvm.MethodName)) ∈ lw_all := lw_g (lw_at lw_m6 8 rfl) rfl
theorem q1265 : (Jvm.Cond.code ({ cls := "FlyWheelsModel", name := "see", desc := "(III)I" } : Jvm.MethodName) prog_12_method_56_code (4 : Nat) (Option.some Jvm.ClassFile.FieldType.int)) ∈ lw_all := lw_g (lw_at lw_m6 9 rfl) rfl
theorem q1266 : (Jvm.Cond.constantLong "FlyWheelsModel" (212 : Nat) (40 : Int64)) ∈ lw_all := lw_g (lw_at lw_m6 10 rfl) rfl
theorem q1267 : (Jvm.Cond.constantLong "FlyWheelsModel" (214 : Nat) (9999999 : Int64)) ∈ lw_all := lw_g (lw_at lw_m6 11 rfl) rfl
theorem q1269 : (Jvm.Cond.instanceMethod ({ cls := "FlyWheelsModel", name := "forget", desc := "(I)I" } : Jvm.MethodName)) ∈ lw_all := lw_g (lw_at lw_m6 13 rfl) rfl
theorem q1270 : (Jvm.Cond.selects "FlyWheelsModel" ({ cls := "FlyWheelsModel", name := "forget", desc := "(I)I" } : Jvm.MethodName) ({ cls := "FlyWheelsModel", name := "forget", desc := "(I)I" } : Jvm.MethodName)) ∈ lw_all := lw_g (lw_at lw_m6 14 rfl) rfl
theorem q1271 : (Jvm.Cond.code ({ cls := "FlyWheelsModel", name := "forget", desc := "(I)I" } : Jvm.MethodName) prog_12_method_57_code (3 : Nat) (Option.some Jvm.ClassFile.FieldType.int)) ∈ lw_all := lw_g (lw_at lw_m6 15 rfl) rfl
theorem q1273 : (Jvm.Cond.instanceMethod ({ cls := "FlyWheelsModel", name := "kinds", desc := "(I)I" } : Jvm.MethodName)) ∈ lw_all := lw_g (lw_at lw_m6 17 rfl) rfl
theorem q1274 : (Jvm.Cond.selects "FlyWheelsModel" ({ cls := "FlyWheelsModel", name := "kinds", desc := "(I)I" } : Jvm.MethodName) ({ cls := "FlyWheelsModel", name := "kinds", desc := "(I)I" } : Jvm.MethodName)) ∈ lw_all := lw_g (lw_at lw_m6 18 rfl) rfl
theorem q1275 : (Jvm.Cond.code ({ cls := "FlyWheelsModel", name := "kinds", desc := "(I)I" } : Jvm.MethodName) prog_12_method_60_code (2 : Nat) (Option.some Jvm.ClassFile.FieldType.int)) ∈ lw_all := lw_g (lw_at lw_m6 19 rfl) rfl
theorem q1276 : (Jvm.Cond.methodLink "FlyWheelsModel" (220 : Nat) ({ cls := "FlyWheelsModel", name := "numbersAt", desc := "(III)I" } : Jvm.MethodName)) ∈ lw_all := lw_g (lw_at lw_m6 20 rfl) rfl
theorem q1277 : (Jvm.Cond.privateMethod ({ cls := "FlyWheelsModel", name := "numbersAt", desc := "(III)I" } : Jvm.MethodName)) ∈ lw_tbl := lw_at lw_m6 21 rfl
theorem q1278 : (Jvm.Cond.instanceMethod ({ cls := "FlyWheelsModel", name := "numbersAt", desc := "(III)I" } : Jvm.MethodName)) ∈ lw_all := lw_g (lw_at lw_m6 22 rfl) rfl
theorem q1279 : (Jvm.Cond.code ({ cls := "FlyWheelsModel", name := "numbersAt", desc := "(III)I" } : Jvm.MethodName) prog_12_method_59_code (7 : Nat) (Option.some Jvm.ClassFile.FieldType.int)) ∈ lw_all := lw_g (lw_at lw_m6 23 rfl) rfl
theorem q1280 : (Jvm.Cond.methodLink "FlyWheelsModel" (216 : Nat) ({ cls := "FlyWheelsModel", name := "isAsSeen", desc := "(II)Z" } : Jvm.MethodName)) ∈ lw_all := lw_g (lw_at lw_m6 24 rfl) rfl
theorem q1281 : (Jvm.Cond.privateMethod ({ cls := "FlyWheelsModel", name := "isAsSeen", desc := "(II)Z" } : Jvm.MethodName)) ∈ lw_tbl := lw_at lw_m6 25 rfl
theorem q1282 : (Jvm.Cond.instanceMethod ({ cls := "FlyWheelsModel", name := "isAsSeen", desc := "(II)Z" } : Jvm.MethodName)) ∈ lw_all := lw_g (lw_at lw_m6 26 rfl) rfl
theorem q1283 : (Jvm.Cond.code ({ cls := "FlyWheelsModel", name := "isAsSeen", desc := "(II)Z" } : Jvm.MethodName) prog_12_method_58_code (8 : Nat) (Option.some Jvm.ClassFile.FieldType.boolean)) ∈ lw_all := lw_g (lw_at lw_m6 27 rfl) rfl
theorem q1285 : (Jvm.Cond.instanceMethod ({ cls := "FlyWheelsModel", name := "losses", desc := "(I)I" } : Jvm.MethodName)) ∈ lw_all := lw_g (lw_at lw_m6 29 rfl) rfl
theorem q1286 : (Jvm.Cond.selects "FlyWheelsModel" ({ cls := "FlyWheelsModel", name := "losses", desc := "(I)I" } : Jvm.MethodName) ({ cls := "FlyWheelsModel", name := "losses", desc := "(I)I" } : Jvm.MethodName)) ∈ lw_all := lw_g (lw_at lw_m6 30 rfl) rfl
theorem q1287 : (Jvm.Cond.code ({ cls := "FlyWheelsModel", name := "losses", desc := "(I)I" } : Jvm.MethodName) prog_12_method_61_code (2 : Nat) (Option.some Jvm.ClassFile.FieldType.int)) ∈ lw_all := lw_g (lw_at lw_m6 31 rfl) rfl
theorem q1289 : (Jvm.Cond.instanceMethod ({ cls := "FlyWheelsModel", name := "ask", desc := "(II)I" } : Jvm.MethodName)) ∈ lw_all := lw_g (lw_at lw_m6 33 rfl) rfl
theorem q1290 : (Jvm.Cond.selects "FlyWheelsModel" ({ cls := "FlyWheelsModel", name := "ask", desc := "(II)I" } : Jvm.MethodName) ({ cls := "FlyWheelsModel", name := "ask", desc := "(II)I" } : Jvm.MethodName)) ∈ lw_all := lw_g (lw_at lw_m6 34 rfl) rfl
theorem q1291 : (Jvm.Cond.code ({ cls := "FlyWheelsModel", name := "ask", desc := "(II)I" } : Jvm.MethodName) prog_12_method_63_code (8 : Nat) (Option.some Jvm.ClassFile.FieldType.int)) ∈ lw_all := lw_g (lw_at lw_m6 35 rfl) rfl
theorem q1292 : (Jvm.Cond.methodLink "FlyWheelsModel" (224 : Nat) ({ cls := "FlyWheelsModel", name := "worstAt", desc := "(II)I" } : Jvm.MethodName)) ∈ lw_all := lw_g (lw_at lw_m6 36 rfl) rfl
theorem q1293 : (Jvm.Cond.privateMethod ({ cls := "FlyWheelsModel", name := "worstAt", desc := "(II)I" } : Jvm.MethodName)) ∈ lw_tbl := lw_at lw_m6 37 rfl
theorem q1294 : (Jvm.Cond.instanceMethod ({ cls := "FlyWheelsModel", name := "worstAt", desc := "(II)I" } : Jvm.MethodName)) ∈ lw_all := lw_g (lw_at lw_m6 38 rfl) rfl
theorem q1295 : (Jvm.Cond.code ({ cls := "FlyWheelsModel", name := "worstAt", desc := "(II)I" } : Jvm.MethodName) prog_12_method_62_code (7 : Nat) (Option.some Jvm.ClassFile.FieldType.int)) ∈ lw_all := lw_g (lw_at lw_m6 39 rfl) rfl
theorem q1297 : (Jvm.Cond.instanceMethod ({ cls := "FlyWheelsModel", name := "drift", desc := "(III)I" } : Jvm.MethodName)) ∈ lw_all := lw_g (lw_at lw_m6 41 rfl) rfl
theorem q1298 : (Jvm.Cond.selects "FlyWheelsModel" ({ cls := "FlyWheelsModel", name := "drift", desc := "(III)I" } : Jvm.MethodName) ({ cls := "FlyWheelsModel", name := "drift", desc := "(III)I" } : Jvm.MethodName)) ∈ lw_all := lw_g (lw_at lw_m6 42 rfl) rfl
theorem q1299 : (Jvm.Cond.code ({ cls := "FlyWheelsModel", name := "drift", desc := "(III)I" } : Jvm.MethodName) prog_12_method_64_code (6 : Nat) (Option.some Jvm.ClassFile.FieldType.int)) ∈ lw_all := lw_g (lw_at lw_m6 43 rfl) rfl
theorem q1300 : (Jvm.Cond.constant "FlyWheelsModel" (227 : Nat) (1103515245 : Int32)) ∈ lw_all := lw_g (lw_at lw_m6 44 rfl) rfl
theorem q1302 : (Jvm.Cond.instanceMethod ({ cls := "FlyWheelsModel", name := "keep", desc := "(I)I" } : Jvm.MethodName)) ∈ lw_all := lw_g (lw_at lw_m6 46 rfl) rfl
theorem q1303 : (Jvm.Cond.selects "FlyWheelsModel" ({ cls := "FlyWheelsModel", name := "keep", desc := "(I)I" } : Jvm.MethodName) ({ cls := "FlyWheelsModel", name := "keep", desc := "(I)I" } : Jvm.MethodName)) ∈ lw_all := lw_g (lw_at lw_m6 47 rfl) rfl
theorem q1304 : (Jvm.Cond.code ({ cls := "FlyWheelsModel", name := "keep", desc := "(I)I" } : Jvm.MethodName) prog_12_method_65_code (3 : Nat) (Option.some Jvm.ClassFile.FieldType.int)) ∈ lw_all := lw_g (lw_at lw_m6 48 rfl) rfl
theorem q1306 : (Jvm.Cond.instanceMethod ({ cls := "FlyWheelsModel", name := "back", desc := "(I)I" } : Jvm.MethodName)) ∈ lw_all := lw_g (lw_at lw_m6 50 rfl) rfl
theorem q1307 : (Jvm.Cond.selects "FlyWheelsModel" ({ cls := "FlyWheelsModel", name := "back", desc := "(I)I" } : Jvm.MethodName) ({ cls := "FlyWheelsModel", name := "back", desc := "(I)I" } : Jvm.MethodName)) ∈ lw_all := lw_g (lw_at lw_m6 51 rfl) rfl
theorem q1308 : (Jvm.Cond.code ({ cls := "FlyWheelsModel", name := "back", desc := "(I)I" } : Jvm.MethodName) prog_12_method_66_code (2 : Nat) (Option.some Jvm.ClassFile.FieldType.int)) ∈ lw_all := lw_g (lw_at lw_m6 52 rfl) rfl
theorem q1310 : (Jvm.Cond.instanceMethod ({ cls := "FlyWheelsModel", name := "sheet", desc := "(III)I" } : Jvm.MethodName)) ∈ lw_all := lw_g (lw_at lw_m6 54 rfl) rfl
theorem q1311 : (Jvm.Cond.selects "FlyWheelsModel" ({ cls := "FlyWheelsModel", name := "sheet", desc := "(III)I" } : Jvm.MethodName) ({ cls := "FlyWheelsModel", name := "sheet", desc := "(III)I" } : Jvm.MethodName)) ∈ lw_all := lw_g (lw_at lw_m6 55 rfl) rfl
theorem q1312 : (Jvm.Cond.code ({ cls := "FlyWheelsModel", name := "sheet", desc := "(III)I" } : Jvm.MethodName) prog_12_method_67_code (5 : Nat) (Option.some Jvm.ClassFile.FieldType.int)) ∈ lw_all := lw_g (lw_at lw_m6 56 rfl) rfl
theorem q1313 : (Jvm.Cond.constantLong "FlyWheelsModel" (228 : Nat) (2 : Int64)) ∈ lw_all := lw_g (lw_at lw_m6 57 rfl) rfl
theorem q1315 : (Jvm.Cond.instanceMethod ({ cls := "FlyWheelsModel", name := "lay", desc := "(III)I" } : Jvm.MethodName)) ∈ lw_all := lw_g (lw_at lw_m6 59 rfl) rfl
theorem q1316 : (Jvm.Cond.selects "FlyWheelsModel" ({ cls := "FlyWheelsModel", name := "lay", desc := "(III)I" } : Jvm.MethodName) ({ cls := "FlyWheelsModel", name := "lay", desc := "(III)I" } : Jvm.MethodName)) ∈ lw_all := lw_g (lw_at lw_m6 60 rfl) rfl
theorem q1317 : (Jvm.Cond.code ({ cls := "FlyWheelsModel", name := "lay", desc := "(III)I" } : Jvm.MethodName) prog_12_method_68_code (4 : Nat) (Option.some Jvm.ClassFile.FieldType.int)) ∈ lw_all := lw_g (lw_at lw_m6 61 rfl) rfl
theorem q1319 : (Jvm.Cond.instanceMethod ({ cls := "FlyWheelsModel", name := "read", desc := "(IIII)I" } : Jvm.MethodName)) ∈ lw_all := lw_g (lw_at lw_m6 63 rfl) rfl
theorem q1320 : (Jvm.Cond.selects "FlyWheelsModel" ({ cls := "FlyWheelsModel", name := "read", desc := "(IIII)I" } : Jvm.MethodName) ({ cls := "FlyWheelsModel", name := "read", desc := "(IIII)I" } : Jvm.MethodName)) ∈ lw_all := lw_g (lw_at lw_m6 64 rfl) rfl
theorem q1321 : (Jvm.Cond.code ({ cls := "FlyWheelsModel", name := "read", desc := "(IIII)I" } : Jvm.MethodName) prog_12_method_69_code (9 : Nat) (Option.some Jvm.ClassFile.FieldType.int)) ∈ lw_all := lw_g (lw_at lw_m6 65 rfl) rfl
theorem q1323 : (Jvm.Cond.instanceMethod ({ cls := "FlyWheelsModel", name := "torn", desc := "()I" } : Jvm.MethodName)) ∈ lw_all := lw_g (lw_at lw_m6 67 rfl) rfl
theorem q1324 : (Jvm.Cond.selects "FlyWheelsModel" ({ cls := "FlyWheelsModel", name := "torn", desc := "()I" } : Jvm.MethodName) ({ cls := "FlyWheelsModel", name := "torn", desc := "()I" } : Jvm.MethodName)) ∈ lw_all := lw_g (lw_at lw_m6 68 rfl) rfl
theorem q1325 : (Jvm.Cond.code ({ cls := "FlyWheelsModel", name := "torn", desc := "()I" } : Jvm.MethodName) prog_12_method_70_code (1 : Nat) (Option.some Jvm.ClassFile.FieldType.int)) ∈ lw_all := lw_g (lw_at lw_m6 69 rfl) rfl
theorem q1327 : (Jvm.Cond.instanceMethod ({ cls := "FlyWheelsModel", name := "count", desc := "(I)I" } : Jvm.MethodName)) ∈ lw_all := lw_g (lw_at lw_m6 71 rfl) rfl
theorem q1328 : (Jvm.Cond.selects "FlyWheelsModel" ({ cls := "FlyWheelsModel", name := "count", desc := "(I)I" } : Jvm.MethodName) ({ cls := "FlyWheelsModel", name := "count", desc := "(I)I" } : Jvm.MethodName)) ∈ lw_all := lw_g (lw_at lw_m6 72 rfl) rfl
theorem q1329 : (Jvm.Cond.code ({ cls := "FlyWheelsModel", name := "count", desc := "(I)I" } : Jvm.MethodName) prog_12_method_71_code (5 : Nat) (Option.some Jvm.ClassFile.FieldType.int)) ∈ lw_all := lw_g (lw_at lw_m6 73 rfl) rfl
theorem in_X8 : ∀ w ∈ wsX80, w ∈ lw_all := lw_in wsX80 [981, 983, 985, 987, 989, 991, 993, 995, 997, 999, 1001, 1003, 1005, 1007, 1009, 1011, 1013, 1015, 1017, 1019, 1021, 1023, 1025, 1027, 1029, 1031] (by decide +kernel) (by decide +kernel)
