/-! StairOnSticksModel -/
set_option maxRecDepth 100000
def RX5 : String := "StairOnSticksModel"
def TX5 : u_T := fun k => match k with
  | 0 => ("StairOnSticksModel", "shelf", "[I", true)
  | 1 => ("StairOnSticksModel", "rowSort", "[I", true)
  | 2 => ("StairOnSticksModel", "rowSize", "[I", true)
  | 3 => ("StairOnSticksModel", "rows", "[[J", true)
  | 4 => ("StairOnSticksModel", "moved", "[J", true)
  | 5 => ("StairOnSticksModel", "shown", "[I", true)
  | 6 => ("StairOnSticksModel", "tape", "[I", true)
  | 7 => ("StairOnSticksModel", "tapeSize", "I", false)
  | 8 => ("StairOnSticksModel", "refused", "[I", true)
  | 9 => ("StairOnSticksModel", "steps", "I", false)
  | 10 => ("StairOnSticksModel", "rise", "[I", true)
  | 11 => ("StairOnSticksModel", "rail", "[Z", true)
  | 12 => ("StairOnSticksModel", "chair", "[Z", true)
  | 13 => ("StairOnSticksModel", "wet", "[Z", true)
  | 14 => ("StairOnSticksModel", "ways", "I", false)
  | 15 => ("StairOnSticksModel", "kind", "[I", true)
  | 16 => ("StairOnSticksModel", "by", "[I", true)
  | 17 => ("StairOnSticksModel", "asked", "[I", true)
  | 18 => ("StairOnSticksModel", "climbed", "I", false)
  | 19 => ("StairOnSticksModel", "came", "I", false)
  | 20 => ("StairOnSticksModel", "weeksGone", "I", false)
  | 21 => ("StairOnSticksModel", "seed", "I", false)
  | 22 => ("StairOnSticksModel", "kept", "LStairOnSticksModel;", false)
  | 23 => ("StairOnSticksModel", "tried", "LStairOnSticksModel;", false)
  | 24 => ("StairOnSticksModel", "at", "I", false)
  | 25 => ("StairOnSticksModel", "token", "I", false)
  | 26 => ("StairOnSticksModel", "from", "I", false)
  | 27 => ("StairOnSticksModel", "figures", "I", false)
  | 28 => ("StairOnSticksModel", "fault", "I", false)
  | 29 => ("StairOnSticksModel", "told", "I", false)
  | 30 => ("StairOnSticksModel", "statements", "I", false)
  | 31 => ("StairOnSticksModel", "armsLeft", "I", false)
  | 32 => ("StairOnSticksModel", "bestWay", "[[I", true)
  | 33 => ("StairOnSticksModel", "bestSlips", "[[I", true)
  | 34 => ("StairOnSticksModel", "bestTires", "[[I", true)
  | _ => ("StairOnSticksModel", "place", "[I", true)
def tyX5 : Nat → FieldType := fun k => match k with
  | 0 => .array .int
  | 1 => .array .int
  | 2 => .array .int
  | 3 => .array (.array .long)
  | 4 => .array .long
  | 5 => .array .int
  | 6 => .array .int
  | 7 => .int
  | 8 => .array .int
  | 9 => .int
  | 10 => .array .int
  | 11 => .array .boolean
  | 12 => .array .boolean
  | 13 => .array .boolean
  | 14 => .int
  | 15 => .array .int
  | 16 => .array .int
  | 17 => .array .int
  | 18 => .int
  | 19 => .int
  | 20 => .int
  | 21 => .int
  | 22 => .object "StairOnSticksModel"
  | 23 => .object "StairOnSticksModel"
  | 24 => .int
  | 25 => .int
  | 26 => .int
  | 27 => .int
  | 28 => .int
  | 29 => .int
  | 30 => .int
  | 31 => .int
  | 32 => .array (.array .int)
  | 33 => .array (.array .int)
  | 34 => .array (.array .int)
  | _ => .array .int
abbrev wsX50 : List Cond := u_ws RX5 TX5 36
set_option maxRecDepth 100000 in
theorem nmX5 : ∀ a, a < 36 → ∀ b, b < 36 → a ≠ b → (TX5 a).2.1 ≠ (TX5 b).2.1 := by decide +kernel
set_option maxRecDepth 100000 in
theorem tyX5_ok : ∀ k, k < 36 → parseFieldDescriptor (TX5 k).2.2.1 = some (tyX5 k) := by decide +kernel
abbrev cX5_init : ByteArray := prog_18_method_1_code
def yX5_init : MethodName := ⟨RX5, "<init>", "()V"⟩
def dkwX5_init_10 : List UInt8 := [16, 20, 79, 42, 180, 0, 56, 16, 8, 16, 30, 79, 42, 180, 0, 56, 16, 9, 8, 79, 177]
abbrev dktX5_init_10 : List UInt8 := dkwX5_init_10 ++ []
def dkwX5_init_9 : List UInt8 := [79, 42, 180, 0, 56, 8, 16, 40, 79, 42, 180, 0, 56, 16, 6, 16, 10, 79, 42, 180, 0, 56, 16, 7]
abbrev dktX5_init_9 : List UInt8 := dkwX5_init_9 ++ dktX5_init_10
def dkwX5_init_8 : List UInt8 := [79, 42, 180, 0, 56, 4, 16, 20, 79, 42, 180, 0, 56, 5, 16, 100, 79, 42, 180, 0, 56, 7, 16, 10]
abbrev dktX5_init_8 : List UInt8 := dkwX5_init_8 ++ dktX5_init_9
def dkwX5_init_7 : List UInt8 := [17, 0, 201, 197, 0, 63, 2, 181, 0, 71, 42, 6, 188, 10, 181, 0, 74, 42, 180, 0, 56, 3, 16, 120]
abbrev dktX5_init_7 : List UInt8 := dkwX5_init_7 ++ dktX5_init_8
def dkwX5_init_6 : List UInt8 := [197, 0, 63, 2, 181, 0, 65, 42, 16, 10, 17, 0, 201, 197, 0, 63, 2, 181, 0, 68, 42, 16, 10]
abbrev dktX5_init_6 : List UInt8 := dkwX5_init_6 ++ dktX5_init_7
def dkwX5_init_5 : List UInt8 := [188, 10, 181, 0, 53, 42, 16, 10, 188, 10, 181, 0, 56, 42, 4, 181, 0, 59, 42, 16, 10, 17, 0, 201]
abbrev dktX5_init_5 : List UInt8 := dkwX5_init_5 ++ dktX5_init_6
def dkwX5_init_4 : List UInt8 := [188, 4, 181, 0, 44, 42, 16, 9, 188, 4, 181, 0, 47, 42, 16, 6, 188, 10, 181, 0, 50, 42, 16, 6]
abbrev dktX5_init_4 : List UInt8 := dkwX5_init_4 ++ dktX5_init_5
def dkwX5_init_3 : List UInt8 := [188, 10, 181, 0, 34, 42, 16, 9, 188, 10, 181, 0, 37, 42, 16, 9, 188, 4, 181, 0, 40, 42, 16, 9]
abbrev dktX5_init_3 : List UInt8 := dkwX5_init_3 ++ dktX5_init_4
def dkwX5_init_2 : List UInt8 := [181, 0, 24, 42, 16, 8, 188, 10, 181, 0, 28, 42, 17, 0, 250, 188, 10, 181, 0, 31, 42, 16, 8]
abbrev dktX5_init_2 : List UInt8 := dkwX5_init_2 ++ dktX5_init_3
def dkwX5_init_1 : List UInt8 := [188, 10, 181, 0, 16, 42, 16, 8, 16, 40, 197, 0, 19, 2, 181, 0, 21, 42, 16, 40, 188, 11]
abbrev dktX5_init_1 : List UInt8 := dkwX5_init_1 ++ dktX5_init_2
def dkwX5_init_0 : List UInt8 := [42, 183, 0, 1, 42, 16, 8, 188, 10, 181, 0, 7, 42, 16, 8, 188, 10, 181, 0, 13, 42, 16, 8]
abbrev dktX5_init_0 : List UInt8 := dkwX5_init_0 ++ dktX5_init_1
theorem dksX5_init_0 : cX5_init.data.toList.drop 0 = dktX5_init_0 := by decide +kernel
theorem dksX5_init_1 : cX5_init.data.toList.drop 23 = dktX5_init_1 := dk_seg dksX5_init_0 23 rfl rfl
theorem dksX5_init_2 : cX5_init.data.toList.drop 45 = dktX5_init_2 := dk_seg dksX5_init_1 22 rfl rfl
theorem dksX5_init_3 : cX5_init.data.toList.drop 68 = dktX5_init_3 := dk_seg dksX5_init_2 23 rfl rfl
theorem dksX5_init_4 : cX5_init.data.toList.drop 92 = dktX5_init_4 := dk_seg dksX5_init_3 24 rfl rfl
theorem dksX5_init_5 : cX5_init.data.toList.drop 116 = dktX5_init_5 := dk_seg dksX5_init_4 24 rfl rfl
theorem dksX5_init_6 : cX5_init.data.toList.drop 140 = dktX5_init_6 := dk_seg dksX5_init_5 24 rfl rfl
theorem dksX5_init_7 : cX5_init.data.toList.drop 163 = dktX5_init_7 := dk_seg dksX5_init_6 23 rfl rfl
theorem dksX5_init_8 : cX5_init.data.toList.drop 187 = dktX5_init_8 := dk_seg dksX5_init_7 24 rfl rfl
theorem dksX5_init_9 : cX5_init.data.toList.drop 211 = dktX5_init_9 := dk_seg dksX5_init_8 24 rfl rfl
theorem dksX5_init_10 : cX5_init.data.toList.drop 235 = dktX5_init_10 := dk_seg dksX5_init_9 24 rfl rfl
theorem dX5_init_0 : decode cX5_init 0 = .ok (.aload_n 0, 1) := dk_42 (dk_at dksX5_init_0 0 rfl rfl)
theorem dX5_init_1 : decode cX5_init 1 = .ok (.invokespecial 1, 3) := dk_183 0 1 (dk_at dksX5_init_0 1 rfl rfl)
theorem dX5_init_4 : decode cX5_init 4 = .ok (.aload_n 0, 1) := dk_42 (dk_at dksX5_init_0 4 rfl rfl)
theorem dX5_init_5 : decode cX5_init 5 = .ok (.bipush 8, 2) := dk_16 8 (dk_at dksX5_init_0 5 rfl rfl)
theorem dX5_init_7 : decode cX5_init 7 = .ok (.newarray .int, 2) := dk_188_10 (dk_at dksX5_init_0 7 rfl rfl)
theorem dX5_init_9 : decode cX5_init 9 = .ok (.putfield 7, 3) := dk_181 0 7 (dk_at dksX5_init_0 9 rfl rfl)
theorem dX5_init_12 : decode cX5_init 12 = .ok (.aload_n 0, 1) := dk_42 (dk_at dksX5_init_0 12 rfl rfl)
theorem dX5_init_13 : decode cX5_init 13 = .ok (.bipush 8, 2) := dk_16 8 (dk_at dksX5_init_0 13 rfl rfl)
theorem dX5_init_15 : decode cX5_init 15 = .ok (.newarray .int, 2) := dk_188_10 (dk_at dksX5_init_0 15 rfl rfl)
theorem dX5_init_17 : decode cX5_init 17 = .ok (.putfield 13, 3) := dk_181 0 13 (dk_at dksX5_init_0 17 rfl rfl)
theorem dX5_init_20 : decode cX5_init 20 = .ok (.aload_n 0, 1) := dk_42 (dk_at dksX5_init_0 20 rfl rfl)
theorem dX5_init_21 : decode cX5_init 21 = .ok (.bipush 8, 2) := dk_16 8 (dk_at dksX5_init_0 21 rfl rfl)
theorem dX5_init_23 : decode cX5_init 23 = .ok (.newarray .int, 2) := dk_188_10 (dk_at dksX5_init_1 0 rfl rfl)
theorem dX5_init_25 : decode cX5_init 25 = .ok (.putfield 16, 3) := dk_181 0 16 (dk_at dksX5_init_1 2 rfl rfl)
theorem dX5_init_28 : decode cX5_init 28 = .ok (.aload_n 0, 1) := dk_42 (dk_at dksX5_init_1 5 rfl rfl)
theorem dX5_init_29 : decode cX5_init 29 = .ok (.bipush 8, 2) := dk_16 8 (dk_at dksX5_init_1 6 rfl rfl)
theorem dX5_init_31 : decode cX5_init 31 = .ok (.bipush 40, 2) := dk_16 40 (dk_at dksX5_init_1 8 rfl rfl)
theorem dX5_init_33 : decode cX5_init 33 = .ok (.multianewarray 19 2, 4) := by decide +kernel
theorem dX5_init_37 : decode cX5_init 37 = .ok (.putfield 21, 3) := dk_181 0 21 (dk_at dksX5_init_1 14 rfl rfl)
theorem dX5_init_40 : decode cX5_init 40 = .ok (.aload_n 0, 1) := dk_42 (dk_at dksX5_init_1 17 rfl rfl)
theorem dX5_init_41 : decode cX5_init 41 = .ok (.bipush 40, 2) := dk_16 40 (dk_at dksX5_init_1 18 rfl rfl)
theorem dX5_init_43 : decode cX5_init 43 = .ok (.newarray .long, 2) := dk_188_11 (dk_at dksX5_init_1 20 rfl rfl)
theorem dX5_init_45 : decode cX5_init 45 = .ok (.putfield 24, 3) := dk_181 0 24 (dk_at dksX5_init_2 0 rfl rfl)
theorem dX5_init_48 : decode cX5_init 48 = .ok (.aload_n 0, 1) := dk_42 (dk_at dksX5_init_2 3 rfl rfl)
theorem dX5_init_49 : decode cX5_init 49 = .ok (.bipush 8, 2) := dk_16 8 (dk_at dksX5_init_2 4 rfl rfl)
theorem dX5_init_51 : decode cX5_init 51 = .ok (.newarray .int, 2) := dk_188_10 (dk_at dksX5_init_2 6 rfl rfl)
theorem dX5_init_53 : decode cX5_init 53 = .ok (.putfield 28, 3) := dk_181 0 28 (dk_at dksX5_init_2 8 rfl rfl)
theorem dX5_init_56 : decode cX5_init 56 = .ok (.aload_n 0, 1) := dk_42 (dk_at dksX5_init_2 11 rfl rfl)
theorem dX5_init_57 : decode cX5_init 57 = .ok (.sipush 250, 3) := dk_17 0 250 (dk_at dksX5_init_2 12 rfl rfl)
theorem dX5_init_60 : decode cX5_init 60 = .ok (.newarray .int, 2) := dk_188_10 (dk_at dksX5_init_2 15 rfl rfl)
theorem dX5_init_62 : decode cX5_init 62 = .ok (.putfield 31, 3) := dk_181 0 31 (dk_at dksX5_init_2 17 rfl rfl)
theorem dX5_init_65 : decode cX5_init 65 = .ok (.aload_n 0, 1) := dk_42 (dk_at dksX5_init_2 20 rfl rfl)
theorem dX5_init_66 : decode cX5_init 66 = .ok (.bipush 8, 2) := dk_16 8 (dk_at dksX5_init_2 21 rfl rfl)
theorem dX5_init_68 : decode cX5_init 68 = .ok (.newarray .int, 2) := dk_188_10 (dk_at dksX5_init_3 0 rfl rfl)
theorem dX5_init_70 : decode cX5_init 70 = .ok (.putfield 34, 3) := dk_181 0 34 (dk_at dksX5_init_3 2 rfl rfl)
theorem dX5_init_73 : decode cX5_init 73 = .ok (.aload_n 0, 1) := dk_42 (dk_at dksX5_init_3 5 rfl rfl)
theorem dX5_init_74 : decode cX5_init 74 = .ok (.bipush 9, 2) := dk_16 9 (dk_at dksX5_init_3 6 rfl rfl)
theorem dX5_init_76 : decode cX5_init 76 = .ok (.newarray .int, 2) := dk_188_10 (dk_at dksX5_init_3 8 rfl rfl)
theorem dX5_init_78 : decode cX5_init 78 = .ok (.putfield 37, 3) := dk_181 0 37 (dk_at dksX5_init_3 10 rfl rfl)
theorem dX5_init_81 : decode cX5_init 81 = .ok (.aload_n 0, 1) := dk_42 (dk_at dksX5_init_3 13 rfl rfl)
theorem dX5_init_82 : decode cX5_init 82 = .ok (.bipush 9, 2) := dk_16 9 (dk_at dksX5_init_3 14 rfl rfl)
theorem dX5_init_84 : decode cX5_init 84 = .ok (.newarray .boolean, 2) := dk_188_4 (dk_at dksX5_init_3 16 rfl rfl)
theorem dX5_init_86 : decode cX5_init 86 = .ok (.putfield 40, 3) := dk_181 0 40 (dk_at dksX5_init_3 18 rfl rfl)
theorem dX5_init_89 : decode cX5_init 89 = .ok (.aload_n 0, 1) := dk_42 (dk_at dksX5_init_3 21 rfl rfl)
theorem dX5_init_90 : decode cX5_init 90 = .ok (.bipush 9, 2) := dk_16 9 (dk_at dksX5_init_3 22 rfl rfl)
theorem dX5_init_92 : decode cX5_init 92 = .ok (.newarray .boolean, 2) := dk_188_4 (dk_at dksX5_init_4 0 rfl rfl)
theorem dX5_init_94 : decode cX5_init 94 = .ok (.putfield 44, 3) := dk_181 0 44 (dk_at dksX5_init_4 2 rfl rfl)
theorem dX5_init_97 : decode cX5_init 97 = .ok (.aload_n 0, 1) := dk_42 (dk_at dksX5_init_4 5 rfl rfl)
theorem dX5_init_98 : decode cX5_init 98 = .ok (.bipush 9, 2) := dk_16 9 (dk_at dksX5_init_4 6 rfl rfl)
theorem dX5_init_100 : decode cX5_init 100 = .ok (.newarray .boolean, 2) := dk_188_4 (dk_at dksX5_init_4 8 rfl rfl)
theorem dX5_init_102 : decode cX5_init 102 = .ok (.putfield 47, 3) := dk_181 0 47 (dk_at dksX5_init_4 10 rfl rfl)
theorem dX5_init_105 : decode cX5_init 105 = .ok (.aload_n 0, 1) := dk_42 (dk_at dksX5_init_4 13 rfl rfl)
theorem dX5_init_106 : decode cX5_init 106 = .ok (.bipush 6, 2) := dk_16 6 (dk_at dksX5_init_4 14 rfl rfl)
theorem dX5_init_108 : decode cX5_init 108 = .ok (.newarray .int, 2) := dk_188_10 (dk_at dksX5_init_4 16 rfl rfl)
theorem dX5_init_110 : decode cX5_init 110 = .ok (.putfield 50, 3) := dk_181 0 50 (dk_at dksX5_init_4 18 rfl rfl)
theorem dX5_init_113 : decode cX5_init 113 = .ok (.aload_n 0, 1) := dk_42 (dk_at dksX5_init_4 21 rfl rfl)
theorem dX5_init_114 : decode cX5_init 114 = .ok (.bipush 6, 2) := dk_16 6 (dk_at dksX5_init_4 22 rfl rfl)
theorem dX5_init_116 : decode cX5_init 116 = .ok (.newarray .int, 2) := dk_188_10 (dk_at dksX5_init_5 0 rfl rfl)
theorem dX5_init_118 : decode cX5_init 118 = .ok (.putfield 53, 3) := dk_181 0 53 (dk_at dksX5_init_5 2 rfl rfl)
theorem dX5_init_121 : decode cX5_init 121 = .ok (.aload_n 0, 1) := dk_42 (dk_at dksX5_init_5 5 rfl rfl)
theorem dX5_init_122 : decode cX5_init 122 = .ok (.bipush 10, 2) := dk_16 10 (dk_at dksX5_init_5 6 rfl rfl)
theorem dX5_init_124 : decode cX5_init 124 = .ok (.newarray .int, 2) := dk_188_10 (dk_at dksX5_init_5 8 rfl rfl)
theorem dX5_init_126 : decode cX5_init 126 = .ok (.putfield 56, 3) := dk_181 0 56 (dk_at dksX5_init_5 10 rfl rfl)
theorem dX5_init_129 : decode cX5_init 129 = .ok (.aload_n 0, 1) := dk_42 (dk_at dksX5_init_5 13 rfl rfl)
theorem dX5_init_130 : decode cX5_init 130 = .ok (.iconst 1, 1) := dk_4 (dk_at dksX5_init_5 14 rfl rfl)
theorem dX5_init_131 : decode cX5_init 131 = .ok (.putfield 59, 3) := dk_181 0 59 (dk_at dksX5_init_5 15 rfl rfl)
theorem dX5_init_134 : decode cX5_init 134 = .ok (.aload_n 0, 1) := dk_42 (dk_at dksX5_init_5 18 rfl rfl)
theorem dX5_init_135 : decode cX5_init 135 = .ok (.bipush 10, 2) := dk_16 10 (dk_at dksX5_init_5 19 rfl rfl)
theorem dX5_init_137 : decode cX5_init 137 = .ok (.sipush 201, 3) := dk_17 0 201 (dk_at dksX5_init_5 21 rfl rfl)
theorem dX5_init_140 : decode cX5_init 140 = .ok (.multianewarray 63 2, 4) := by decide +kernel
theorem dX5_init_144 : decode cX5_init 144 = .ok (.putfield 65, 3) := dk_181 0 65 (dk_at dksX5_init_6 4 rfl rfl)
theorem dX5_init_147 : decode cX5_init 147 = .ok (.aload_n 0, 1) := dk_42 (dk_at dksX5_init_6 7 rfl rfl)
theorem dX5_init_148 : decode cX5_init 148 = .ok (.bipush 10, 2) := dk_16 10 (dk_at dksX5_init_6 8 rfl rfl)
theorem dX5_init_150 : decode cX5_init 150 = .ok (.sipush 201, 3) := dk_17 0 201 (dk_at dksX5_init_6 10 rfl rfl)
theorem dX5_init_153 : decode cX5_init 153 = .ok (.multianewarray 63 2, 4) := by decide +kernel
theorem dX5_init_157 : decode cX5_init 157 = .ok (.putfield 68, 3) := dk_181 0 68 (dk_at dksX5_init_6 17 rfl rfl)
theorem dX5_init_160 : decode cX5_init 160 = .ok (.aload_n 0, 1) := dk_42 (dk_at dksX5_init_6 20 rfl rfl)
theorem dX5_init_161 : decode cX5_init 161 = .ok (.bipush 10, 2) := dk_16 10 (dk_at dksX5_init_6 21 rfl rfl)
theorem dX5_init_163 : decode cX5_init 163 = .ok (.sipush 201, 3) := dk_17 0 201 (dk_at dksX5_init_7 0 rfl rfl)
theorem dX5_init_166 : decode cX5_init 166 = .ok (.multianewarray 63 2, 4) := by decide +kernel
theorem dX5_init_170 : decode cX5_init 170 = .ok (.putfield 71, 3) := dk_181 0 71 (dk_at dksX5_init_7 7 rfl rfl)
theorem dX5_init_173 : decode cX5_init 173 = .ok (.aload_n 0, 1) := dk_42 (dk_at dksX5_init_7 10 rfl rfl)
theorem dX5_init_174 : decode cX5_init 174 = .ok (.iconst 3, 1) := dk_6 (dk_at dksX5_init_7 11 rfl rfl)
theorem dX5_init_175 : decode cX5_init 175 = .ok (.newarray .int, 2) := dk_188_10 (dk_at dksX5_init_7 12 rfl rfl)
theorem dX5_init_177 : decode cX5_init 177 = .ok (.putfield 74, 3) := dk_181 0 74 (dk_at dksX5_init_7 14 rfl rfl)
theorem dX5_init_180 : decode cX5_init 180 = .ok (.aload_n 0, 1) := dk_42 (dk_at dksX5_init_7 17 rfl rfl)
theorem dX5_init_181 : decode cX5_init 181 = .ok (.getfield 56, 3) := dk_180 0 56 (dk_at dksX5_init_7 18 rfl rfl)
theorem dX5_init_184 : decode cX5_init 184 = .ok (.iconst 0, 1) := dk_3 (dk_at dksX5_init_7 21 rfl rfl)
theorem dX5_init_185 : decode cX5_init 185 = .ok (.bipush 120, 2) := dk_16 120 (dk_at dksX5_init_7 22 rfl rfl)
theorem dX5_init_187 : decode cX5_init 187 = .ok (.iastore, 1) := dk_79 (dk_at dksX5_init_8 0 rfl rfl)
theorem dX5_init_188 : decode cX5_init 188 = .ok (.aload_n 0, 1) := dk_42 (dk_at dksX5_init_8 1 rfl rfl)
theorem dX5_init_189 : decode cX5_init 189 = .ok (.getfield 56, 3) := dk_180 0 56 (dk_at dksX5_init_8 2 rfl rfl)
theorem dX5_init_192 : decode cX5_init 192 = .ok (.iconst 1, 1) := dk_4 (dk_at dksX5_init_8 5 rfl rfl)
theorem dX5_init_193 : decode cX5_init 193 = .ok (.bipush 20, 2) := dk_16 20 (dk_at dksX5_init_8 6 rfl rfl)
theorem dX5_init_195 : decode cX5_init 195 = .ok (.iastore, 1) := dk_79 (dk_at dksX5_init_8 8 rfl rfl)
theorem dX5_init_196 : decode cX5_init 196 = .ok (.aload_n 0, 1) := dk_42 (dk_at dksX5_init_8 9 rfl rfl)
theorem dX5_init_197 : decode cX5_init 197 = .ok (.getfield 56, 3) := dk_180 0 56 (dk_at dksX5_init_8 10 rfl rfl)
theorem dX5_init_200 : decode cX5_init 200 = .ok (.iconst 2, 1) := dk_5 (dk_at dksX5_init_8 13 rfl rfl)
theorem dX5_init_201 : decode cX5_init 201 = .ok (.bipush 100, 2) := dk_16 100 (dk_at dksX5_init_8 14 rfl rfl)
theorem dX5_init_203 : decode cX5_init 203 = .ok (.iastore, 1) := dk_79 (dk_at dksX5_init_8 16 rfl rfl)
theorem dX5_init_204 : decode cX5_init 204 = .ok (.aload_n 0, 1) := dk_42 (dk_at dksX5_init_8 17 rfl rfl)
theorem dX5_init_205 : decode cX5_init 205 = .ok (.getfield 56, 3) := dk_180 0 56 (dk_at dksX5_init_8 18 rfl rfl)
theorem dX5_init_208 : decode cX5_init 208 = .ok (.iconst 4, 1) := dk_7 (dk_at dksX5_init_8 21 rfl rfl)
theorem dX5_init_209 : decode cX5_init 209 = .ok (.bipush 10, 2) := dk_16 10 (dk_at dksX5_init_8 22 rfl rfl)
theorem dX5_init_211 : decode cX5_init 211 = .ok (.iastore, 1) := dk_79 (dk_at dksX5_init_9 0 rfl rfl)
theorem dX5_init_212 : decode cX5_init 212 = .ok (.aload_n 0, 1) := dk_42 (dk_at dksX5_init_9 1 rfl rfl)
theorem dX5_init_213 : decode cX5_init 213 = .ok (.getfield 56, 3) := dk_180 0 56 (dk_at dksX5_init_9 2 rfl rfl)
theorem dX5_init_216 : decode cX5_init 216 = .ok (.iconst 5, 1) := dk_8 (dk_at dksX5_init_9 5 rfl rfl)
theorem dX5_init_217 : decode cX5_init 217 = .ok (.bipush 40, 2) := dk_16 40 (dk_at dksX5_init_9 6 rfl rfl)
theorem dX5_init_219 : decode cX5_init 219 = .ok (.iastore, 1) := dk_79 (dk_at dksX5_init_9 8 rfl rfl)
theorem dX5_init_220 : decode cX5_init 220 = .ok (.aload_n 0, 1) := dk_42 (dk_at dksX5_init_9 9 rfl rfl)
theorem dX5_init_221 : decode cX5_init 221 = .ok (.getfield 56, 3) := dk_180 0 56 (dk_at dksX5_init_9 10 rfl rfl)
theorem dX5_init_224 : decode cX5_init 224 = .ok (.bipush 6, 2) := dk_16 6 (dk_at dksX5_init_9 13 rfl rfl)
theorem dX5_init_226 : decode cX5_init 226 = .ok (.bipush 10, 2) := dk_16 10 (dk_at dksX5_init_9 15 rfl rfl)
theorem dX5_init_228 : decode cX5_init 228 = .ok (.iastore, 1) := dk_79 (dk_at dksX5_init_9 17 rfl rfl)
theorem dX5_init_229 : decode cX5_init 229 = .ok (.aload_n 0, 1) := dk_42 (dk_at dksX5_init_9 18 rfl rfl)
theorem dX5_init_230 : decode cX5_init 230 = .ok (.getfield 56, 3) := dk_180 0 56 (dk_at dksX5_init_9 19 rfl rfl)
theorem dX5_init_233 : decode cX5_init 233 = .ok (.bipush 7, 2) := dk_16 7 (dk_at dksX5_init_9 22 rfl rfl)
theorem dX5_init_235 : decode cX5_init 235 = .ok (.bipush 20, 2) := dk_16 20 (dk_at dksX5_init_10 0 rfl rfl)
theorem dX5_init_237 : decode cX5_init 237 = .ok (.iastore, 1) := dk_79 (dk_at dksX5_init_10 2 rfl rfl)
theorem dX5_init_238 : decode cX5_init 238 = .ok (.aload_n 0, 1) := dk_42 (dk_at dksX5_init_10 3 rfl rfl)
theorem dX5_init_239 : decode cX5_init 239 = .ok (.getfield 56, 3) := dk_180 0 56 (dk_at dksX5_init_10 4 rfl rfl)
theorem dX5_init_242 : decode cX5_init 242 = .ok (.bipush 8, 2) := dk_16 8 (dk_at dksX5_init_10 7 rfl rfl)
theorem dX5_init_244 : decode cX5_init 244 = .ok (.bipush 30, 2) := dk_16 30 (dk_at dksX5_init_10 9 rfl rfl)
theorem dX5_init_246 : decode cX5_init 246 = .ok (.iastore, 1) := dk_79 (dk_at dksX5_init_10 11 rfl rfl)
theorem dX5_init_247 : decode cX5_init 247 = .ok (.aload_n 0, 1) := dk_42 (dk_at dksX5_init_10 12 rfl rfl)
theorem dX5_init_248 : decode cX5_init 248 = .ok (.getfield 56, 3) := dk_180 0 56 (dk_at dksX5_init_10 13 rfl rfl)
theorem dX5_init_251 : decode cX5_init 251 = .ok (.bipush 9, 2) := dk_16 9 (dk_at dksX5_init_10 16 rfl rfl)
theorem dX5_init_253 : decode cX5_init 253 = .ok (.iconst 5, 1) := dk_8 (dk_at dksX5_init_10 18 rfl rfl)
theorem dX5_init_254 : decode cX5_init 254 = .ok (.iastore, 1) := dk_79 (dk_at dksX5_init_10 19 rfl rfl)
theorem dX5_init_255 : decode cX5_init 255 = .ok (.return_, 1) := dk_177 (dk_at dksX5_init_10 20 rfl rfl)
abbrev cX5_row : ByteArray := prog_18_method_6_code
def yX5_row : MethodName := ⟨RX5, "row", "(III)I"⟩
def dkwX5_row_3 : List UInt8 := [162, 0, 19, 42, 180, 0, 21, 27, 50, 21, 4, 9, 80, 132, 4, 1, 167, 255, 236, 4, 172]
abbrev dktX5_row_3 : List UInt8 := dkwX5_row_3 ++ []
def dkwX5_row_2 : List UInt8 := [4, 79, 42, 180, 0, 13, 27, 28, 79, 42, 180, 0, 16, 27, 29, 79, 3, 54, 4, 21, 4, 16, 40]
abbrev dktX5_row_2 : List UInt8 := dkwX5_row_2 ++ dktX5_row_3
def dkwX5_row_1 : List UInt8 := [29, 133, 9, 20, 0, 91, 184, 0, 80, 154, 0, 10, 42, 16, 254, 182, 0, 93, 172, 42, 180, 0, 7, 27]
abbrev dktX5_row_1 : List UInt8 := dkwX5_row_1 ++ dktX5_row_2
def dkwX5_row_0 : List UInt8 := [27, 133, 9, 20, 0, 87, 184, 0, 80, 153, 0, 27, 28, 133, 9, 20, 0, 89, 184, 0, 80, 153, 0, 15]
abbrev dktX5_row_0 : List UInt8 := dkwX5_row_0 ++ dktX5_row_1
theorem dksX5_row_0 : cX5_row.data.toList.drop 0 = dktX5_row_0 := by decide +kernel
theorem dksX5_row_1 : cX5_row.data.toList.drop 24 = dktX5_row_1 := dk_seg dksX5_row_0 24 rfl rfl
theorem dksX5_row_2 : cX5_row.data.toList.drop 48 = dktX5_row_2 := dk_seg dksX5_row_1 24 rfl rfl
theorem dksX5_row_3 : cX5_row.data.toList.drop 71 = dktX5_row_3 := dk_seg dksX5_row_2 23 rfl rfl
theorem dX5_row_0 : decode cX5_row 0 = .ok (.iload_n 1, 1) := dk_27 (dk_at dksX5_row_0 0 rfl rfl)
theorem dX5_row_1 : decode cX5_row 1 = .ok (.i2l, 1) := dk_133 (dk_at dksX5_row_0 1 rfl rfl)
theorem dX5_row_2 : decode cX5_row 2 = .ok (.lconst 0, 1) := dk_9 (dk_at dksX5_row_0 2 rfl rfl)
theorem dX5_row_3 : decode cX5_row 3 = .ok (.ldc2_w 87, 3) := dk_20 0 87 (dk_at dksX5_row_0 3 rfl rfl)
theorem dX5_row_6 : decode cX5_row 6 = .ok (.invokestatic 80, 3) := dk_184 0 80 (dk_at dksX5_row_0 6 rfl rfl)
theorem dX5_row_9 : decode cX5_row 9 = .ok (.ifCond .eq 27, 3) := dk_153 0 27 (dk_at dksX5_row_0 9 rfl rfl)
theorem dX5_row_12 : decode cX5_row 12 = .ok (.iload_n 2, 1) := dk_28 (dk_at dksX5_row_0 12 rfl rfl)
theorem dX5_row_13 : decode cX5_row 13 = .ok (.i2l, 1) := dk_133 (dk_at dksX5_row_0 13 rfl rfl)
theorem dX5_row_14 : decode cX5_row 14 = .ok (.lconst 0, 1) := dk_9 (dk_at dksX5_row_0 14 rfl rfl)
theorem dX5_row_15 : decode cX5_row 15 = .ok (.ldc2_w 89, 3) := dk_20 0 89 (dk_at dksX5_row_0 15 rfl rfl)
theorem dX5_row_18 : decode cX5_row 18 = .ok (.invokestatic 80, 3) := dk_184 0 80 (dk_at dksX5_row_0 18 rfl rfl)
theorem dX5_row_21 : decode cX5_row 21 = .ok (.ifCond .eq 15, 3) := dk_153 0 15 (dk_at dksX5_row_0 21 rfl rfl)
theorem dX5_row_24 : decode cX5_row 24 = .ok (.iload_n 3, 1) := dk_29 (dk_at dksX5_row_1 0 rfl rfl)
theorem dX5_row_25 : decode cX5_row 25 = .ok (.i2l, 1) := dk_133 (dk_at dksX5_row_1 1 rfl rfl)
theorem dX5_row_26 : decode cX5_row 26 = .ok (.lconst 0, 1) := dk_9 (dk_at dksX5_row_1 2 rfl rfl)
theorem dX5_row_27 : decode cX5_row 27 = .ok (.ldc2_w 91, 3) := dk_20 0 91 (dk_at dksX5_row_1 3 rfl rfl)
theorem dX5_row_30 : decode cX5_row 30 = .ok (.invokestatic 80, 3) := dk_184 0 80 (dk_at dksX5_row_1 6 rfl rfl)
theorem dX5_row_33 : decode cX5_row 33 = .ok (.ifCond .ne 10, 3) := dk_154 0 10 (dk_at dksX5_row_1 9 rfl rfl)
theorem dX5_row_36 : decode cX5_row 36 = .ok (.aload_n 0, 1) := dk_42 (dk_at dksX5_row_1 12 rfl rfl)
theorem dX5_row_37 : decode cX5_row 37 = .ok (.bipush (-2), 2) := dk_16 254 (dk_at dksX5_row_1 13 rfl rfl)
theorem dX5_row_39 : decode cX5_row 39 = .ok (.invokevirtual 93, 3) := dk_182 0 93 (dk_at dksX5_row_1 15 rfl rfl)
theorem dX5_row_42 : decode cX5_row 42 = .ok (.ireturn, 1) := dk_172 (dk_at dksX5_row_1 18 rfl rfl)
theorem dX5_row_43 : decode cX5_row 43 = .ok (.aload_n 0, 1) := dk_42 (dk_at dksX5_row_1 19 rfl rfl)
theorem dX5_row_44 : decode cX5_row 44 = .ok (.getfield 7, 3) := dk_180 0 7 (dk_at dksX5_row_1 20 rfl rfl)
theorem dX5_row_47 : decode cX5_row 47 = .ok (.iload_n 1, 1) := dk_27 (dk_at dksX5_row_1 23 rfl rfl)
theorem dX5_row_48 : decode cX5_row 48 = .ok (.iconst 1, 1) := dk_4 (dk_at dksX5_row_2 0 rfl rfl)
theorem dX5_row_49 : decode cX5_row 49 = .ok (.iastore, 1) := dk_79 (dk_at dksX5_row_2 1 rfl rfl)
theorem dX5_row_50 : decode cX5_row 50 = .ok (.aload_n 0, 1) := dk_42 (dk_at dksX5_row_2 2 rfl rfl)
theorem dX5_row_51 : decode cX5_row 51 = .ok (.getfield 13, 3) := dk_180 0 13 (dk_at dksX5_row_2 3 rfl rfl)
theorem dX5_row_54 : decode cX5_row 54 = .ok (.iload_n 1, 1) := dk_27 (dk_at dksX5_row_2 6 rfl rfl)
theorem dX5_row_55 : decode cX5_row 55 = .ok (.iload_n 2, 1) := dk_28 (dk_at dksX5_row_2 7 rfl rfl)
theorem dX5_row_56 : decode cX5_row 56 = .ok (.iastore, 1) := dk_79 (dk_at dksX5_row_2 8 rfl rfl)
theorem dX5_row_57 : decode cX5_row 57 = .ok (.aload_n 0, 1) := dk_42 (dk_at dksX5_row_2 9 rfl rfl)
theorem dX5_row_58 : decode cX5_row 58 = .ok (.getfield 16, 3) := dk_180 0 16 (dk_at dksX5_row_2 10 rfl rfl)
theorem dX5_row_61 : decode cX5_row 61 = .ok (.iload_n 1, 1) := dk_27 (dk_at dksX5_row_2 13 rfl rfl)
theorem dX5_row_62 : decode cX5_row 62 = .ok (.iload_n 3, 1) := dk_29 (dk_at dksX5_row_2 14 rfl rfl)
theorem dX5_row_63 : decode cX5_row 63 = .ok (.iastore, 1) := dk_79 (dk_at dksX5_row_2 15 rfl rfl)
theorem dX5_row_64 : decode cX5_row 64 = .ok (.iconst 0, 1) := dk_3 (dk_at dksX5_row_2 16 rfl rfl)
theorem dX5_row_65 : decode cX5_row 65 = .ok (.istore 4, 2) := dk_54 4 (dk_at dksX5_row_2 17 rfl rfl)
theorem dX5_row_67 : decode cX5_row 67 = .ok (.iload 4, 2) := dk_21 4 (dk_at dksX5_row_2 19 rfl rfl)
theorem dX5_row_69 : decode cX5_row 69 = .ok (.bipush 40, 2) := dk_16 40 (dk_at dksX5_row_2 21 rfl rfl)
theorem dX5_row_71 : decode cX5_row 71 = .ok (.if_icmp .ge 19, 3) := dk_162 0 19 (dk_at dksX5_row_3 0 rfl rfl)
theorem dX5_row_74 : decode cX5_row 74 = .ok (.aload_n 0, 1) := dk_42 (dk_at dksX5_row_3 3 rfl rfl)
theorem dX5_row_75 : decode cX5_row 75 = .ok (.getfield 21, 3) := dk_180 0 21 (dk_at dksX5_row_3 4 rfl rfl)
theorem dX5_row_78 : decode cX5_row 78 = .ok (.iload_n 1, 1) := dk_27 (dk_at dksX5_row_3 7 rfl rfl)
theorem dX5_row_79 : decode cX5_row 79 = .ok (.aaload, 1) := dk_50 (dk_at dksX5_row_3 8 rfl rfl)
theorem dX5_row_80 : decode cX5_row 80 = .ok (.iload 4, 2) := dk_21 4 (dk_at dksX5_row_3 9 rfl rfl)
theorem dX5_row_82 : decode cX5_row 82 = .ok (.lconst 0, 1) := dk_9 (dk_at dksX5_row_3 11 rfl rfl)
theorem dX5_row_83 : decode cX5_row 83 = .ok (.lastore, 1) := dk_80 (dk_at dksX5_row_3 12 rfl rfl)
theorem dX5_row_84 : decode cX5_row 84 = .ok (.iinc 4 1, 3) := dk_132 4 1 (dk_at dksX5_row_3 13 rfl rfl)
theorem dX5_row_87 : decode cX5_row 87 = .ok (.goto (-20), 3) := dk_167 255 236 (dk_at dksX5_row_3 16 rfl rfl)
theorem dX5_row_90 : decode cX5_row 90 = .ok (.iconst 1, 1) := dk_4 (dk_at dksX5_row_3 19 rfl rfl)
theorem dX5_row_91 : decode cX5_row 91 = .ok (.ireturn, 1) := dk_172 (dk_at dksX5_row_3 20 rfl rfl)
abbrev cX5_in : ByteArray := prog_18_method_3_code
def yX5_in : MethodName := ⟨RX5, "in", "(JJJ)Z"⟩
def dkwX5_in_0 : List UInt8 := [30, 32, 148, 155, 0, 14, 30, 22, 4, 148, 157, 0, 7, 4, 167, 0, 4, 3, 172]
abbrev dktX5_in_0 : List UInt8 := dkwX5_in_0 ++ []
theorem dksX5_in_0 : cX5_in.data.toList.drop 0 = dktX5_in_0 := by decide +kernel
theorem dX5_in_0 : decode cX5_in 0 = .ok (.lload_n 0, 1) := dk_30 (dk_at dksX5_in_0 0 rfl rfl)
theorem dX5_in_1 : decode cX5_in 1 = .ok (.lload_n 2, 1) := dk_32 (dk_at dksX5_in_0 1 rfl rfl)
theorem dX5_in_2 : decode cX5_in 2 = .ok (.lcmp, 1) := dk_148 (dk_at dksX5_in_0 2 rfl rfl)
theorem dX5_in_3 : decode cX5_in 3 = .ok (.ifCond .lt 14, 3) := dk_155 0 14 (dk_at dksX5_in_0 3 rfl rfl)
theorem dX5_in_6 : decode cX5_in 6 = .ok (.lload_n 0, 1) := dk_30 (dk_at dksX5_in_0 6 rfl rfl)
theorem dX5_in_7 : decode cX5_in 7 = .ok (.lload 4, 2) := dk_22 4 (dk_at dksX5_in_0 7 rfl rfl)
theorem dX5_in_9 : decode cX5_in 9 = .ok (.lcmp, 1) := dk_148 (dk_at dksX5_in_0 9 rfl rfl)
theorem dX5_in_10 : decode cX5_in 10 = .ok (.ifCond .gt 7, 3) := dk_157 0 7 (dk_at dksX5_in_0 10 rfl rfl)
theorem dX5_in_13 : decode cX5_in 13 = .ok (.iconst 1, 1) := dk_4 (dk_at dksX5_in_0 13 rfl rfl)
theorem dX5_in_14 : decode cX5_in 14 = .ok (.goto 4, 3) := dk_167 0 4 (dk_at dksX5_in_0 14 rfl rfl)
theorem dX5_in_17 : decode cX5_in 17 = .ok (.iconst 0, 1) := dk_3 (dk_at dksX5_in_0 17 rfl rfl)
theorem dX5_in_18 : decode cX5_in 18 = .ok (.ireturn, 1) := dk_172 (dk_at dksX5_in_0 18 rfl rfl)
abbrev cX5_refuse : ByteArray := prog_18_method_2_code
def yX5_refuse : MethodName := ⟨RX5, "refuse", "(I)I"⟩
def dkwX5_refuse_0 : List UInt8 := [42, 180, 0, 34, 27, 116, 92, 46, 4, 96, 79, 27, 172]
abbrev dktX5_refuse_0 : List UInt8 := dkwX5_refuse_0 ++ []
theorem dksX5_refuse_0 : cX5_refuse.data.toList.drop 0 = dktX5_refuse_0 := by decide +kernel
theorem dX5_refuse_0 : decode cX5_refuse 0 = .ok (.aload_n 0, 1) := dk_42 (dk_at dksX5_refuse_0 0 rfl rfl)
theorem dX5_refuse_1 : decode cX5_refuse 1 = .ok (.getfield 34, 3) := dk_180 0 34 (dk_at dksX5_refuse_0 1 rfl rfl)
theorem dX5_refuse_4 : decode cX5_refuse 4 = .ok (.iload_n 1, 1) := dk_27 (dk_at dksX5_refuse_0 4 rfl rfl)
theorem dX5_refuse_5 : decode cX5_refuse 5 = .ok (.ineg, 1) := dk_116 (dk_at dksX5_refuse_0 5 rfl rfl)
theorem dX5_refuse_6 : decode cX5_refuse 6 = .ok (.dup2, 1) := dk_92 (dk_at dksX5_refuse_0 6 rfl rfl)
theorem dX5_refuse_7 : decode cX5_refuse 7 = .ok (.iaload, 1) := dk_46 (dk_at dksX5_refuse_0 7 rfl rfl)
theorem dX5_refuse_8 : decode cX5_refuse 8 = .ok (.iconst 1, 1) := dk_4 (dk_at dksX5_refuse_0 8 rfl rfl)
theorem dX5_refuse_9 : decode cX5_refuse 9 = .ok (.iadd, 1) := dk_96 (dk_at dksX5_refuse_0 9 rfl rfl)
theorem dX5_refuse_10 : decode cX5_refuse 10 = .ok (.iastore, 1) := dk_79 (dk_at dksX5_refuse_0 10 rfl rfl)
theorem dX5_refuse_11 : decode cX5_refuse 11 = .ok (.iload_n 1, 1) := dk_27 (dk_at dksX5_refuse_0 11 rfl rfl)
theorem dX5_refuse_12 : decode cX5_refuse 12 = .ok (.ireturn, 1) := dk_172 (dk_at dksX5_refuse_0 12 rfl rfl)
abbrev cX5_set : ByteArray := prog_18_method_9_code
def yX5_set : MethodName := ⟨RX5, "set", "(IIJ)I"⟩
def dkwX5_set_2 : List UInt8 := [180, 0, 13, 27, 46, 33, 184, 0, 100, 80, 4, 172]
abbrev dktX5_set_2 : List UInt8 := dkwX5_set_2 ++ []
def dkwX5_set_1 : List UInt8 := [4, 100, 133, 184, 0, 80, 154, 0, 10, 42, 16, 254, 182, 0, 93, 172, 42, 180, 0, 21, 27, 50, 28, 42]
abbrev dktX5_set_1 : List UInt8 := dkwX5_set_1 ++ dktX5_set_2
def dkwX5_set_0 : List UInt8 := [42, 27, 182, 0, 97, 54, 5, 21, 5, 153, 0, 6, 21, 5, 172, 28, 133, 9, 42, 180, 0, 16, 27, 46]
abbrev dktX5_set_0 : List UInt8 := dkwX5_set_0 ++ dktX5_set_1
theorem dksX5_set_0 : cX5_set.data.toList.drop 0 = dktX5_set_0 := by decide +kernel
theorem dksX5_set_1 : cX5_set.data.toList.drop 24 = dktX5_set_1 := dk_seg dksX5_set_0 24 rfl rfl
theorem dksX5_set_2 : cX5_set.data.toList.drop 48 = dktX5_set_2 := dk_seg dksX5_set_1 24 rfl rfl
theorem dX5_set_0 : decode cX5_set 0 = .ok (.aload_n 0, 1) := dk_42 (dk_at dksX5_set_0 0 rfl rfl)
theorem dX5_set_1 : decode cX5_set 1 = .ok (.iload_n 1, 1) := dk_27 (dk_at dksX5_set_0 1 rfl rfl)
theorem dX5_set_2 : decode cX5_set 2 = .ok (.invokevirtual 97, 3) := dk_182 0 97 (dk_at dksX5_set_0 2 rfl rfl)
theorem dX5_set_5 : decode cX5_set 5 = .ok (.istore 5, 2) := dk_54 5 (dk_at dksX5_set_0 5 rfl rfl)
theorem dX5_set_7 : decode cX5_set 7 = .ok (.iload 5, 2) := dk_21 5 (dk_at dksX5_set_0 7 rfl rfl)
theorem dX5_set_9 : decode cX5_set 9 = .ok (.ifCond .eq 6, 3) := dk_153 0 6 (dk_at dksX5_set_0 9 rfl rfl)
theorem dX5_set_12 : decode cX5_set 12 = .ok (.iload 5, 2) := dk_21 5 (dk_at dksX5_set_0 12 rfl rfl)
theorem dX5_set_14 : decode cX5_set 14 = .ok (.ireturn, 1) := dk_172 (dk_at dksX5_set_0 14 rfl rfl)
theorem dX5_set_15 : decode cX5_set 15 = .ok (.iload_n 2, 1) := dk_28 (dk_at dksX5_set_0 15 rfl rfl)
theorem dX5_set_16 : decode cX5_set 16 = .ok (.i2l, 1) := dk_133 (dk_at dksX5_set_0 16 rfl rfl)
theorem dX5_set_17 : decode cX5_set 17 = .ok (.lconst 0, 1) := dk_9 (dk_at dksX5_set_0 17 rfl rfl)
theorem dX5_set_18 : decode cX5_set 18 = .ok (.aload_n 0, 1) := dk_42 (dk_at dksX5_set_0 18 rfl rfl)
theorem dX5_set_19 : decode cX5_set 19 = .ok (.getfield 16, 3) := dk_180 0 16 (dk_at dksX5_set_0 19 rfl rfl)
theorem dX5_set_22 : decode cX5_set 22 = .ok (.iload_n 1, 1) := dk_27 (dk_at dksX5_set_0 22 rfl rfl)
theorem dX5_set_23 : decode cX5_set 23 = .ok (.iaload, 1) := dk_46 (dk_at dksX5_set_0 23 rfl rfl)
theorem dX5_set_24 : decode cX5_set 24 = .ok (.iconst 1, 1) := dk_4 (dk_at dksX5_set_1 0 rfl rfl)
theorem dX5_set_25 : decode cX5_set 25 = .ok (.isub, 1) := dk_100 (dk_at dksX5_set_1 1 rfl rfl)
theorem dX5_set_26 : decode cX5_set 26 = .ok (.i2l, 1) := dk_133 (dk_at dksX5_set_1 2 rfl rfl)
theorem dX5_set_27 : decode cX5_set 27 = .ok (.invokestatic 80, 3) := dk_184 0 80 (dk_at dksX5_set_1 3 rfl rfl)
theorem dX5_set_30 : decode cX5_set 30 = .ok (.ifCond .ne 10, 3) := dk_154 0 10 (dk_at dksX5_set_1 6 rfl rfl)
theorem dX5_set_33 : decode cX5_set 33 = .ok (.aload_n 0, 1) := dk_42 (dk_at dksX5_set_1 9 rfl rfl)
theorem dX5_set_34 : decode cX5_set 34 = .ok (.bipush (-2), 2) := dk_16 254 (dk_at dksX5_set_1 10 rfl rfl)
theorem dX5_set_36 : decode cX5_set 36 = .ok (.invokevirtual 93, 3) := dk_182 0 93 (dk_at dksX5_set_1 12 rfl rfl)
theorem dX5_set_39 : decode cX5_set 39 = .ok (.ireturn, 1) := dk_172 (dk_at dksX5_set_1 15 rfl rfl)
theorem dX5_set_40 : decode cX5_set 40 = .ok (.aload_n 0, 1) := dk_42 (dk_at dksX5_set_1 16 rfl rfl)
theorem dX5_set_41 : decode cX5_set 41 = .ok (.getfield 21, 3) := dk_180 0 21 (dk_at dksX5_set_1 17 rfl rfl)
theorem dX5_set_44 : decode cX5_set 44 = .ok (.iload_n 1, 1) := dk_27 (dk_at dksX5_set_1 20 rfl rfl)
theorem dX5_set_45 : decode cX5_set 45 = .ok (.aaload, 1) := dk_50 (dk_at dksX5_set_1 21 rfl rfl)
theorem dX5_set_46 : decode cX5_set 46 = .ok (.iload_n 2, 1) := dk_28 (dk_at dksX5_set_1 22 rfl rfl)
theorem dX5_set_47 : decode cX5_set 47 = .ok (.aload_n 0, 1) := dk_42 (dk_at dksX5_set_1 23 rfl rfl)
theorem dX5_set_48 : decode cX5_set 48 = .ok (.getfield 13, 3) := dk_180 0 13 (dk_at dksX5_set_2 0 rfl rfl)
theorem dX5_set_51 : decode cX5_set 51 = .ok (.iload_n 1, 1) := dk_27 (dk_at dksX5_set_2 3 rfl rfl)
theorem dX5_set_52 : decode cX5_set 52 = .ok (.iaload, 1) := dk_46 (dk_at dksX5_set_2 4 rfl rfl)
theorem dX5_set_53 : decode cX5_set 53 = .ok (.lload_n 3, 1) := dk_33 (dk_at dksX5_set_2 5 rfl rfl)
theorem dX5_set_54 : decode cX5_set 54 = .ok (.invokestatic 100, 3) := dk_184 0 100 (dk_at dksX5_set_2 6 rfl rfl)
theorem dX5_set_57 : decode cX5_set 57 = .ok (.lastore, 1) := dk_80 (dk_at dksX5_set_2 9 rfl rfl)
theorem dX5_set_58 : decode cX5_set 58 = .ok (.iconst 1, 1) := dk_4 (dk_at dksX5_set_2 10 rfl rfl)
theorem dX5_set_59 : decode cX5_set 59 = .ok (.ireturn, 1) := dk_172 (dk_at dksX5_set_2 11 rfl rfl)
abbrev cX5_noRow : ByteArray := prog_18_method_8_code
def yX5_noRow : MethodName := ⟨RX5, "noRow", "(I)I"⟩
def dkwX5_noRow_2 : List UInt8 := [182, 0, 93, 167, 0, 4, 3, 172]
abbrev dktX5_noRow_2 : List UInt8 := dkwX5_noRow_2 ++ []
def dkwX5_noRow_1 : List UInt8 := [46, 5, 160, 0, 10, 42, 16, 253, 182, 0, 93, 172, 42, 180, 0, 7, 27, 46, 154, 0, 12, 42, 16, 252]
abbrev dktX5_noRow_1 : List UInt8 := dkwX5_noRow_1 ++ dktX5_noRow_2
def dkwX5_noRow_0 : List UInt8 := [27, 133, 9, 20, 0, 87, 184, 0, 80, 154, 0, 10, 42, 16, 254, 182, 0, 93, 172, 42, 180, 0, 7, 27]
abbrev dktX5_noRow_0 : List UInt8 := dkwX5_noRow_0 ++ dktX5_noRow_1
theorem dksX5_noRow_0 : cX5_noRow.data.toList.drop 0 = dktX5_noRow_0 := by decide +kernel
theorem dksX5_noRow_1 : cX5_noRow.data.toList.drop 24 = dktX5_noRow_1 := dk_seg dksX5_noRow_0 24 rfl rfl
theorem dksX5_noRow_2 : cX5_noRow.data.toList.drop 48 = dktX5_noRow_2 := dk_seg dksX5_noRow_1 24 rfl rfl
theorem dX5_noRow_0 : decode cX5_noRow 0 = .ok (.iload_n 1, 1) := dk_27 (dk_at dksX5_noRow_0 0 rfl rfl)
theorem dX5_noRow_1 : decode cX5_noRow 1 = .ok (.i2l, 1) := dk_133 (dk_at dksX5_noRow_0 1 rfl rfl)
theorem dX5_noRow_2 : decode cX5_noRow 2 = .ok (.lconst 0, 1) := dk_9 (dk_at dksX5_noRow_0 2 rfl rfl)
theorem dX5_noRow_3 : decode cX5_noRow 3 = .ok (.ldc2_w 87, 3) := dk_20 0 87 (dk_at dksX5_noRow_0 3 rfl rfl)
theorem dX5_noRow_6 : decode cX5_noRow 6 = .ok (.invokestatic 80, 3) := dk_184 0 80 (dk_at dksX5_noRow_0 6 rfl rfl)
theorem dX5_noRow_9 : decode cX5_noRow 9 = .ok (.ifCond .ne 10, 3) := dk_154 0 10 (dk_at dksX5_noRow_0 9 rfl rfl)
theorem dX5_noRow_12 : decode cX5_noRow 12 = .ok (.aload_n 0, 1) := dk_42 (dk_at dksX5_noRow_0 12 rfl rfl)
theorem dX5_noRow_13 : decode cX5_noRow 13 = .ok (.bipush (-2), 2) := dk_16 254 (dk_at dksX5_noRow_0 13 rfl rfl)
theorem dX5_noRow_15 : decode cX5_noRow 15 = .ok (.invokevirtual 93, 3) := dk_182 0 93 (dk_at dksX5_noRow_0 15 rfl rfl)
theorem dX5_noRow_18 : decode cX5_noRow 18 = .ok (.ireturn, 1) := dk_172 (dk_at dksX5_noRow_0 18 rfl rfl)
theorem dX5_noRow_19 : decode cX5_noRow 19 = .ok (.aload_n 0, 1) := dk_42 (dk_at dksX5_noRow_0 19 rfl rfl)
theorem dX5_noRow_20 : decode cX5_noRow 20 = .ok (.getfield 7, 3) := dk_180 0 7 (dk_at dksX5_noRow_0 20 rfl rfl)
theorem dX5_noRow_23 : decode cX5_noRow 23 = .ok (.iload_n 1, 1) := dk_27 (dk_at dksX5_noRow_0 23 rfl rfl)
theorem dX5_noRow_24 : decode cX5_noRow 24 = .ok (.iaload, 1) := dk_46 (dk_at dksX5_noRow_1 0 rfl rfl)
theorem dX5_noRow_25 : decode cX5_noRow 25 = .ok (.iconst 2, 1) := dk_5 (dk_at dksX5_noRow_1 1 rfl rfl)
theorem dX5_noRow_26 : decode cX5_noRow 26 = .ok (.if_icmp .ne 10, 3) := dk_160 0 10 (dk_at dksX5_noRow_1 2 rfl rfl)
theorem dX5_noRow_29 : decode cX5_noRow 29 = .ok (.aload_n 0, 1) := dk_42 (dk_at dksX5_noRow_1 5 rfl rfl)
theorem dX5_noRow_30 : decode cX5_noRow 30 = .ok (.bipush (-3), 2) := dk_16 253 (dk_at dksX5_noRow_1 6 rfl rfl)
theorem dX5_noRow_32 : decode cX5_noRow 32 = .ok (.invokevirtual 93, 3) := dk_182 0 93 (dk_at dksX5_noRow_1 8 rfl rfl)
theorem dX5_noRow_35 : decode cX5_noRow 35 = .ok (.ireturn, 1) := dk_172 (dk_at dksX5_noRow_1 11 rfl rfl)
theorem dX5_noRow_36 : decode cX5_noRow 36 = .ok (.aload_n 0, 1) := dk_42 (dk_at dksX5_noRow_1 12 rfl rfl)
theorem dX5_noRow_37 : decode cX5_noRow 37 = .ok (.getfield 7, 3) := dk_180 0 7 (dk_at dksX5_noRow_1 13 rfl rfl)
theorem dX5_noRow_40 : decode cX5_noRow 40 = .ok (.iload_n 1, 1) := dk_27 (dk_at dksX5_noRow_1 16 rfl rfl)
theorem dX5_noRow_41 : decode cX5_noRow 41 = .ok (.iaload, 1) := dk_46 (dk_at dksX5_noRow_1 17 rfl rfl)
theorem dX5_noRow_42 : decode cX5_noRow 42 = .ok (.ifCond .ne 12, 3) := dk_154 0 12 (dk_at dksX5_noRow_1 18 rfl rfl)
theorem dX5_noRow_45 : decode cX5_noRow 45 = .ok (.aload_n 0, 1) := dk_42 (dk_at dksX5_noRow_1 21 rfl rfl)
theorem dX5_noRow_46 : decode cX5_noRow 46 = .ok (.bipush (-4), 2) := dk_16 252 (dk_at dksX5_noRow_1 22 rfl rfl)
theorem dX5_noRow_48 : decode cX5_noRow 48 = .ok (.invokevirtual 93, 3) := dk_182 0 93 (dk_at dksX5_noRow_2 0 rfl rfl)
theorem dX5_noRow_51 : decode cX5_noRow 51 = .ok (.goto 4, 3) := dk_167 0 4 (dk_at dksX5_noRow_2 3 rfl rfl)
theorem dX5_noRow_54 : decode cX5_noRow 54 = .ok (.iconst 0, 1) := dk_3 (dk_at dksX5_noRow_2 6 rfl rfl)
theorem dX5_noRow_55 : decode cX5_noRow 55 = .ok (.ireturn, 1) := dk_172 (dk_at dksX5_noRow_2 7 rfl rfl)
abbrev cX5_fit : ByteArray := prog_18_method_7_code
def yX5_fit : MethodName := ⟨RX5, "fit", "(IJ)J"⟩
def dkwX5_fit_3 : List UInt8 := [167, 0, 4, 9, 173]
abbrev dktX5_fit_3 : List UInt8 := dkwX5_fit_3 ++ []
def dkwX5_fit_2 : List UInt8 := [31, 136, 145, 133, 173, 31, 136, 147, 133, 173, 31, 136, 133, 173, 31, 173, 31, 9, 148, 153, 0, 7, 10]
abbrev dktX5_fit_2 : List UInt8 := dkwX5_fit_2 ++ dktX5_fit_3
def dkwX5_fit_1 : List UInt8 := [170, 0, 0, 0, 0, 0, 47, 0, 0, 0, 0, 0, 0, 0, 3, 0, 0, 0, 31, 0, 0, 0, 36, 0, 0, 0, 41, 0, 0, 0, 45]
abbrev dktX5_fit_1 : List UInt8 := dkwX5_fit_1 ++ dktX5_fit_2
def dkwX5_fit_0 : List UInt8 := [26]
abbrev dktX5_fit_0 : List UInt8 := dkwX5_fit_0 ++ dktX5_fit_1
theorem dksX5_fit_0 : cX5_fit.data.toList.drop 0 = dktX5_fit_0 := by decide +kernel
theorem dksX5_fit_1 : cX5_fit.data.toList.drop 1 = dktX5_fit_1 := dk_seg dksX5_fit_0 1 rfl rfl
theorem dksX5_fit_2 : cX5_fit.data.toList.drop 32 = dktX5_fit_2 := dk_seg dksX5_fit_1 31 rfl rfl
theorem dksX5_fit_3 : cX5_fit.data.toList.drop 55 = dktX5_fit_3 := dk_seg dksX5_fit_2 23 rfl rfl
theorem dX5_fit_0 : decode cX5_fit 0 = .ok (.iload_n 0, 1) := dk_26 (dk_at dksX5_fit_0 0 rfl rfl)
theorem dX5_fit_1 : decode cX5_fit 1 = .ok (.tableswitch 47 0 3 #[31, 36, 41, 45], 31) := by decide +kernel
theorem dX5_fit_32 : decode cX5_fit 32 = .ok (.lload_n 1, 1) := dk_31 (dk_at dksX5_fit_2 0 rfl rfl)
theorem dX5_fit_33 : decode cX5_fit 33 = .ok (.l2i, 1) := dk_136 (dk_at dksX5_fit_2 1 rfl rfl)
theorem dX5_fit_34 : decode cX5_fit 34 = .ok (.i2b, 1) := dk_145 (dk_at dksX5_fit_2 2 rfl rfl)
theorem dX5_fit_35 : decode cX5_fit 35 = .ok (.i2l, 1) := dk_133 (dk_at dksX5_fit_2 3 rfl rfl)
theorem dX5_fit_36 : decode cX5_fit 36 = .ok (.lreturn, 1) := dk_173 (dk_at dksX5_fit_2 4 rfl rfl)
theorem dX5_fit_37 : decode cX5_fit 37 = .ok (.lload_n 1, 1) := dk_31 (dk_at dksX5_fit_2 5 rfl rfl)
theorem dX5_fit_38 : decode cX5_fit 38 = .ok (.l2i, 1) := dk_136 (dk_at dksX5_fit_2 6 rfl rfl)
theorem dX5_fit_39 : decode cX5_fit 39 = .ok (.i2s, 1) := dk_147 (dk_at dksX5_fit_2 7 rfl rfl)
theorem dX5_fit_40 : decode cX5_fit 40 = .ok (.i2l, 1) := dk_133 (dk_at dksX5_fit_2 8 rfl rfl)
theorem dX5_fit_41 : decode cX5_fit 41 = .ok (.lreturn, 1) := dk_173 (dk_at dksX5_fit_2 9 rfl rfl)
theorem dX5_fit_42 : decode cX5_fit 42 = .ok (.lload_n 1, 1) := dk_31 (dk_at dksX5_fit_2 10 rfl rfl)
theorem dX5_fit_43 : decode cX5_fit 43 = .ok (.l2i, 1) := dk_136 (dk_at dksX5_fit_2 11 rfl rfl)
theorem dX5_fit_44 : decode cX5_fit 44 = .ok (.i2l, 1) := dk_133 (dk_at dksX5_fit_2 12 rfl rfl)
theorem dX5_fit_45 : decode cX5_fit 45 = .ok (.lreturn, 1) := dk_173 (dk_at dksX5_fit_2 13 rfl rfl)
theorem dX5_fit_46 : decode cX5_fit 46 = .ok (.lload_n 1, 1) := dk_31 (dk_at dksX5_fit_2 14 rfl rfl)
theorem dX5_fit_47 : decode cX5_fit 47 = .ok (.lreturn, 1) := dk_173 (dk_at dksX5_fit_2 15 rfl rfl)
theorem dX5_fit_48 : decode cX5_fit 48 = .ok (.lload_n 1, 1) := dk_31 (dk_at dksX5_fit_2 16 rfl rfl)
theorem dX5_fit_49 : decode cX5_fit 49 = .ok (.lconst 0, 1) := dk_9 (dk_at dksX5_fit_2 17 rfl rfl)
theorem dX5_fit_50 : decode cX5_fit 50 = .ok (.lcmp, 1) := dk_148 (dk_at dksX5_fit_2 18 rfl rfl)
theorem dX5_fit_51 : decode cX5_fit 51 = .ok (.ifCond .eq 7, 3) := dk_153 0 7 (dk_at dksX5_fit_2 19 rfl rfl)
theorem dX5_fit_54 : decode cX5_fit 54 = .ok (.lconst 1, 1) := dk_10 (dk_at dksX5_fit_2 22 rfl rfl)
theorem dX5_fit_55 : decode cX5_fit 55 = .ok (.goto 4, 3) := dk_167 0 4 (dk_at dksX5_fit_3 0 rfl rfl)
theorem dX5_fit_58 : decode cX5_fit 58 = .ok (.lconst 0, 1) := dk_9 (dk_at dksX5_fit_3 3 rfl rfl)
theorem dX5_fit_59 : decode cX5_fit 59 = .ok (.lreturn, 1) := dk_173 (dk_at dksX5_fit_3 4 rfl rfl)
abbrev cX5_copy : ByteArray := prog_18_method_10_code
def yX5_copy : MethodName := ⟨RX5, "copy", "(IIIII)I"⟩
def dkwX5_copy_11 : List UInt8 := [21, 5, 172]
abbrev dktX5_copy_11 : List UInt8 := dkwX5_copy_11 ++ []
def dkwX5_copy_10 : List UInt8 := [180, 0, 21, 28, 50, 21, 4, 21, 6, 96, 42, 180, 0, 24, 21, 6, 47, 80, 132, 6, 1, 167, 255, 227]
abbrev dktX5_copy_10 : List UInt8 := dkwX5_copy_10 ++ dktX5_copy_11
def dkwX5_copy_9 : List UInt8 := [21, 6, 96, 47, 80, 132, 6, 1, 167, 255, 228, 3, 54, 6, 21, 6, 21, 5, 162, 0, 28, 42]
abbrev dktX5_copy_9 : List UInt8 := dkwX5_copy_9 ++ dktX5_copy_10
def dkwX5_copy_8 : List UInt8 := [3, 54, 6, 21, 6, 21, 5, 162, 0, 27, 42, 180, 0, 24, 21, 6, 42, 180, 0, 21, 27, 50, 29]
abbrev dktX5_copy_8 : List UInt8 := dkwX5_copy_8 ++ dktX5_copy_9
def dkwX5_copy_7 : List UInt8 := [163, 0, 17, 21, 4, 42, 180, 0, 16, 28, 46, 21, 5, 100, 164, 0, 10, 42, 16, 254, 182, 0, 93, 172]
abbrev dktX5_copy_7 : List UInt8 := dkwX5_copy_7 ++ dktX5_copy_8
def dkwX5_copy_6 : List UInt8 := [163, 0, 41, 21, 5, 42, 180, 0, 16, 28, 46, 163, 0, 30, 29, 42, 180, 0, 16, 27, 46, 21, 5, 100]
abbrev dktX5_copy_6 : List UInt8 := dkwX5_copy_6 ++ dktX5_copy_7
def dkwX5_copy_5 : List UInt8 := [21, 5, 155, 0, 61, 29, 155, 0, 57, 21, 4, 155, 0, 52, 21, 5, 42, 180, 0, 16, 27, 46]
abbrev dktX5_copy_5 : List UInt8 := dkwX5_copy_5 ++ dktX5_copy_6
def dkwX5_copy_4 : List UInt8 := [180, 0, 7, 27, 46, 153, 0, 12, 42, 180, 0, 7, 28, 46, 154, 0, 10, 42, 16, 252, 182, 0, 93, 172]
abbrev dktX5_copy_4 : List UInt8 := dkwX5_copy_4 ++ dktX5_copy_5
def dkwX5_copy_3 : List UInt8 := [180, 0, 13, 27, 46, 42, 180, 0, 13, 28, 46, 159, 0, 10, 42, 16, 253, 182, 0, 93, 172, 42]
abbrev dktX5_copy_3 : List UInt8 := dkwX5_copy_3 ++ dktX5_copy_4
def dkwX5_copy_2 : List UInt8 := [159, 0, 38, 42, 180, 0, 7, 27, 46, 4, 160, 0, 35, 42, 180, 0, 7, 28, 46, 4, 160, 0, 25, 42]
abbrev dktX5_copy_2 : List UInt8 := dkwX5_copy_2 ++ dktX5_copy_3
def dkwX5_copy_1 : List UInt8 := [42, 16, 254, 182, 0, 93, 172, 42, 180, 0, 7, 27, 46, 5, 159, 0, 48, 42, 180, 0, 7, 28, 46, 5]
abbrev dktX5_copy_1 : List UInt8 := dkwX5_copy_1 ++ dktX5_copy_2
def dkwX5_copy_0 : List UInt8 := [27, 133, 9, 20, 0, 87, 184, 0, 80, 153, 0, 15, 28, 133, 9, 20, 0, 87, 184, 0, 80, 154, 0, 10]
abbrev dktX5_copy_0 : List UInt8 := dkwX5_copy_0 ++ dktX5_copy_1
theorem dksX5_copy_0 : cX5_copy.data.toList.drop 0 = dktX5_copy_0 := by decide +kernel
theorem dksX5_copy_1 : cX5_copy.data.toList.drop 24 = dktX5_copy_1 := dk_seg dksX5_copy_0 24 rfl rfl
theorem dksX5_copy_2 : cX5_copy.data.toList.drop 48 = dktX5_copy_2 := dk_seg dksX5_copy_1 24 rfl rfl
theorem dksX5_copy_3 : cX5_copy.data.toList.drop 72 = dktX5_copy_3 := dk_seg dksX5_copy_2 24 rfl rfl
theorem dksX5_copy_4 : cX5_copy.data.toList.drop 94 = dktX5_copy_4 := dk_seg dksX5_copy_3 22 rfl rfl
theorem dksX5_copy_5 : cX5_copy.data.toList.drop 118 = dktX5_copy_5 := dk_seg dksX5_copy_4 24 rfl rfl
theorem dksX5_copy_6 : cX5_copy.data.toList.drop 140 = dktX5_copy_6 := dk_seg dksX5_copy_5 22 rfl rfl
theorem dksX5_copy_7 : cX5_copy.data.toList.drop 164 = dktX5_copy_7 := dk_seg dksX5_copy_6 24 rfl rfl
theorem dksX5_copy_8 : cX5_copy.data.toList.drop 188 = dktX5_copy_8 := dk_seg dksX5_copy_7 24 rfl rfl
theorem dksX5_copy_9 : cX5_copy.data.toList.drop 211 = dktX5_copy_9 := dk_seg dksX5_copy_8 23 rfl rfl
theorem dksX5_copy_10 : cX5_copy.data.toList.drop 233 = dktX5_copy_10 := dk_seg dksX5_copy_9 22 rfl rfl
theorem dksX5_copy_11 : cX5_copy.data.toList.drop 257 = dktX5_copy_11 := dk_seg dksX5_copy_10 24 rfl rfl
theorem dX5_copy_0 : decode cX5_copy 0 = .ok (.iload_n 1, 1) := dk_27 (dk_at dksX5_copy_0 0 rfl rfl)
theorem dX5_copy_1 : decode cX5_copy 1 = .ok (.i2l, 1) := dk_133 (dk_at dksX5_copy_0 1 rfl rfl)
theorem dX5_copy_2 : decode cX5_copy 2 = .ok (.lconst 0, 1) := dk_9 (dk_at dksX5_copy_0 2 rfl rfl)
theorem dX5_copy_3 : decode cX5_copy 3 = .ok (.ldc2_w 87, 3) := dk_20 0 87 (dk_at dksX5_copy_0 3 rfl rfl)
theorem dX5_copy_6 : decode cX5_copy 6 = .ok (.invokestatic 80, 3) := dk_184 0 80 (dk_at dksX5_copy_0 6 rfl rfl)
theorem dX5_copy_9 : decode cX5_copy 9 = .ok (.ifCond .eq 15, 3) := dk_153 0 15 (dk_at dksX5_copy_0 9 rfl rfl)
theorem dX5_copy_12 : decode cX5_copy 12 = .ok (.iload_n 2, 1) := dk_28 (dk_at dksX5_copy_0 12 rfl rfl)
theorem dX5_copy_13 : decode cX5_copy 13 = .ok (.i2l, 1) := dk_133 (dk_at dksX5_copy_0 13 rfl rfl)
theorem dX5_copy_14 : decode cX5_copy 14 = .ok (.lconst 0, 1) := dk_9 (dk_at dksX5_copy_0 14 rfl rfl)
theorem dX5_copy_15 : decode cX5_copy 15 = .ok (.ldc2_w 87, 3) := dk_20 0 87 (dk_at dksX5_copy_0 15 rfl rfl)
theorem dX5_copy_18 : decode cX5_copy 18 = .ok (.invokestatic 80, 3) := dk_184 0 80 (dk_at dksX5_copy_0 18 rfl rfl)
theorem dX5_copy_21 : decode cX5_copy 21 = .ok (.ifCond .ne 10, 3) := dk_154 0 10 (dk_at dksX5_copy_0 21 rfl rfl)
theorem dX5_copy_24 : decode cX5_copy 24 = .ok (.aload_n 0, 1) := dk_42 (dk_at dksX5_copy_1 0 rfl rfl)
theorem dX5_copy_25 : decode cX5_copy 25 = .ok (.bipush (-2), 2) := dk_16 254 (dk_at dksX5_copy_1 1 rfl rfl)
theorem dX5_copy_27 : decode cX5_copy 27 = .ok (.invokevirtual 93, 3) := dk_182 0 93 (dk_at dksX5_copy_1 3 rfl rfl)
theorem dX5_copy_30 : decode cX5_copy 30 = .ok (.ireturn, 1) := dk_172 (dk_at dksX5_copy_1 6 rfl rfl)
theorem dX5_copy_31 : decode cX5_copy 31 = .ok (.aload_n 0, 1) := dk_42 (dk_at dksX5_copy_1 7 rfl rfl)
theorem dX5_copy_32 : decode cX5_copy 32 = .ok (.getfield 7, 3) := dk_180 0 7 (dk_at dksX5_copy_1 8 rfl rfl)
theorem dX5_copy_35 : decode cX5_copy 35 = .ok (.iload_n 1, 1) := dk_27 (dk_at dksX5_copy_1 11 rfl rfl)
theorem dX5_copy_36 : decode cX5_copy 36 = .ok (.iaload, 1) := dk_46 (dk_at dksX5_copy_1 12 rfl rfl)
theorem dX5_copy_37 : decode cX5_copy 37 = .ok (.iconst 2, 1) := dk_5 (dk_at dksX5_copy_1 13 rfl rfl)
theorem dX5_copy_38 : decode cX5_copy 38 = .ok (.if_icmp .eq 48, 3) := dk_159 0 48 (dk_at dksX5_copy_1 14 rfl rfl)
theorem dX5_copy_41 : decode cX5_copy 41 = .ok (.aload_n 0, 1) := dk_42 (dk_at dksX5_copy_1 17 rfl rfl)
theorem dX5_copy_42 : decode cX5_copy 42 = .ok (.getfield 7, 3) := dk_180 0 7 (dk_at dksX5_copy_1 18 rfl rfl)
theorem dX5_copy_45 : decode cX5_copy 45 = .ok (.iload_n 2, 1) := dk_28 (dk_at dksX5_copy_1 21 rfl rfl)
theorem dX5_copy_46 : decode cX5_copy 46 = .ok (.iaload, 1) := dk_46 (dk_at dksX5_copy_1 22 rfl rfl)
theorem dX5_copy_47 : decode cX5_copy 47 = .ok (.iconst 2, 1) := dk_5 (dk_at dksX5_copy_1 23 rfl rfl)
theorem dX5_copy_48 : decode cX5_copy 48 = .ok (.if_icmp .eq 38, 3) := dk_159 0 38 (dk_at dksX5_copy_2 0 rfl rfl)
theorem dX5_copy_51 : decode cX5_copy 51 = .ok (.aload_n 0, 1) := dk_42 (dk_at dksX5_copy_2 3 rfl rfl)
theorem dX5_copy_52 : decode cX5_copy 52 = .ok (.getfield 7, 3) := dk_180 0 7 (dk_at dksX5_copy_2 4 rfl rfl)
theorem dX5_copy_55 : decode cX5_copy 55 = .ok (.iload_n 1, 1) := dk_27 (dk_at dksX5_copy_2 7 rfl rfl)
theorem dX5_copy_56 : decode cX5_copy 56 = .ok (.iaload, 1) := dk_46 (dk_at dksX5_copy_2 8 rfl rfl)
theorem dX5_copy_57 : decode cX5_copy 57 = .ok (.iconst 1, 1) := dk_4 (dk_at dksX5_copy_2 9 rfl rfl)
theorem dX5_copy_58 : decode cX5_copy 58 = .ok (.if_icmp .ne 35, 3) := dk_160 0 35 (dk_at dksX5_copy_2 10 rfl rfl)
theorem dX5_copy_61 : decode cX5_copy 61 = .ok (.aload_n 0, 1) := dk_42 (dk_at dksX5_copy_2 13 rfl rfl)
theorem dX5_copy_62 : decode cX5_copy 62 = .ok (.getfield 7, 3) := dk_180 0 7 (dk_at dksX5_copy_2 14 rfl rfl)
theorem dX5_copy_65 : decode cX5_copy 65 = .ok (.iload_n 2, 1) := dk_28 (dk_at dksX5_copy_2 17 rfl rfl)
theorem dX5_copy_66 : decode cX5_copy 66 = .ok (.iaload, 1) := dk_46 (dk_at dksX5_copy_2 18 rfl rfl)
theorem dX5_copy_67 : decode cX5_copy 67 = .ok (.iconst 1, 1) := dk_4 (dk_at dksX5_copy_2 19 rfl rfl)
theorem dX5_copy_68 : decode cX5_copy 68 = .ok (.if_icmp .ne 25, 3) := dk_160 0 25 (dk_at dksX5_copy_2 20 rfl rfl)
theorem dX5_copy_71 : decode cX5_copy 71 = .ok (.aload_n 0, 1) := dk_42 (dk_at dksX5_copy_2 23 rfl rfl)
theorem dX5_copy_72 : decode cX5_copy 72 = .ok (.getfield 13, 3) := dk_180 0 13 (dk_at dksX5_copy_3 0 rfl rfl)
theorem dX5_copy_75 : decode cX5_copy 75 = .ok (.iload_n 1, 1) := dk_27 (dk_at dksX5_copy_3 3 rfl rfl)
theorem dX5_copy_76 : decode cX5_copy 76 = .ok (.iaload, 1) := dk_46 (dk_at dksX5_copy_3 4 rfl rfl)
theorem dX5_copy_77 : decode cX5_copy 77 = .ok (.aload_n 0, 1) := dk_42 (dk_at dksX5_copy_3 5 rfl rfl)
theorem dX5_copy_78 : decode cX5_copy 78 = .ok (.getfield 13, 3) := dk_180 0 13 (dk_at dksX5_copy_3 6 rfl rfl)
theorem dX5_copy_81 : decode cX5_copy 81 = .ok (.iload_n 2, 1) := dk_28 (dk_at dksX5_copy_3 9 rfl rfl)
theorem dX5_copy_82 : decode cX5_copy 82 = .ok (.iaload, 1) := dk_46 (dk_at dksX5_copy_3 10 rfl rfl)
theorem dX5_copy_83 : decode cX5_copy 83 = .ok (.if_icmp .eq 10, 3) := dk_159 0 10 (dk_at dksX5_copy_3 11 rfl rfl)
theorem dX5_copy_86 : decode cX5_copy 86 = .ok (.aload_n 0, 1) := dk_42 (dk_at dksX5_copy_3 14 rfl rfl)
theorem dX5_copy_87 : decode cX5_copy 87 = .ok (.bipush (-3), 2) := dk_16 253 (dk_at dksX5_copy_3 15 rfl rfl)
theorem dX5_copy_89 : decode cX5_copy 89 = .ok (.invokevirtual 93, 3) := dk_182 0 93 (dk_at dksX5_copy_3 17 rfl rfl)
theorem dX5_copy_92 : decode cX5_copy 92 = .ok (.ireturn, 1) := dk_172 (dk_at dksX5_copy_3 20 rfl rfl)
theorem dX5_copy_93 : decode cX5_copy 93 = .ok (.aload_n 0, 1) := dk_42 (dk_at dksX5_copy_3 21 rfl rfl)
theorem dX5_copy_94 : decode cX5_copy 94 = .ok (.getfield 7, 3) := dk_180 0 7 (dk_at dksX5_copy_4 0 rfl rfl)
theorem dX5_copy_97 : decode cX5_copy 97 = .ok (.iload_n 1, 1) := dk_27 (dk_at dksX5_copy_4 3 rfl rfl)
theorem dX5_copy_98 : decode cX5_copy 98 = .ok (.iaload, 1) := dk_46 (dk_at dksX5_copy_4 4 rfl rfl)
theorem dX5_copy_99 : decode cX5_copy 99 = .ok (.ifCond .eq 12, 3) := dk_153 0 12 (dk_at dksX5_copy_4 5 rfl rfl)
theorem dX5_copy_102 : decode cX5_copy 102 = .ok (.aload_n 0, 1) := dk_42 (dk_at dksX5_copy_4 8 rfl rfl)
theorem dX5_copy_103 : decode cX5_copy 103 = .ok (.getfield 7, 3) := dk_180 0 7 (dk_at dksX5_copy_4 9 rfl rfl)
theorem dX5_copy_106 : decode cX5_copy 106 = .ok (.iload_n 2, 1) := dk_28 (dk_at dksX5_copy_4 12 rfl rfl)
theorem dX5_copy_107 : decode cX5_copy 107 = .ok (.iaload, 1) := dk_46 (dk_at dksX5_copy_4 13 rfl rfl)
theorem dX5_copy_108 : decode cX5_copy 108 = .ok (.ifCond .ne 10, 3) := dk_154 0 10 (dk_at dksX5_copy_4 14 rfl rfl)
theorem dX5_copy_111 : decode cX5_copy 111 = .ok (.aload_n 0, 1) := dk_42 (dk_at dksX5_copy_4 17 rfl rfl)
theorem dX5_copy_112 : decode cX5_copy 112 = .ok (.bipush (-4), 2) := dk_16 252 (dk_at dksX5_copy_4 18 rfl rfl)
theorem dX5_copy_114 : decode cX5_copy 114 = .ok (.invokevirtual 93, 3) := dk_182 0 93 (dk_at dksX5_copy_4 20 rfl rfl)
theorem dX5_copy_117 : decode cX5_copy 117 = .ok (.ireturn, 1) := dk_172 (dk_at dksX5_copy_4 23 rfl rfl)
theorem dX5_copy_118 : decode cX5_copy 118 = .ok (.iload 5, 2) := dk_21 5 (dk_at dksX5_copy_5 0 rfl rfl)
theorem dX5_copy_120 : decode cX5_copy 120 = .ok (.ifCond .lt 61, 3) := dk_155 0 61 (dk_at dksX5_copy_5 2 rfl rfl)
theorem dX5_copy_123 : decode cX5_copy 123 = .ok (.iload_n 3, 1) := dk_29 (dk_at dksX5_copy_5 5 rfl rfl)
theorem dX5_copy_124 : decode cX5_copy 124 = .ok (.ifCond .lt 57, 3) := dk_155 0 57 (dk_at dksX5_copy_5 6 rfl rfl)
theorem dX5_copy_127 : decode cX5_copy 127 = .ok (.iload 4, 2) := dk_21 4 (dk_at dksX5_copy_5 9 rfl rfl)
theorem dX5_copy_129 : decode cX5_copy 129 = .ok (.ifCond .lt 52, 3) := dk_155 0 52 (dk_at dksX5_copy_5 11 rfl rfl)
theorem dX5_copy_132 : decode cX5_copy 132 = .ok (.iload 5, 2) := dk_21 5 (dk_at dksX5_copy_5 14 rfl rfl)
theorem dX5_copy_134 : decode cX5_copy 134 = .ok (.aload_n 0, 1) := dk_42 (dk_at dksX5_copy_5 16 rfl rfl)
theorem dX5_copy_135 : decode cX5_copy 135 = .ok (.getfield 16, 3) := dk_180 0 16 (dk_at dksX5_copy_5 17 rfl rfl)
theorem dX5_copy_138 : decode cX5_copy 138 = .ok (.iload_n 1, 1) := dk_27 (dk_at dksX5_copy_5 20 rfl rfl)
theorem dX5_copy_139 : decode cX5_copy 139 = .ok (.iaload, 1) := dk_46 (dk_at dksX5_copy_5 21 rfl rfl)
theorem dX5_copy_140 : decode cX5_copy 140 = .ok (.if_icmp .gt 41, 3) := dk_163 0 41 (dk_at dksX5_copy_6 0 rfl rfl)
theorem dX5_copy_143 : decode cX5_copy 143 = .ok (.iload 5, 2) := dk_21 5 (dk_at dksX5_copy_6 3 rfl rfl)
theorem dX5_copy_145 : decode cX5_copy 145 = .ok (.aload_n 0, 1) := dk_42 (dk_at dksX5_copy_6 5 rfl rfl)
theorem dX5_copy_146 : decode cX5_copy 146 = .ok (.getfield 16, 3) := dk_180 0 16 (dk_at dksX5_copy_6 6 rfl rfl)
theorem dX5_copy_149 : decode cX5_copy 149 = .ok (.iload_n 2, 1) := dk_28 (dk_at dksX5_copy_6 9 rfl rfl)
theorem dX5_copy_150 : decode cX5_copy 150 = .ok (.iaload, 1) := dk_46 (dk_at dksX5_copy_6 10 rfl rfl)
theorem dX5_copy_151 : decode cX5_copy 151 = .ok (.if_icmp .gt 30, 3) := dk_163 0 30 (dk_at dksX5_copy_6 11 rfl rfl)
theorem dX5_copy_154 : decode cX5_copy 154 = .ok (.iload_n 3, 1) := dk_29 (dk_at dksX5_copy_6 14 rfl rfl)
theorem dX5_copy_155 : decode cX5_copy 155 = .ok (.aload_n 0, 1) := dk_42 (dk_at dksX5_copy_6 15 rfl rfl)
theorem dX5_copy_156 : decode cX5_copy 156 = .ok (.getfield 16, 3) := dk_180 0 16 (dk_at dksX5_copy_6 16 rfl rfl)
theorem dX5_copy_159 : decode cX5_copy 159 = .ok (.iload_n 1, 1) := dk_27 (dk_at dksX5_copy_6 19 rfl rfl)
theorem dX5_copy_160 : decode cX5_copy 160 = .ok (.iaload, 1) := dk_46 (dk_at dksX5_copy_6 20 rfl rfl)
theorem dX5_copy_161 : decode cX5_copy 161 = .ok (.iload 5, 2) := dk_21 5 (dk_at dksX5_copy_6 21 rfl rfl)
theorem dX5_copy_163 : decode cX5_copy 163 = .ok (.isub, 1) := dk_100 (dk_at dksX5_copy_6 23 rfl rfl)
theorem dX5_copy_164 : decode cX5_copy 164 = .ok (.if_icmp .gt 17, 3) := dk_163 0 17 (dk_at dksX5_copy_7 0 rfl rfl)
theorem dX5_copy_167 : decode cX5_copy 167 = .ok (.iload 4, 2) := dk_21 4 (dk_at dksX5_copy_7 3 rfl rfl)
theorem dX5_copy_169 : decode cX5_copy 169 = .ok (.aload_n 0, 1) := dk_42 (dk_at dksX5_copy_7 5 rfl rfl)
theorem dX5_copy_170 : decode cX5_copy 170 = .ok (.getfield 16, 3) := dk_180 0 16 (dk_at dksX5_copy_7 6 rfl rfl)
theorem dX5_copy_173 : decode cX5_copy 173 = .ok (.iload_n 2, 1) := dk_28 (dk_at dksX5_copy_7 9 rfl rfl)
theorem dX5_copy_174 : decode cX5_copy 174 = .ok (.iaload, 1) := dk_46 (dk_at dksX5_copy_7 10 rfl rfl)
theorem dX5_copy_175 : decode cX5_copy 175 = .ok (.iload 5, 2) := dk_21 5 (dk_at dksX5_copy_7 11 rfl rfl)
theorem dX5_copy_177 : decode cX5_copy 177 = .ok (.isub, 1) := dk_100 (dk_at dksX5_copy_7 13 rfl rfl)
theorem dX5_copy_178 : decode cX5_copy 178 = .ok (.if_icmp .le 10, 3) := dk_164 0 10 (dk_at dksX5_copy_7 14 rfl rfl)
theorem dX5_copy_181 : decode cX5_copy 181 = .ok (.aload_n 0, 1) := dk_42 (dk_at dksX5_copy_7 17 rfl rfl)
theorem dX5_copy_182 : decode cX5_copy 182 = .ok (.bipush (-2), 2) := dk_16 254 (dk_at dksX5_copy_7 18 rfl rfl)
theorem dX5_copy_184 : decode cX5_copy 184 = .ok (.invokevirtual 93, 3) := dk_182 0 93 (dk_at dksX5_copy_7 20 rfl rfl)
theorem dX5_copy_187 : decode cX5_copy 187 = .ok (.ireturn, 1) := dk_172 (dk_at dksX5_copy_7 23 rfl rfl)
theorem dX5_copy_188 : decode cX5_copy 188 = .ok (.iconst 0, 1) := dk_3 (dk_at dksX5_copy_8 0 rfl rfl)
theorem dX5_copy_189 : decode cX5_copy 189 = .ok (.istore 6, 2) := dk_54 6 (dk_at dksX5_copy_8 1 rfl rfl)
theorem dX5_copy_191 : decode cX5_copy 191 = .ok (.iload 6, 2) := dk_21 6 (dk_at dksX5_copy_8 3 rfl rfl)
theorem dX5_copy_193 : decode cX5_copy 193 = .ok (.iload 5, 2) := dk_21 5 (dk_at dksX5_copy_8 5 rfl rfl)
theorem dX5_copy_195 : decode cX5_copy 195 = .ok (.if_icmp .ge 27, 3) := dk_162 0 27 (dk_at dksX5_copy_8 7 rfl rfl)
theorem dX5_copy_198 : decode cX5_copy 198 = .ok (.aload_n 0, 1) := dk_42 (dk_at dksX5_copy_8 10 rfl rfl)
theorem dX5_copy_199 : decode cX5_copy 199 = .ok (.getfield 24, 3) := dk_180 0 24 (dk_at dksX5_copy_8 11 rfl rfl)
theorem dX5_copy_202 : decode cX5_copy 202 = .ok (.iload 6, 2) := dk_21 6 (dk_at dksX5_copy_8 14 rfl rfl)
theorem dX5_copy_204 : decode cX5_copy 204 = .ok (.aload_n 0, 1) := dk_42 (dk_at dksX5_copy_8 16 rfl rfl)
theorem dX5_copy_205 : decode cX5_copy 205 = .ok (.getfield 21, 3) := dk_180 0 21 (dk_at dksX5_copy_8 17 rfl rfl)
theorem dX5_copy_208 : decode cX5_copy 208 = .ok (.iload_n 1, 1) := dk_27 (dk_at dksX5_copy_8 20 rfl rfl)
theorem dX5_copy_209 : decode cX5_copy 209 = .ok (.aaload, 1) := dk_50 (dk_at dksX5_copy_8 21 rfl rfl)
theorem dX5_copy_210 : decode cX5_copy 210 = .ok (.iload_n 3, 1) := dk_29 (dk_at dksX5_copy_8 22 rfl rfl)
theorem dX5_copy_211 : decode cX5_copy 211 = .ok (.iload 6, 2) := dk_21 6 (dk_at dksX5_copy_9 0 rfl rfl)
theorem dX5_copy_213 : decode cX5_copy 213 = .ok (.iadd, 1) := dk_96 (dk_at dksX5_copy_9 2 rfl rfl)
theorem dX5_copy_214 : decode cX5_copy 214 = .ok (.laload, 1) := dk_47 (dk_at dksX5_copy_9 3 rfl rfl)
theorem dX5_copy_215 : decode cX5_copy 215 = .ok (.lastore, 1) := dk_80 (dk_at dksX5_copy_9 4 rfl rfl)
theorem dX5_copy_216 : decode cX5_copy 216 = .ok (.iinc 6 1, 3) := dk_132 6 1 (dk_at dksX5_copy_9 5 rfl rfl)
theorem dX5_copy_219 : decode cX5_copy 219 = .ok (.goto (-28), 3) := dk_167 255 228 (dk_at dksX5_copy_9 8 rfl rfl)
theorem dX5_copy_222 : decode cX5_copy 222 = .ok (.iconst 0, 1) := dk_3 (dk_at dksX5_copy_9 11 rfl rfl)
theorem dX5_copy_223 : decode cX5_copy 223 = .ok (.istore 6, 2) := dk_54 6 (dk_at dksX5_copy_9 12 rfl rfl)
theorem dX5_copy_225 : decode cX5_copy 225 = .ok (.iload 6, 2) := dk_21 6 (dk_at dksX5_copy_9 14 rfl rfl)
theorem dX5_copy_227 : decode cX5_copy 227 = .ok (.iload 5, 2) := dk_21 5 (dk_at dksX5_copy_9 16 rfl rfl)
theorem dX5_copy_229 : decode cX5_copy 229 = .ok (.if_icmp .ge 28, 3) := dk_162 0 28 (dk_at dksX5_copy_9 18 rfl rfl)
theorem dX5_copy_232 : decode cX5_copy 232 = .ok (.aload_n 0, 1) := dk_42 (dk_at dksX5_copy_9 21 rfl rfl)
theorem dX5_copy_233 : decode cX5_copy 233 = .ok (.getfield 21, 3) := dk_180 0 21 (dk_at dksX5_copy_10 0 rfl rfl)
theorem dX5_copy_236 : decode cX5_copy 236 = .ok (.iload_n 2, 1) := dk_28 (dk_at dksX5_copy_10 3 rfl rfl)
theorem dX5_copy_237 : decode cX5_copy 237 = .ok (.aaload, 1) := dk_50 (dk_at dksX5_copy_10 4 rfl rfl)
theorem dX5_copy_238 : decode cX5_copy 238 = .ok (.iload 4, 2) := dk_21 4 (dk_at dksX5_copy_10 5 rfl rfl)
theorem dX5_copy_240 : decode cX5_copy 240 = .ok (.iload 6, 2) := dk_21 6 (dk_at dksX5_copy_10 7 rfl rfl)
theorem dX5_copy_242 : decode cX5_copy 242 = .ok (.iadd, 1) := dk_96 (dk_at dksX5_copy_10 9 rfl rfl)
theorem dX5_copy_243 : decode cX5_copy 243 = .ok (.aload_n 0, 1) := dk_42 (dk_at dksX5_copy_10 10 rfl rfl)
theorem dX5_copy_244 : decode cX5_copy 244 = .ok (.getfield 24, 3) := dk_180 0 24 (dk_at dksX5_copy_10 11 rfl rfl)
theorem dX5_copy_247 : decode cX5_copy 247 = .ok (.iload 6, 2) := dk_21 6 (dk_at dksX5_copy_10 14 rfl rfl)
theorem dX5_copy_249 : decode cX5_copy 249 = .ok (.laload, 1) := dk_47 (dk_at dksX5_copy_10 16 rfl rfl)
theorem dX5_copy_250 : decode cX5_copy 250 = .ok (.lastore, 1) := dk_80 (dk_at dksX5_copy_10 17 rfl rfl)
theorem dX5_copy_251 : decode cX5_copy 251 = .ok (.iinc 6 1, 3) := dk_132 6 1 (dk_at dksX5_copy_10 18 rfl rfl)
theorem dX5_copy_254 : decode cX5_copy 254 = .ok (.goto (-29), 3) := dk_167 255 227 (dk_at dksX5_copy_10 21 rfl rfl)
theorem dX5_copy_257 : decode cX5_copy 257 = .ok (.iload 5, 2) := dk_21 5 (dk_at dksX5_copy_11 0 rfl rfl)
theorem dX5_copy_259 : decode cX5_copy 259 = .ok (.ireturn, 1) := dk_172 (dk_at dksX5_copy_11 2 rfl rfl)
abbrev cX5_element : ByteArray := prog_18_method_11_code
def yX5_element : MethodName := ⟨RX5, "element", "(II)J"⟩
def dkwX5_element_2 : List UInt8 := [167, 0, 4, 9, 173]
abbrev dktX5_element_2 : List UInt8 := dkwX5_element_2 ++ []
def dkwX5_element_1 : List UInt8 := [9, 42, 180, 0, 16, 27, 46, 4, 100, 133, 184, 0, 80, 153, 0, 14, 42, 180, 0, 21, 27, 50, 28, 47]
abbrev dktX5_element_1 : List UInt8 := dkwX5_element_1 ++ dktX5_element_2
def dkwX5_element_0 : List UInt8 := [27, 133, 9, 20, 0, 87, 184, 0, 80, 153, 0, 42, 42, 180, 0, 7, 27, 46, 4, 160, 0, 32, 28, 133]
abbrev dktX5_element_0 : List UInt8 := dkwX5_element_0 ++ dktX5_element_1
theorem dksX5_element_0 : cX5_element.data.toList.drop 0 = dktX5_element_0 := by decide +kernel
theorem dksX5_element_1 : cX5_element.data.toList.drop 24 = dktX5_element_1 := dk_seg dksX5_element_0 24 rfl rfl
theorem dksX5_element_2 : cX5_element.data.toList.drop 48 = dktX5_element_2 := dk_seg dksX5_element_1 24 rfl rfl
theorem dX5_element_0 : decode cX5_element 0 = .ok (.iload_n 1, 1) := dk_27 (dk_at dksX5_element_0 0 rfl rfl)
theorem dX5_element_1 : decode cX5_element 1 = .ok (.i2l, 1) := dk_133 (dk_at dksX5_element_0 1 rfl rfl)
theorem dX5_element_2 : decode cX5_element 2 = .ok (.lconst 0, 1) := dk_9 (dk_at dksX5_element_0 2 rfl rfl)
theorem dX5_element_3 : decode cX5_element 3 = .ok (.ldc2_w 87, 3) := dk_20 0 87 (dk_at dksX5_element_0 3 rfl rfl)
theorem dX5_element_6 : decode cX5_element 6 = .ok (.invokestatic 80, 3) := dk_184 0 80 (dk_at dksX5_element_0 6 rfl rfl)
theorem dX5_element_9 : decode cX5_element 9 = .ok (.ifCond .eq 42, 3) := dk_153 0 42 (dk_at dksX5_element_0 9 rfl rfl)
theorem dX5_element_12 : decode cX5_element 12 = .ok (.aload_n 0, 1) := dk_42 (dk_at dksX5_element_0 12 rfl rfl)
theorem dX5_element_13 : decode cX5_element 13 = .ok (.getfield 7, 3) := dk_180 0 7 (dk_at dksX5_element_0 13 rfl rfl)
theorem dX5_element_16 : decode cX5_element 16 = .ok (.iload_n 1, 1) := dk_27 (dk_at dksX5_element_0 16 rfl rfl)
theorem dX5_element_17 : decode cX5_element 17 = .ok (.iaload, 1) := dk_46 (dk_at dksX5_element_0 17 rfl rfl)
theorem dX5_element_18 : decode cX5_element 18 = .ok (.iconst 1, 1) := dk_4 (dk_at dksX5_element_0 18 rfl rfl)
theorem dX5_element_19 : decode cX5_element 19 = .ok (.if_icmp .ne 32, 3) := dk_160 0 32 (dk_at dksX5_element_0 19 rfl rfl)
theorem dX5_element_22 : decode cX5_element 22 = .ok (.iload_n 2, 1) := dk_28 (dk_at dksX5_element_0 22 rfl rfl)
theorem dX5_element_23 : decode cX5_element 23 = .ok (.i2l, 1) := dk_133 (dk_at dksX5_element_0 23 rfl rfl)
theorem dX5_element_24 : decode cX5_element 24 = .ok (.lconst 0, 1) := dk_9 (dk_at dksX5_element_1 0 rfl rfl)
theorem dX5_element_25 : decode cX5_element 25 = .ok (.aload_n 0, 1) := dk_42 (dk_at dksX5_element_1 1 rfl rfl)
theorem dX5_element_26 : decode cX5_element 26 = .ok (.getfield 16, 3) := dk_180 0 16 (dk_at dksX5_element_1 2 rfl rfl)
theorem dX5_element_29 : decode cX5_element 29 = .ok (.iload_n 1, 1) := dk_27 (dk_at dksX5_element_1 5 rfl rfl)
theorem dX5_element_30 : decode cX5_element 30 = .ok (.iaload, 1) := dk_46 (dk_at dksX5_element_1 6 rfl rfl)
theorem dX5_element_31 : decode cX5_element 31 = .ok (.iconst 1, 1) := dk_4 (dk_at dksX5_element_1 7 rfl rfl)
theorem dX5_element_32 : decode cX5_element 32 = .ok (.isub, 1) := dk_100 (dk_at dksX5_element_1 8 rfl rfl)
theorem dX5_element_33 : decode cX5_element 33 = .ok (.i2l, 1) := dk_133 (dk_at dksX5_element_1 9 rfl rfl)
theorem dX5_element_34 : decode cX5_element 34 = .ok (.invokestatic 80, 3) := dk_184 0 80 (dk_at dksX5_element_1 10 rfl rfl)
theorem dX5_element_37 : decode cX5_element 37 = .ok (.ifCond .eq 14, 3) := dk_153 0 14 (dk_at dksX5_element_1 13 rfl rfl)
theorem dX5_element_40 : decode cX5_element 40 = .ok (.aload_n 0, 1) := dk_42 (dk_at dksX5_element_1 16 rfl rfl)
theorem dX5_element_41 : decode cX5_element 41 = .ok (.getfield 21, 3) := dk_180 0 21 (dk_at dksX5_element_1 17 rfl rfl)
theorem dX5_element_44 : decode cX5_element 44 = .ok (.iload_n 1, 1) := dk_27 (dk_at dksX5_element_1 20 rfl rfl)
theorem dX5_element_45 : decode cX5_element 45 = .ok (.aaload, 1) := dk_50 (dk_at dksX5_element_1 21 rfl rfl)
theorem dX5_element_46 : decode cX5_element 46 = .ok (.iload_n 2, 1) := dk_28 (dk_at dksX5_element_1 22 rfl rfl)
theorem dX5_element_47 : decode cX5_element 47 = .ok (.laload, 1) := dk_47 (dk_at dksX5_element_1 23 rfl rfl)
theorem dX5_element_48 : decode cX5_element 48 = .ok (.goto 4, 3) := dk_167 0 4 (dk_at dksX5_element_2 0 rfl rfl)
theorem dX5_element_51 : decode cX5_element 51 = .ok (.lconst 0, 1) := dk_9 (dk_at dksX5_element_2 3 rfl rfl)
theorem dX5_element_52 : decode cX5_element 52 = .ok (.lreturn, 1) := dk_173 (dk_at dksX5_element_2 4 rfl rfl)
abbrev cX5_holds : ByteArray := prog_18_method_12_code
def yX5_holds : MethodName := ⟨RX5, "holds", "(I)I"⟩
def dkwX5_holds_2 : List UInt8 := [27, 46, 96, 172]
abbrev dktX5_holds_2 : List UInt8 := dkwX5_holds_2 ++ []
def dkwX5_holds_1 : List UInt8 := [180, 0, 7, 27, 46, 4, 160, 0, 12, 42, 180, 0, 13, 27, 46, 167, 0, 12, 16, 10, 42, 180, 0, 28]
abbrev dktX5_holds_1 : List UInt8 := dkwX5_holds_1 ++ dktX5_holds_2
def dkwX5_holds_0 : List UInt8 := [27, 133, 9, 20, 0, 87, 184, 0, 80, 153, 0, 12, 42, 180, 0, 7, 27, 46, 154, 0, 5, 2, 172, 42]
abbrev dktX5_holds_0 : List UInt8 := dkwX5_holds_0 ++ dktX5_holds_1
theorem dksX5_holds_0 : cX5_holds.data.toList.drop 0 = dktX5_holds_0 := by decide +kernel
theorem dksX5_holds_1 : cX5_holds.data.toList.drop 24 = dktX5_holds_1 := dk_seg dksX5_holds_0 24 rfl rfl
theorem dksX5_holds_2 : cX5_holds.data.toList.drop 48 = dktX5_holds_2 := dk_seg dksX5_holds_1 24 rfl rfl
theorem dX5_holds_0 : decode cX5_holds 0 = .ok (.iload_n 1, 1) := dk_27 (dk_at dksX5_holds_0 0 rfl rfl)
theorem dX5_holds_1 : decode cX5_holds 1 = .ok (.i2l, 1) := dk_133 (dk_at dksX5_holds_0 1 rfl rfl)
theorem dX5_holds_2 : decode cX5_holds 2 = .ok (.lconst 0, 1) := dk_9 (dk_at dksX5_holds_0 2 rfl rfl)
theorem dX5_holds_3 : decode cX5_holds 3 = .ok (.ldc2_w 87, 3) := dk_20 0 87 (dk_at dksX5_holds_0 3 rfl rfl)
theorem dX5_holds_6 : decode cX5_holds 6 = .ok (.invokestatic 80, 3) := dk_184 0 80 (dk_at dksX5_holds_0 6 rfl rfl)
theorem dX5_holds_9 : decode cX5_holds 9 = .ok (.ifCond .eq 12, 3) := dk_153 0 12 (dk_at dksX5_holds_0 9 rfl rfl)
theorem dX5_holds_12 : decode cX5_holds 12 = .ok (.aload_n 0, 1) := dk_42 (dk_at dksX5_holds_0 12 rfl rfl)
theorem dX5_holds_13 : decode cX5_holds 13 = .ok (.getfield 7, 3) := dk_180 0 7 (dk_at dksX5_holds_0 13 rfl rfl)
theorem dX5_holds_16 : decode cX5_holds 16 = .ok (.iload_n 1, 1) := dk_27 (dk_at dksX5_holds_0 16 rfl rfl)
theorem dX5_holds_17 : decode cX5_holds 17 = .ok (.iaload, 1) := dk_46 (dk_at dksX5_holds_0 17 rfl rfl)
theorem dX5_holds_18 : decode cX5_holds 18 = .ok (.ifCond .ne 5, 3) := dk_154 0 5 (dk_at dksX5_holds_0 18 rfl rfl)
theorem dX5_holds_21 : decode cX5_holds 21 = .ok (.iconst (-1), 1) := dk_2 (dk_at dksX5_holds_0 21 rfl rfl)
theorem dX5_holds_22 : decode cX5_holds 22 = .ok (.ireturn, 1) := dk_172 (dk_at dksX5_holds_0 22 rfl rfl)
theorem dX5_holds_23 : decode cX5_holds 23 = .ok (.aload_n 0, 1) := dk_42 (dk_at dksX5_holds_0 23 rfl rfl)
theorem dX5_holds_24 : decode cX5_holds 24 = .ok (.getfield 7, 3) := dk_180 0 7 (dk_at dksX5_holds_1 0 rfl rfl)
theorem dX5_holds_27 : decode cX5_holds 27 = .ok (.iload_n 1, 1) := dk_27 (dk_at dksX5_holds_1 3 rfl rfl)
theorem dX5_holds_28 : decode cX5_holds 28 = .ok (.iaload, 1) := dk_46 (dk_at dksX5_holds_1 4 rfl rfl)
theorem dX5_holds_29 : decode cX5_holds 29 = .ok (.iconst 1, 1) := dk_4 (dk_at dksX5_holds_1 5 rfl rfl)
theorem dX5_holds_30 : decode cX5_holds 30 = .ok (.if_icmp .ne 12, 3) := dk_160 0 12 (dk_at dksX5_holds_1 6 rfl rfl)
theorem dX5_holds_33 : decode cX5_holds 33 = .ok (.aload_n 0, 1) := dk_42 (dk_at dksX5_holds_1 9 rfl rfl)
theorem dX5_holds_34 : decode cX5_holds 34 = .ok (.getfield 13, 3) := dk_180 0 13 (dk_at dksX5_holds_1 10 rfl rfl)
theorem dX5_holds_37 : decode cX5_holds 37 = .ok (.iload_n 1, 1) := dk_27 (dk_at dksX5_holds_1 13 rfl rfl)
theorem dX5_holds_38 : decode cX5_holds 38 = .ok (.iaload, 1) := dk_46 (dk_at dksX5_holds_1 14 rfl rfl)
theorem dX5_holds_39 : decode cX5_holds 39 = .ok (.goto 12, 3) := dk_167 0 12 (dk_at dksX5_holds_1 15 rfl rfl)
theorem dX5_holds_42 : decode cX5_holds 42 = .ok (.bipush 10, 2) := dk_16 10 (dk_at dksX5_holds_1 18 rfl rfl)
theorem dX5_holds_44 : decode cX5_holds 44 = .ok (.aload_n 0, 1) := dk_42 (dk_at dksX5_holds_1 20 rfl rfl)
theorem dX5_holds_45 : decode cX5_holds 45 = .ok (.getfield 28, 3) := dk_180 0 28 (dk_at dksX5_holds_1 21 rfl rfl)
theorem dX5_holds_48 : decode cX5_holds 48 = .ok (.iload_n 1, 1) := dk_27 (dk_at dksX5_holds_2 0 rfl rfl)
theorem dX5_holds_49 : decode cX5_holds 49 = .ok (.iaload, 1) := dk_46 (dk_at dksX5_holds_2 1 rfl rfl)
theorem dX5_holds_50 : decode cX5_holds 50 = .ok (.iadd, 1) := dk_96 (dk_at dksX5_holds_2 2 rfl rfl)
theorem dX5_holds_51 : decode cX5_holds 51 = .ok (.ireturn, 1) := dk_172 (dk_at dksX5_holds_2 3 rfl rfl)
abbrev cX5_show : ByteArray := prog_18_method_13_code
def yX5_show : MethodName := ⟨RX5, "show", "(II)I"⟩
def dkwX5_show_2 : List UInt8 := [5, 79, 42, 180, 0, 28, 27, 28, 79, 4, 172]
abbrev dktX5_show_2 : List UInt8 := dkwX5_show_2 ++ []
def dkwX5_show_1 : List UInt8 := [154, 0, 10, 42, 16, 254, 182, 0, 93, 172, 42, 180, 0, 7, 27, 28, 2, 160, 0, 7, 3, 167, 0, 4]
abbrev dktX5_show_1 : List UInt8 := dkwX5_show_1 ++ dktX5_show_2
def dkwX5_show_0 : List UInt8 := [27, 133, 9, 20, 0, 87, 184, 0, 80, 153, 0, 17, 28, 2, 159, 0, 19, 42, 28, 133, 182, 0, 104]
abbrev dktX5_show_0 : List UInt8 := dkwX5_show_0 ++ dktX5_show_1
theorem dksX5_show_0 : cX5_show.data.toList.drop 0 = dktX5_show_0 := by decide +kernel
theorem dksX5_show_1 : cX5_show.data.toList.drop 23 = dktX5_show_1 := dk_seg dksX5_show_0 23 rfl rfl
theorem dksX5_show_2 : cX5_show.data.toList.drop 47 = dktX5_show_2 := dk_seg dksX5_show_1 24 rfl rfl
theorem dX5_show_0 : decode cX5_show 0 = .ok (.iload_n 1, 1) := dk_27 (dk_at dksX5_show_0 0 rfl rfl)
theorem dX5_show_1 : decode cX5_show 1 = .ok (.i2l, 1) := dk_133 (dk_at dksX5_show_0 1 rfl rfl)
theorem dX5_show_2 : decode cX5_show 2 = .ok (.lconst 0, 1) := dk_9 (dk_at dksX5_show_0 2 rfl rfl)
theorem dX5_show_3 : decode cX5_show 3 = .ok (.ldc2_w 87, 3) := dk_20 0 87 (dk_at dksX5_show_0 3 rfl rfl)
theorem dX5_show_6 : decode cX5_show 6 = .ok (.invokestatic 80, 3) := dk_184 0 80 (dk_at dksX5_show_0 6 rfl rfl)
theorem dX5_show_9 : decode cX5_show 9 = .ok (.ifCond .eq 17, 3) := dk_153 0 17 (dk_at dksX5_show_0 9 rfl rfl)
theorem dX5_show_12 : decode cX5_show 12 = .ok (.iload_n 2, 1) := dk_28 (dk_at dksX5_show_0 12 rfl rfl)
theorem dX5_show_13 : decode cX5_show 13 = .ok (.iconst (-1), 1) := dk_2 (dk_at dksX5_show_0 13 rfl rfl)
theorem dX5_show_14 : decode cX5_show 14 = .ok (.if_icmp .eq 19, 3) := dk_159 0 19 (dk_at dksX5_show_0 14 rfl rfl)
theorem dX5_show_17 : decode cX5_show 17 = .ok (.aload_n 0, 1) := dk_42 (dk_at dksX5_show_0 17 rfl rfl)
theorem dX5_show_18 : decode cX5_show 18 = .ok (.iload_n 2, 1) := dk_28 (dk_at dksX5_show_0 18 rfl rfl)
theorem dX5_show_19 : decode cX5_show 19 = .ok (.i2l, 1) := dk_133 (dk_at dksX5_show_0 19 rfl rfl)
theorem dX5_show_20 : decode cX5_show 20 = .ok (.invokevirtual 104, 3) := dk_182 0 104 (dk_at dksX5_show_0 20 rfl rfl)
theorem dX5_show_23 : decode cX5_show 23 = .ok (.ifCond .ne 10, 3) := dk_154 0 10 (dk_at dksX5_show_1 0 rfl rfl)
theorem dX5_show_26 : decode cX5_show 26 = .ok (.aload_n 0, 1) := dk_42 (dk_at dksX5_show_1 3 rfl rfl)
theorem dX5_show_27 : decode cX5_show 27 = .ok (.bipush (-2), 2) := dk_16 254 (dk_at dksX5_show_1 4 rfl rfl)
theorem dX5_show_29 : decode cX5_show 29 = .ok (.invokevirtual 93, 3) := dk_182 0 93 (dk_at dksX5_show_1 6 rfl rfl)
theorem dX5_show_32 : decode cX5_show 32 = .ok (.ireturn, 1) := dk_172 (dk_at dksX5_show_1 9 rfl rfl)
theorem dX5_show_33 : decode cX5_show 33 = .ok (.aload_n 0, 1) := dk_42 (dk_at dksX5_show_1 10 rfl rfl)
theorem dX5_show_34 : decode cX5_show 34 = .ok (.getfield 7, 3) := dk_180 0 7 (dk_at dksX5_show_1 11 rfl rfl)
theorem dX5_show_37 : decode cX5_show 37 = .ok (.iload_n 1, 1) := dk_27 (dk_at dksX5_show_1 14 rfl rfl)
theorem dX5_show_38 : decode cX5_show 38 = .ok (.iload_n 2, 1) := dk_28 (dk_at dksX5_show_1 15 rfl rfl)
theorem dX5_show_39 : decode cX5_show 39 = .ok (.iconst (-1), 1) := dk_2 (dk_at dksX5_show_1 16 rfl rfl)
theorem dX5_show_40 : decode cX5_show 40 = .ok (.if_icmp .ne 7, 3) := dk_160 0 7 (dk_at dksX5_show_1 17 rfl rfl)
theorem dX5_show_43 : decode cX5_show 43 = .ok (.iconst 0, 1) := dk_3 (dk_at dksX5_show_1 20 rfl rfl)
theorem dX5_show_44 : decode cX5_show 44 = .ok (.goto 4, 3) := dk_167 0 4 (dk_at dksX5_show_1 21 rfl rfl)
theorem dX5_show_47 : decode cX5_show 47 = .ok (.iconst 2, 1) := dk_5 (dk_at dksX5_show_2 0 rfl rfl)
theorem dX5_show_48 : decode cX5_show 48 = .ok (.iastore, 1) := dk_79 (dk_at dksX5_show_2 1 rfl rfl)
theorem dX5_show_49 : decode cX5_show 49 = .ok (.aload_n 0, 1) := dk_42 (dk_at dksX5_show_2 2 rfl rfl)
theorem dX5_show_50 : decode cX5_show 50 = .ok (.getfield 28, 3) := dk_180 0 28 (dk_at dksX5_show_2 3 rfl rfl)
theorem dX5_show_53 : decode cX5_show 53 = .ok (.iload_n 1, 1) := dk_27 (dk_at dksX5_show_2 6 rfl rfl)
theorem dX5_show_54 : decode cX5_show 54 = .ok (.iload_n 2, 1) := dk_28 (dk_at dksX5_show_2 7 rfl rfl)
theorem dX5_show_55 : decode cX5_show 55 = .ok (.iastore, 1) := dk_79 (dk_at dksX5_show_2 8 rfl rfl)
theorem dX5_show_56 : decode cX5_show 56 = .ok (.iconst 1, 1) := dk_4 (dk_at dksX5_show_2 9 rfl rfl)
theorem dX5_show_57 : decode cX5_show 57 = .ok (.ireturn, 1) := dk_172 (dk_at dksX5_show_2 10 rfl rfl)
abbrev cX5_isWay : ByteArray := prog_18_method_5_code
def yX5_isWay : MethodName := ⟨RX5, "isWay", "(J)Z"⟩
def dkwX5_isWay_0 : List UInt8 := [31, 9, 42, 180, 0, 84, 4, 100, 133, 184, 0, 80, 172]
abbrev dktX5_isWay_0 : List UInt8 := dkwX5_isWay_0 ++ []
theorem dksX5_isWay_0 : cX5_isWay.data.toList.drop 0 = dktX5_isWay_0 := by decide +kernel
theorem dX5_isWay_0 : decode cX5_isWay 0 = .ok (.lload_n 1, 1) := dk_31 (dk_at dksX5_isWay_0 0 rfl rfl)
theorem dX5_isWay_1 : decode cX5_isWay 1 = .ok (.lconst 0, 1) := dk_9 (dk_at dksX5_isWay_0 1 rfl rfl)
theorem dX5_isWay_2 : decode cX5_isWay 2 = .ok (.aload_n 0, 1) := dk_42 (dk_at dksX5_isWay_0 2 rfl rfl)
theorem dX5_isWay_3 : decode cX5_isWay 3 = .ok (.getfield 84, 3) := dk_180 0 84 (dk_at dksX5_isWay_0 3 rfl rfl)
theorem dX5_isWay_6 : decode cX5_isWay 6 = .ok (.iconst 1, 1) := dk_4 (dk_at dksX5_isWay_0 6 rfl rfl)
theorem dX5_isWay_7 : decode cX5_isWay 7 = .ok (.isub, 1) := dk_100 (dk_at dksX5_isWay_0 7 rfl rfl)
theorem dX5_isWay_8 : decode cX5_isWay 8 = .ok (.i2l, 1) := dk_133 (dk_at dksX5_isWay_0 8 rfl rfl)
theorem dX5_isWay_9 : decode cX5_isWay 9 = .ok (.invokestatic 80, 3) := dk_184 0 80 (dk_at dksX5_isWay_0 9 rfl rfl)
theorem dX5_isWay_12 : decode cX5_isWay 12 = .ok (.ireturn, 1) := dk_172 (dk_at dksX5_isWay_0 12 rfl rfl)
abbrev cX5_says : ByteArray := prog_18_method_15_code
def yX5_says : MethodName := ⟨RX5, "says", "(II)I"⟩
def dkwX5_says_6 : List UInt8 := [5, 160, 0, 12, 42, 29, 3, 182, 0, 118, 167, 0, 9, 42, 29, 3, 182, 0, 121, 172]
abbrev dktX5_says_6 : List UInt8 := dkwX5_says_6 ++ []
def dkwX5_says_5 : List UInt8 := [182, 0, 93, 172, 28, 8, 160, 0, 12, 42, 29, 3, 182, 0, 114, 167, 0, 28, 28, 4, 159, 0, 8, 28]
abbrev dktX5_says_5 : List UInt8 := dkwX5_says_5 ++ dktX5_says_6
def dkwX5_says_4 : List UInt8 := [27, 46, 62, 28, 154, 0, 10, 42, 180, 0, 53, 29, 46, 172, 42, 180, 0, 77, 154, 0, 10, 42, 16, 251]
abbrev dktX5_says_4 : List UInt8 := dkwX5_says_4 ++ dktX5_says_5
def dkwX5_says_3 : List UInt8 := [182, 0, 93, 172, 42, 180, 0, 7, 27, 46, 154, 0, 10, 42, 16, 252, 182, 0, 93, 172, 42, 180, 0, 28]
abbrev dktX5_says_3 : List UInt8 := dkwX5_says_3 ++ dktX5_says_4
def dkwX5_says_2 : List UInt8 := [160, 0, 28, 42, 180, 0, 50, 42, 180, 0, 28, 27, 46, 46, 28, 184, 0, 110, 154, 0, 10, 42, 16, 253]
abbrev dktX5_says_2 : List UInt8 := dkwX5_says_2 ++ dktX5_says_3
def dkwX5_says_1 : List UInt8 := [42, 16, 254, 182, 0, 93, 172, 42, 180, 0, 7, 27, 46, 4, 159, 0, 31, 42, 180, 0, 7, 27, 46, 5]
abbrev dktX5_says_1 : List UInt8 := dkwX5_says_1 ++ dktX5_says_2
def dkwX5_says_0 : List UInt8 := [27, 133, 9, 20, 0, 87, 184, 0, 80, 153, 0, 15, 28, 133, 9, 20, 0, 108, 184, 0, 80, 154, 0, 10]
abbrev dktX5_says_0 : List UInt8 := dkwX5_says_0 ++ dktX5_says_1
theorem dksX5_says_0 : cX5_says.data.toList.drop 0 = dktX5_says_0 := by decide +kernel
theorem dksX5_says_1 : cX5_says.data.toList.drop 24 = dktX5_says_1 := dk_seg dksX5_says_0 24 rfl rfl
theorem dksX5_says_2 : cX5_says.data.toList.drop 48 = dktX5_says_2 := dk_seg dksX5_says_1 24 rfl rfl
theorem dksX5_says_3 : cX5_says.data.toList.drop 72 = dktX5_says_3 := dk_seg dksX5_says_2 24 rfl rfl
theorem dksX5_says_4 : cX5_says.data.toList.drop 96 = dktX5_says_4 := dk_seg dksX5_says_3 24 rfl rfl
theorem dksX5_says_5 : cX5_says.data.toList.drop 120 = dktX5_says_5 := dk_seg dksX5_says_4 24 rfl rfl
theorem dksX5_says_6 : cX5_says.data.toList.drop 144 = dktX5_says_6 := dk_seg dksX5_says_5 24 rfl rfl
theorem dX5_says_0 : decode cX5_says 0 = .ok (.iload_n 1, 1) := dk_27 (dk_at dksX5_says_0 0 rfl rfl)
theorem dX5_says_1 : decode cX5_says 1 = .ok (.i2l, 1) := dk_133 (dk_at dksX5_says_0 1 rfl rfl)
theorem dX5_says_2 : decode cX5_says 2 = .ok (.lconst 0, 1) := dk_9 (dk_at dksX5_says_0 2 rfl rfl)
theorem dX5_says_3 : decode cX5_says 3 = .ok (.ldc2_w 87, 3) := dk_20 0 87 (dk_at dksX5_says_0 3 rfl rfl)
theorem dX5_says_6 : decode cX5_says 6 = .ok (.invokestatic 80, 3) := dk_184 0 80 (dk_at dksX5_says_0 6 rfl rfl)
theorem dX5_says_9 : decode cX5_says 9 = .ok (.ifCond .eq 15, 3) := dk_153 0 15 (dk_at dksX5_says_0 9 rfl rfl)
theorem dX5_says_12 : decode cX5_says 12 = .ok (.iload_n 2, 1) := dk_28 (dk_at dksX5_says_0 12 rfl rfl)
theorem dX5_says_13 : decode cX5_says 13 = .ok (.i2l, 1) := dk_133 (dk_at dksX5_says_0 13 rfl rfl)
theorem dX5_says_14 : decode cX5_says 14 = .ok (.lconst 0, 1) := dk_9 (dk_at dksX5_says_0 14 rfl rfl)
theorem dX5_says_15 : decode cX5_says 15 = .ok (.ldc2_w 108, 3) := dk_20 0 108 (dk_at dksX5_says_0 15 rfl rfl)
theorem dX5_says_18 : decode cX5_says 18 = .ok (.invokestatic 80, 3) := dk_184 0 80 (dk_at dksX5_says_0 18 rfl rfl)
theorem dX5_says_21 : decode cX5_says 21 = .ok (.ifCond .ne 10, 3) := dk_154 0 10 (dk_at dksX5_says_0 21 rfl rfl)
theorem dX5_says_24 : decode cX5_says 24 = .ok (.aload_n 0, 1) := dk_42 (dk_at dksX5_says_1 0 rfl rfl)
theorem dX5_says_25 : decode cX5_says 25 = .ok (.bipush (-2), 2) := dk_16 254 (dk_at dksX5_says_1 1 rfl rfl)
theorem dX5_says_27 : decode cX5_says 27 = .ok (.invokevirtual 93, 3) := dk_182 0 93 (dk_at dksX5_says_1 3 rfl rfl)
theorem dX5_says_30 : decode cX5_says 30 = .ok (.ireturn, 1) := dk_172 (dk_at dksX5_says_1 6 rfl rfl)
theorem dX5_says_31 : decode cX5_says 31 = .ok (.aload_n 0, 1) := dk_42 (dk_at dksX5_says_1 7 rfl rfl)
theorem dX5_says_32 : decode cX5_says 32 = .ok (.getfield 7, 3) := dk_180 0 7 (dk_at dksX5_says_1 8 rfl rfl)
theorem dX5_says_35 : decode cX5_says 35 = .ok (.iload_n 1, 1) := dk_27 (dk_at dksX5_says_1 11 rfl rfl)
theorem dX5_says_36 : decode cX5_says 36 = .ok (.iaload, 1) := dk_46 (dk_at dksX5_says_1 12 rfl rfl)
theorem dX5_says_37 : decode cX5_says 37 = .ok (.iconst 1, 1) := dk_4 (dk_at dksX5_says_1 13 rfl rfl)
theorem dX5_says_38 : decode cX5_says 38 = .ok (.if_icmp .eq 31, 3) := dk_159 0 31 (dk_at dksX5_says_1 14 rfl rfl)
theorem dX5_says_41 : decode cX5_says 41 = .ok (.aload_n 0, 1) := dk_42 (dk_at dksX5_says_1 17 rfl rfl)
theorem dX5_says_42 : decode cX5_says 42 = .ok (.getfield 7, 3) := dk_180 0 7 (dk_at dksX5_says_1 18 rfl rfl)
theorem dX5_says_45 : decode cX5_says 45 = .ok (.iload_n 1, 1) := dk_27 (dk_at dksX5_says_1 21 rfl rfl)
theorem dX5_says_46 : decode cX5_says 46 = .ok (.iaload, 1) := dk_46 (dk_at dksX5_says_1 22 rfl rfl)
theorem dX5_says_47 : decode cX5_says 47 = .ok (.iconst 2, 1) := dk_5 (dk_at dksX5_says_1 23 rfl rfl)
theorem dX5_says_48 : decode cX5_says 48 = .ok (.if_icmp .ne 28, 3) := dk_160 0 28 (dk_at dksX5_says_2 0 rfl rfl)
theorem dX5_says_51 : decode cX5_says 51 = .ok (.aload_n 0, 1) := dk_42 (dk_at dksX5_says_2 3 rfl rfl)
theorem dX5_says_52 : decode cX5_says 52 = .ok (.getfield 50, 3) := dk_180 0 50 (dk_at dksX5_says_2 4 rfl rfl)
theorem dX5_says_55 : decode cX5_says 55 = .ok (.aload_n 0, 1) := dk_42 (dk_at dksX5_says_2 7 rfl rfl)
theorem dX5_says_56 : decode cX5_says 56 = .ok (.getfield 28, 3) := dk_180 0 28 (dk_at dksX5_says_2 8 rfl rfl)
theorem dX5_says_59 : decode cX5_says 59 = .ok (.iload_n 1, 1) := dk_27 (dk_at dksX5_says_2 11 rfl rfl)
theorem dX5_says_60 : decode cX5_says 60 = .ok (.iaload, 1) := dk_46 (dk_at dksX5_says_2 12 rfl rfl)
theorem dX5_says_61 : decode cX5_says 61 = .ok (.iaload, 1) := dk_46 (dk_at dksX5_says_2 13 rfl rfl)
theorem dX5_says_62 : decode cX5_says 62 = .ok (.iload_n 2, 1) := dk_28 (dk_at dksX5_says_2 14 rfl rfl)
theorem dX5_says_63 : decode cX5_says 63 = .ok (.invokestatic 110, 3) := dk_184 0 110 (dk_at dksX5_says_2 15 rfl rfl)
theorem dX5_says_66 : decode cX5_says 66 = .ok (.ifCond .ne 10, 3) := dk_154 0 10 (dk_at dksX5_says_2 18 rfl rfl)
theorem dX5_says_69 : decode cX5_says 69 = .ok (.aload_n 0, 1) := dk_42 (dk_at dksX5_says_2 21 rfl rfl)
theorem dX5_says_70 : decode cX5_says 70 = .ok (.bipush (-3), 2) := dk_16 253 (dk_at dksX5_says_2 22 rfl rfl)
theorem dX5_says_72 : decode cX5_says 72 = .ok (.invokevirtual 93, 3) := dk_182 0 93 (dk_at dksX5_says_3 0 rfl rfl)
theorem dX5_says_75 : decode cX5_says 75 = .ok (.ireturn, 1) := dk_172 (dk_at dksX5_says_3 3 rfl rfl)
theorem dX5_says_76 : decode cX5_says 76 = .ok (.aload_n 0, 1) := dk_42 (dk_at dksX5_says_3 4 rfl rfl)
theorem dX5_says_77 : decode cX5_says 77 = .ok (.getfield 7, 3) := dk_180 0 7 (dk_at dksX5_says_3 5 rfl rfl)
theorem dX5_says_80 : decode cX5_says 80 = .ok (.iload_n 1, 1) := dk_27 (dk_at dksX5_says_3 8 rfl rfl)
theorem dX5_says_81 : decode cX5_says 81 = .ok (.iaload, 1) := dk_46 (dk_at dksX5_says_3 9 rfl rfl)
theorem dX5_says_82 : decode cX5_says 82 = .ok (.ifCond .ne 10, 3) := dk_154 0 10 (dk_at dksX5_says_3 10 rfl rfl)
theorem dX5_says_85 : decode cX5_says 85 = .ok (.aload_n 0, 1) := dk_42 (dk_at dksX5_says_3 13 rfl rfl)
theorem dX5_says_86 : decode cX5_says 86 = .ok (.bipush (-4), 2) := dk_16 252 (dk_at dksX5_says_3 14 rfl rfl)
theorem dX5_says_88 : decode cX5_says 88 = .ok (.invokevirtual 93, 3) := dk_182 0 93 (dk_at dksX5_says_3 16 rfl rfl)
theorem dX5_says_91 : decode cX5_says 91 = .ok (.ireturn, 1) := dk_172 (dk_at dksX5_says_3 19 rfl rfl)
theorem dX5_says_92 : decode cX5_says 92 = .ok (.aload_n 0, 1) := dk_42 (dk_at dksX5_says_3 20 rfl rfl)
theorem dX5_says_93 : decode cX5_says 93 = .ok (.getfield 28, 3) := dk_180 0 28 (dk_at dksX5_says_3 21 rfl rfl)
theorem dX5_says_96 : decode cX5_says 96 = .ok (.iload_n 1, 1) := dk_27 (dk_at dksX5_says_4 0 rfl rfl)
theorem dX5_says_97 : decode cX5_says 97 = .ok (.iaload, 1) := dk_46 (dk_at dksX5_says_4 1 rfl rfl)
theorem dX5_says_98 : decode cX5_says 98 = .ok (.istore_n 3, 1) := dk_62 (dk_at dksX5_says_4 2 rfl rfl)
theorem dX5_says_99 : decode cX5_says 99 = .ok (.iload_n 2, 1) := dk_28 (dk_at dksX5_says_4 3 rfl rfl)
theorem dX5_says_100 : decode cX5_says 100 = .ok (.ifCond .ne 10, 3) := dk_154 0 10 (dk_at dksX5_says_4 4 rfl rfl)
theorem dX5_says_103 : decode cX5_says 103 = .ok (.aload_n 0, 1) := dk_42 (dk_at dksX5_says_4 7 rfl rfl)
theorem dX5_says_104 : decode cX5_says 104 = .ok (.getfield 53, 3) := dk_180 0 53 (dk_at dksX5_says_4 8 rfl rfl)
theorem dX5_says_107 : decode cX5_says 107 = .ok (.iload_n 3, 1) := dk_29 (dk_at dksX5_says_4 11 rfl rfl)
theorem dX5_says_108 : decode cX5_says 108 = .ok (.iaload, 1) := dk_46 (dk_at dksX5_says_4 12 rfl rfl)
theorem dX5_says_109 : decode cX5_says 109 = .ok (.ireturn, 1) := dk_172 (dk_at dksX5_says_4 13 rfl rfl)
theorem dX5_says_110 : decode cX5_says 110 = .ok (.aload_n 0, 1) := dk_42 (dk_at dksX5_says_4 14 rfl rfl)
theorem dX5_says_111 : decode cX5_says 111 = .ok (.getfield 77, 3) := dk_180 0 77 (dk_at dksX5_says_4 15 rfl rfl)
theorem dX5_says_114 : decode cX5_says 114 = .ok (.ifCond .ne 10, 3) := dk_154 0 10 (dk_at dksX5_says_4 18 rfl rfl)
theorem dX5_says_117 : decode cX5_says 117 = .ok (.aload_n 0, 1) := dk_42 (dk_at dksX5_says_4 21 rfl rfl)
theorem dX5_says_118 : decode cX5_says 118 = .ok (.bipush (-5), 2) := dk_16 251 (dk_at dksX5_says_4 22 rfl rfl)
theorem dX5_says_120 : decode cX5_says 120 = .ok (.invokevirtual 93, 3) := dk_182 0 93 (dk_at dksX5_says_5 0 rfl rfl)
theorem dX5_says_123 : decode cX5_says 123 = .ok (.ireturn, 1) := dk_172 (dk_at dksX5_says_5 3 rfl rfl)
theorem dX5_says_124 : decode cX5_says 124 = .ok (.iload_n 2, 1) := dk_28 (dk_at dksX5_says_5 4 rfl rfl)
theorem dX5_says_125 : decode cX5_says 125 = .ok (.iconst 5, 1) := dk_8 (dk_at dksX5_says_5 5 rfl rfl)
theorem dX5_says_126 : decode cX5_says 126 = .ok (.if_icmp .ne 12, 3) := dk_160 0 12 (dk_at dksX5_says_5 6 rfl rfl)
theorem dX5_says_129 : decode cX5_says 129 = .ok (.aload_n 0, 1) := dk_42 (dk_at dksX5_says_5 9 rfl rfl)
theorem dX5_says_130 : decode cX5_says 130 = .ok (.iload_n 3, 1) := dk_29 (dk_at dksX5_says_5 10 rfl rfl)
theorem dX5_says_131 : decode cX5_says 131 = .ok (.iconst 0, 1) := dk_3 (dk_at dksX5_says_5 11 rfl rfl)
theorem dX5_says_132 : decode cX5_says 132 = .ok (.invokevirtual 114, 3) := dk_182 0 114 (dk_at dksX5_says_5 12 rfl rfl)
theorem dX5_says_135 : decode cX5_says 135 = .ok (.goto 28, 3) := dk_167 0 28 (dk_at dksX5_says_5 15 rfl rfl)
theorem dX5_says_138 : decode cX5_says 138 = .ok (.iload_n 2, 1) := dk_28 (dk_at dksX5_says_5 18 rfl rfl)
theorem dX5_says_139 : decode cX5_says 139 = .ok (.iconst 1, 1) := dk_4 (dk_at dksX5_says_5 19 rfl rfl)
theorem dX5_says_140 : decode cX5_says 140 = .ok (.if_icmp .eq 8, 3) := dk_159 0 8 (dk_at dksX5_says_5 20 rfl rfl)
theorem dX5_says_143 : decode cX5_says 143 = .ok (.iload_n 2, 1) := dk_28 (dk_at dksX5_says_5 23 rfl rfl)
theorem dX5_says_144 : decode cX5_says 144 = .ok (.iconst 2, 1) := dk_5 (dk_at dksX5_says_6 0 rfl rfl)
theorem dX5_says_145 : decode cX5_says 145 = .ok (.if_icmp .ne 12, 3) := dk_160 0 12 (dk_at dksX5_says_6 1 rfl rfl)
theorem dX5_says_148 : decode cX5_says 148 = .ok (.aload_n 0, 1) := dk_42 (dk_at dksX5_says_6 4 rfl rfl)
theorem dX5_says_149 : decode cX5_says 149 = .ok (.iload_n 3, 1) := dk_29 (dk_at dksX5_says_6 5 rfl rfl)
theorem dX5_says_150 : decode cX5_says 150 = .ok (.iconst 0, 1) := dk_3 (dk_at dksX5_says_6 6 rfl rfl)
theorem dX5_says_151 : decode cX5_says 151 = .ok (.invokevirtual 118, 3) := dk_182 0 118 (dk_at dksX5_says_6 7 rfl rfl)
theorem dX5_says_154 : decode cX5_says 154 = .ok (.goto 9, 3) := dk_167 0 9 (dk_at dksX5_says_6 10 rfl rfl)
theorem dX5_says_157 : decode cX5_says 157 = .ok (.aload_n 0, 1) := dk_42 (dk_at dksX5_says_6 13 rfl rfl)
theorem dX5_says_158 : decode cX5_says 158 = .ok (.iload_n 3, 1) := dk_29 (dk_at dksX5_says_6 14 rfl rfl)
theorem dX5_says_159 : decode cX5_says 159 = .ok (.iconst 0, 1) := dk_3 (dk_at dksX5_says_6 15 rfl rfl)
theorem dX5_says_160 : decode cX5_says 160 = .ok (.invokevirtual 121, 3) := dk_182 0 121 (dk_at dksX5_says_6 16 rfl rfl)
theorem dX5_says_163 : decode cX5_says 163 = .ok (.ireturn, 1) := dk_172 (dk_at dksX5_says_6 19 rfl rfl)
abbrev cX5_isUnder : ByteArray := prog_18_method_14_code
def yX5_isUnder : MethodName := ⟨RX5, "isUnder", "(II)Z"⟩
def dkwX5_isUnder_2 : List UInt8 := [160, 0, 7, 4, 167, 0, 4, 3, 172]
abbrev dktX5_isUnder_2 : List UInt8 := dkwX5_isUnder_2 ++ []
def dkwX5_isUnder_1 : List UInt8 := [159, 0, 8, 26, 8, 160, 0, 7, 4, 167, 0, 22, 3, 167, 0, 18, 27, 5, 160, 0, 12, 26, 8]
abbrev dktX5_isUnder_1 : List UInt8 := dkwX5_isUnder_1 ++ dktX5_isUnder_2
def dkwX5_isUnder_0 : List UInt8 := [27, 153, 0, 8, 26, 27, 160, 0, 5, 4, 172, 27, 4, 160, 0, 26, 26, 5, 159, 0, 13, 26, 6]
abbrev dktX5_isUnder_0 : List UInt8 := dkwX5_isUnder_0 ++ dktX5_isUnder_1
theorem dksX5_isUnder_0 : cX5_isUnder.data.toList.drop 0 = dktX5_isUnder_0 := by decide +kernel
theorem dksX5_isUnder_1 : cX5_isUnder.data.toList.drop 23 = dktX5_isUnder_1 := dk_seg dksX5_isUnder_0 23 rfl rfl
theorem dksX5_isUnder_2 : cX5_isUnder.data.toList.drop 46 = dktX5_isUnder_2 := dk_seg dksX5_isUnder_1 23 rfl rfl
theorem dX5_isUnder_0 : decode cX5_isUnder 0 = .ok (.iload_n 1, 1) := dk_27 (dk_at dksX5_isUnder_0 0 rfl rfl)
theorem dX5_isUnder_1 : decode cX5_isUnder 1 = .ok (.ifCond .eq 8, 3) := dk_153 0 8 (dk_at dksX5_isUnder_0 1 rfl rfl)
theorem dX5_isUnder_4 : decode cX5_isUnder 4 = .ok (.iload_n 0, 1) := dk_26 (dk_at dksX5_isUnder_0 4 rfl rfl)
theorem dX5_isUnder_5 : decode cX5_isUnder 5 = .ok (.iload_n 1, 1) := dk_27 (dk_at dksX5_isUnder_0 5 rfl rfl)
theorem dX5_isUnder_6 : decode cX5_isUnder 6 = .ok (.if_icmp .ne 5, 3) := dk_160 0 5 (dk_at dksX5_isUnder_0 6 rfl rfl)
theorem dX5_isUnder_9 : decode cX5_isUnder 9 = .ok (.iconst 1, 1) := dk_4 (dk_at dksX5_isUnder_0 9 rfl rfl)
theorem dX5_isUnder_10 : decode cX5_isUnder 10 = .ok (.ireturn, 1) := dk_172 (dk_at dksX5_isUnder_0 10 rfl rfl)
theorem dX5_isUnder_11 : decode cX5_isUnder 11 = .ok (.iload_n 1, 1) := dk_27 (dk_at dksX5_isUnder_0 11 rfl rfl)
theorem dX5_isUnder_12 : decode cX5_isUnder 12 = .ok (.iconst 1, 1) := dk_4 (dk_at dksX5_isUnder_0 12 rfl rfl)
theorem dX5_isUnder_13 : decode cX5_isUnder 13 = .ok (.if_icmp .ne 26, 3) := dk_160 0 26 (dk_at dksX5_isUnder_0 13 rfl rfl)
theorem dX5_isUnder_16 : decode cX5_isUnder 16 = .ok (.iload_n 0, 1) := dk_26 (dk_at dksX5_isUnder_0 16 rfl rfl)
theorem dX5_isUnder_17 : decode cX5_isUnder 17 = .ok (.iconst 2, 1) := dk_5 (dk_at dksX5_isUnder_0 17 rfl rfl)
theorem dX5_isUnder_18 : decode cX5_isUnder 18 = .ok (.if_icmp .eq 13, 3) := dk_159 0 13 (dk_at dksX5_isUnder_0 18 rfl rfl)
theorem dX5_isUnder_21 : decode cX5_isUnder 21 = .ok (.iload_n 0, 1) := dk_26 (dk_at dksX5_isUnder_0 21 rfl rfl)
theorem dX5_isUnder_22 : decode cX5_isUnder 22 = .ok (.iconst 3, 1) := dk_6 (dk_at dksX5_isUnder_0 22 rfl rfl)
theorem dX5_isUnder_23 : decode cX5_isUnder 23 = .ok (.if_icmp .eq 8, 3) := dk_159 0 8 (dk_at dksX5_isUnder_1 0 rfl rfl)
theorem dX5_isUnder_26 : decode cX5_isUnder 26 = .ok (.iload_n 0, 1) := dk_26 (dk_at dksX5_isUnder_1 3 rfl rfl)
theorem dX5_isUnder_27 : decode cX5_isUnder 27 = .ok (.iconst 5, 1) := dk_8 (dk_at dksX5_isUnder_1 4 rfl rfl)
theorem dX5_isUnder_28 : decode cX5_isUnder 28 = .ok (.if_icmp .ne 7, 3) := dk_160 0 7 (dk_at dksX5_isUnder_1 5 rfl rfl)
theorem dX5_isUnder_31 : decode cX5_isUnder 31 = .ok (.iconst 1, 1) := dk_4 (dk_at dksX5_isUnder_1 8 rfl rfl)
theorem dX5_isUnder_32 : decode cX5_isUnder 32 = .ok (.goto 22, 3) := dk_167 0 22 (dk_at dksX5_isUnder_1 9 rfl rfl)
theorem dX5_isUnder_35 : decode cX5_isUnder 35 = .ok (.iconst 0, 1) := dk_3 (dk_at dksX5_isUnder_1 12 rfl rfl)
theorem dX5_isUnder_36 : decode cX5_isUnder 36 = .ok (.goto 18, 3) := dk_167 0 18 (dk_at dksX5_isUnder_1 13 rfl rfl)
theorem dX5_isUnder_39 : decode cX5_isUnder 39 = .ok (.iload_n 1, 1) := dk_27 (dk_at dksX5_isUnder_1 16 rfl rfl)
theorem dX5_isUnder_40 : decode cX5_isUnder 40 = .ok (.iconst 2, 1) := dk_5 (dk_at dksX5_isUnder_1 17 rfl rfl)
theorem dX5_isUnder_41 : decode cX5_isUnder 41 = .ok (.if_icmp .ne 12, 3) := dk_160 0 12 (dk_at dksX5_isUnder_1 18 rfl rfl)
theorem dX5_isUnder_44 : decode cX5_isUnder 44 = .ok (.iload_n 0, 1) := dk_26 (dk_at dksX5_isUnder_1 21 rfl rfl)
theorem dX5_isUnder_45 : decode cX5_isUnder 45 = .ok (.iconst 5, 1) := dk_8 (dk_at dksX5_isUnder_1 22 rfl rfl)
theorem dX5_isUnder_46 : decode cX5_isUnder 46 = .ok (.if_icmp .ne 7, 3) := dk_160 0 7 (dk_at dksX5_isUnder_2 0 rfl rfl)
theorem dX5_isUnder_49 : decode cX5_isUnder 49 = .ok (.iconst 1, 1) := dk_4 (dk_at dksX5_isUnder_2 3 rfl rfl)
theorem dX5_isUnder_50 : decode cX5_isUnder 50 = .ok (.goto 4, 3) := dk_167 0 4 (dk_at dksX5_isUnder_2 4 rfl rfl)
theorem dX5_isUnder_53 : decode cX5_isUnder 53 = .ok (.iconst 0, 1) := dk_3 (dk_at dksX5_isUnder_2 7 rfl rfl)
theorem dX5_isUnder_54 : decode cX5_isUnder 54 = .ok (.ireturn, 1) := dk_172 (dk_at dksX5_isUnder_2 8 rfl rfl)
abbrev cX5_slips : ByteArray := prog_18_method_45_code
def yX5_slips : MethodName := ⟨RX5, "slips", "(II)I"⟩
def dkwX5_slips_4 : List UInt8 := [167, 0, 5, 21, 4, 172, 3, 172, 5, 21, 4, 8, 96, 104, 172]
abbrev dktX5_slips_4 : List UInt8 := dkwX5_slips_4 ++ []
def dkwX5_slips_3 : List UInt8 := [29, 172, 21, 4, 172, 21, 4, 8, 96, 172, 42, 27, 28, 182, 0, 251, 153, 0, 10, 21, 4, 6, 108]
abbrev dktX5_slips_3 : List UInt8 := dkwX5_slips_3 ++ dktX5_slips_4
def dkwX5_slips_2 : List UInt8 := [170, 0, 0, 0, 0, 65, 0, 0, 0, 0, 0, 0, 0, 4, 0, 0, 0, 34, 0, 0, 0, 36, 0, 0, 0, 39, 0, 0, 0, 44, 0, 0, 0, 63]
abbrev dktX5_slips_2 : List UInt8 := dkwX5_slips_2 ++ dktX5_slips_3
def dkwX5_slips_1 : List UInt8 := [5, 108, 54, 4, 42, 180, 0, 50, 27, 46]
abbrev dktX5_slips_1 : List UInt8 := dkwX5_slips_1 ++ dktX5_slips_2
def dkwX5_slips_0 : List UInt8 := [42, 180, 0, 37, 28, 46, 42, 180, 0, 47, 28, 51, 153, 0, 8, 16, 10, 167, 0, 4, 3, 96, 62, 29]
abbrev dktX5_slips_0 : List UInt8 := dkwX5_slips_0 ++ dktX5_slips_1
theorem dksX5_slips_0 : cX5_slips.data.toList.drop 0 = dktX5_slips_0 := by decide +kernel
theorem dksX5_slips_1 : cX5_slips.data.toList.drop 24 = dktX5_slips_1 := dk_seg dksX5_slips_0 24 rfl rfl
theorem dksX5_slips_2 : cX5_slips.data.toList.drop 34 = dktX5_slips_2 := dk_seg dksX5_slips_1 10 rfl rfl
theorem dksX5_slips_3 : cX5_slips.data.toList.drop 68 = dktX5_slips_3 := dk_seg dksX5_slips_2 34 rfl rfl
theorem dksX5_slips_4 : cX5_slips.data.toList.drop 91 = dktX5_slips_4 := dk_seg dksX5_slips_3 23 rfl rfl
theorem dX5_slips_0 : decode cX5_slips 0 = .ok (.aload_n 0, 1) := dk_42 (dk_at dksX5_slips_0 0 rfl rfl)
theorem dX5_slips_1 : decode cX5_slips 1 = .ok (.getfield 37, 3) := dk_180 0 37 (dk_at dksX5_slips_0 1 rfl rfl)
theorem dX5_slips_4 : decode cX5_slips 4 = .ok (.iload_n 2, 1) := dk_28 (dk_at dksX5_slips_0 4 rfl rfl)
theorem dX5_slips_5 : decode cX5_slips 5 = .ok (.iaload, 1) := dk_46 (dk_at dksX5_slips_0 5 rfl rfl)
theorem dX5_slips_6 : decode cX5_slips 6 = .ok (.aload_n 0, 1) := dk_42 (dk_at dksX5_slips_0 6 rfl rfl)
theorem dX5_slips_7 : decode cX5_slips 7 = .ok (.getfield 47, 3) := dk_180 0 47 (dk_at dksX5_slips_0 7 rfl rfl)
theorem dX5_slips_10 : decode cX5_slips 10 = .ok (.iload_n 2, 1) := dk_28 (dk_at dksX5_slips_0 10 rfl rfl)
theorem dX5_slips_11 : decode cX5_slips 11 = .ok (.baload, 1) := dk_51 (dk_at dksX5_slips_0 11 rfl rfl)
theorem dX5_slips_12 : decode cX5_slips 12 = .ok (.ifCond .eq 8, 3) := dk_153 0 8 (dk_at dksX5_slips_0 12 rfl rfl)
theorem dX5_slips_15 : decode cX5_slips 15 = .ok (.bipush 10, 2) := dk_16 10 (dk_at dksX5_slips_0 15 rfl rfl)
theorem dX5_slips_17 : decode cX5_slips 17 = .ok (.goto 4, 3) := dk_167 0 4 (dk_at dksX5_slips_0 17 rfl rfl)
theorem dX5_slips_20 : decode cX5_slips 20 = .ok (.iconst 0, 1) := dk_3 (dk_at dksX5_slips_0 20 rfl rfl)
theorem dX5_slips_21 : decode cX5_slips 21 = .ok (.iadd, 1) := dk_96 (dk_at dksX5_slips_0 21 rfl rfl)
theorem dX5_slips_22 : decode cX5_slips 22 = .ok (.istore_n 3, 1) := dk_62 (dk_at dksX5_slips_0 22 rfl rfl)
theorem dX5_slips_23 : decode cX5_slips 23 = .ok (.iload_n 3, 1) := dk_29 (dk_at dksX5_slips_0 23 rfl rfl)
theorem dX5_slips_24 : decode cX5_slips 24 = .ok (.iconst 2, 1) := dk_5 (dk_at dksX5_slips_1 0 rfl rfl)
theorem dX5_slips_25 : decode cX5_slips 25 = .ok (.idiv, 1) := dk_108 (dk_at dksX5_slips_1 1 rfl rfl)
theorem dX5_slips_26 : decode cX5_slips 26 = .ok (.istore 4, 2) := dk_54 4 (dk_at dksX5_slips_1 2 rfl rfl)
theorem dX5_slips_28 : decode cX5_slips 28 = .ok (.aload_n 0, 1) := dk_42 (dk_at dksX5_slips_1 4 rfl rfl)
theorem dX5_slips_29 : decode cX5_slips 29 = .ok (.getfield 50, 3) := dk_180 0 50 (dk_at dksX5_slips_1 5 rfl rfl)
theorem dX5_slips_32 : decode cX5_slips 32 = .ok (.iload_n 1, 1) := dk_27 (dk_at dksX5_slips_1 8 rfl rfl)
theorem dX5_slips_33 : decode cX5_slips 33 = .ok (.iaload, 1) := dk_46 (dk_at dksX5_slips_1 9 rfl rfl)
theorem dX5_slips_34 : decode cX5_slips 34 = .ok (.tableswitch 65 0 4 #[34, 36, 39, 44, 63], 34) := by decide +kernel
theorem dX5_slips_68 : decode cX5_slips 68 = .ok (.iload_n 3, 1) := dk_29 (dk_at dksX5_slips_3 0 rfl rfl)
theorem dX5_slips_69 : decode cX5_slips 69 = .ok (.ireturn, 1) := dk_172 (dk_at dksX5_slips_3 1 rfl rfl)
theorem dX5_slips_70 : decode cX5_slips 70 = .ok (.iload 4, 2) := dk_21 4 (dk_at dksX5_slips_3 2 rfl rfl)
theorem dX5_slips_72 : decode cX5_slips 72 = .ok (.ireturn, 1) := dk_172 (dk_at dksX5_slips_3 4 rfl rfl)
theorem dX5_slips_73 : decode cX5_slips 73 = .ok (.iload 4, 2) := dk_21 4 (dk_at dksX5_slips_3 5 rfl rfl)
theorem dX5_slips_75 : decode cX5_slips 75 = .ok (.iconst 5, 1) := dk_8 (dk_at dksX5_slips_3 7 rfl rfl)
theorem dX5_slips_76 : decode cX5_slips 76 = .ok (.iadd, 1) := dk_96 (dk_at dksX5_slips_3 8 rfl rfl)
theorem dX5_slips_77 : decode cX5_slips 77 = .ok (.ireturn, 1) := dk_172 (dk_at dksX5_slips_3 9 rfl rfl)
theorem dX5_slips_78 : decode cX5_slips 78 = .ok (.aload_n 0, 1) := dk_42 (dk_at dksX5_slips_3 10 rfl rfl)
theorem dX5_slips_79 : decode cX5_slips 79 = .ok (.iload_n 1, 1) := dk_27 (dk_at dksX5_slips_3 11 rfl rfl)
theorem dX5_slips_80 : decode cX5_slips 80 = .ok (.iload_n 2, 1) := dk_28 (dk_at dksX5_slips_3 12 rfl rfl)
theorem dX5_slips_81 : decode cX5_slips 81 = .ok (.invokevirtual 251, 3) := dk_182 0 251 (dk_at dksX5_slips_3 13 rfl rfl)
theorem dX5_slips_84 : decode cX5_slips 84 = .ok (.ifCond .eq 10, 3) := dk_153 0 10 (dk_at dksX5_slips_3 16 rfl rfl)
theorem dX5_slips_87 : decode cX5_slips 87 = .ok (.iload 4, 2) := dk_21 4 (dk_at dksX5_slips_3 19 rfl rfl)
theorem dX5_slips_89 : decode cX5_slips 89 = .ok (.iconst 3, 1) := dk_6 (dk_at dksX5_slips_3 21 rfl rfl)
theorem dX5_slips_90 : decode cX5_slips 90 = .ok (.idiv, 1) := dk_108 (dk_at dksX5_slips_3 22 rfl rfl)
theorem dX5_slips_91 : decode cX5_slips 91 = .ok (.goto 5, 3) := dk_167 0 5 (dk_at dksX5_slips_4 0 rfl rfl)
theorem dX5_slips_94 : decode cX5_slips 94 = .ok (.iload 4, 2) := dk_21 4 (dk_at dksX5_slips_4 3 rfl rfl)
theorem dX5_slips_96 : decode cX5_slips 96 = .ok (.ireturn, 1) := dk_172 (dk_at dksX5_slips_4 5 rfl rfl)
theorem dX5_slips_97 : decode cX5_slips 97 = .ok (.iconst 0, 1) := dk_3 (dk_at dksX5_slips_4 6 rfl rfl)
theorem dX5_slips_98 : decode cX5_slips 98 = .ok (.ireturn, 1) := dk_172 (dk_at dksX5_slips_4 7 rfl rfl)
theorem dX5_slips_99 : decode cX5_slips 99 = .ok (.iconst 2, 1) := dk_5 (dk_at dksX5_slips_4 8 rfl rfl)
theorem dX5_slips_100 : decode cX5_slips 100 = .ok (.iload 4, 2) := dk_21 4 (dk_at dksX5_slips_4 9 rfl rfl)
theorem dX5_slips_102 : decode cX5_slips 102 = .ok (.iconst 5, 1) := dk_8 (dk_at dksX5_slips_4 11 rfl rfl)
theorem dX5_slips_103 : decode cX5_slips 103 = .ok (.iadd, 1) := dk_96 (dk_at dksX5_slips_4 12 rfl rfl)
theorem dX5_slips_104 : decode cX5_slips 104 = .ok (.imul, 1) := dk_104 (dk_at dksX5_slips_4 13 rfl rfl)
theorem dX5_slips_105 : decode cX5_slips 105 = .ok (.ireturn, 1) := dk_172 (dk_at dksX5_slips_4 14 rfl rfl)
abbrev cX5_isRailed : ByteArray := prog_18_method_41_code
def yX5_isRailed : MethodName := ⟨RX5, "isRailed", "(II)Z"⟩
def dkwX5_isRailed_1 : List UInt8 := [172]
abbrev dktX5_isRailed_1 : List UInt8 := dkwX5_isRailed_1 ++ []
def dkwX5_isRailed_0 : List UInt8 := [42, 180, 0, 50, 27, 46, 6, 160, 0, 16, 42, 180, 0, 40, 28, 51, 153, 0, 7, 4, 167, 0, 4, 3]
abbrev dktX5_isRailed_0 : List UInt8 := dkwX5_isRailed_0 ++ dktX5_isRailed_1
theorem dksX5_isRailed_0 : cX5_isRailed.data.toList.drop 0 = dktX5_isRailed_0 := by decide +kernel
theorem dksX5_isRailed_1 : cX5_isRailed.data.toList.drop 24 = dktX5_isRailed_1 := dk_seg dksX5_isRailed_0 24 rfl rfl
theorem dX5_isRailed_0 : decode cX5_isRailed 0 = .ok (.aload_n 0, 1) := dk_42 (dk_at dksX5_isRailed_0 0 rfl rfl)
theorem dX5_isRailed_1 : decode cX5_isRailed 1 = .ok (.getfield 50, 3) := dk_180 0 50 (dk_at dksX5_isRailed_0 1 rfl rfl)
theorem dX5_isRailed_4 : decode cX5_isRailed 4 = .ok (.iload_n 1, 1) := dk_27 (dk_at dksX5_isRailed_0 4 rfl rfl)
theorem dX5_isRailed_5 : decode cX5_isRailed 5 = .ok (.iaload, 1) := dk_46 (dk_at dksX5_isRailed_0 5 rfl rfl)
theorem dX5_isRailed_6 : decode cX5_isRailed 6 = .ok (.iconst 3, 1) := dk_6 (dk_at dksX5_isRailed_0 6 rfl rfl)
theorem dX5_isRailed_7 : decode cX5_isRailed 7 = .ok (.if_icmp .ne 16, 3) := dk_160 0 16 (dk_at dksX5_isRailed_0 7 rfl rfl)
theorem dX5_isRailed_10 : decode cX5_isRailed 10 = .ok (.aload_n 0, 1) := dk_42 (dk_at dksX5_isRailed_0 10 rfl rfl)
theorem dX5_isRailed_11 : decode cX5_isRailed 11 = .ok (.getfield 40, 3) := dk_180 0 40 (dk_at dksX5_isRailed_0 11 rfl rfl)
theorem dX5_isRailed_14 : decode cX5_isRailed 14 = .ok (.iload_n 2, 1) := dk_28 (dk_at dksX5_isRailed_0 14 rfl rfl)
theorem dX5_isRailed_15 : decode cX5_isRailed 15 = .ok (.baload, 1) := dk_51 (dk_at dksX5_isRailed_0 15 rfl rfl)
theorem dX5_isRailed_16 : decode cX5_isRailed 16 = .ok (.ifCond .eq 7, 3) := dk_153 0 7 (dk_at dksX5_isRailed_0 16 rfl rfl)
theorem dX5_isRailed_19 : decode cX5_isRailed 19 = .ok (.iconst 1, 1) := dk_4 (dk_at dksX5_isRailed_0 19 rfl rfl)
theorem dX5_isRailed_20 : decode cX5_isRailed 20 = .ok (.goto 4, 3) := dk_167 0 4 (dk_at dksX5_isRailed_0 20 rfl rfl)
theorem dX5_isRailed_23 : decode cX5_isRailed 23 = .ok (.iconst 0, 1) := dk_3 (dk_at dksX5_isRailed_0 23 rfl rfl)
theorem dX5_isRailed_24 : decode cX5_isRailed 24 = .ok (.ireturn, 1) := dk_172 (dk_at dksX5_isRailed_1 0 rfl rfl)
abbrev cX5_tires : ByteArray := prog_18_method_44_code
def yX5_tires : MethodName := ⟨RX5, "tires", "(II)I"⟩
def dkwX5_tires_3 : List UInt8 := [172, 6, 42, 180, 0, 37, 28, 46, 104, 172, 5, 42, 180, 0, 37, 28, 46, 104, 172]
abbrev dktX5_tires_3 : List UInt8 := dkwX5_tires_3 ++ []
def dkwX5_tires_2 : List UInt8 := [4, 172, 29, 172, 5, 29, 104, 172, 42, 180, 0, 40, 28, 51, 153, 0, 9, 29, 5, 108, 167, 0, 4, 29]
abbrev dktX5_tires_2 : List UInt8 := dkwX5_tires_2 ++ dktX5_tires_3
def dkwX5_tires_1 : List UInt8 := [170, 0, 0, 0, 0, 0, 0, 70, 0, 0, 0, 0, 0, 0, 0, 4, 0, 0, 0, 36, 0, 0, 0, 38, 0, 0, 0, 40, 0, 0, 0, 44, 0, 0, 0, 61]
abbrev dktX5_tires_1 : List UInt8 := dkwX5_tires_1 ++ dktX5_tires_2
def dkwX5_tires_0 : List UInt8 := [42, 180, 0, 37, 28, 46, 42, 180, 0, 53, 27, 46, 104, 7, 108, 4, 96, 62, 42, 180, 0, 50, 27, 46]
abbrev dktX5_tires_0 : List UInt8 := dkwX5_tires_0 ++ dktX5_tires_1
theorem dksX5_tires_0 : cX5_tires.data.toList.drop 0 = dktX5_tires_0 := by decide +kernel
theorem dksX5_tires_1 : cX5_tires.data.toList.drop 24 = dktX5_tires_1 := dk_seg dksX5_tires_0 24 rfl rfl
theorem dksX5_tires_2 : cX5_tires.data.toList.drop 60 = dktX5_tires_2 := dk_seg dksX5_tires_1 36 rfl rfl
theorem dksX5_tires_3 : cX5_tires.data.toList.drop 84 = dktX5_tires_3 := dk_seg dksX5_tires_2 24 rfl rfl
theorem dX5_tires_0 : decode cX5_tires 0 = .ok (.aload_n 0, 1) := dk_42 (dk_at dksX5_tires_0 0 rfl rfl)
theorem dX5_tires_1 : decode cX5_tires 1 = .ok (.getfield 37, 3) := dk_180 0 37 (dk_at dksX5_tires_0 1 rfl rfl)
theorem dX5_tires_4 : decode cX5_tires 4 = .ok (.iload_n 2, 1) := dk_28 (dk_at dksX5_tires_0 4 rfl rfl)
theorem dX5_tires_5 : decode cX5_tires 5 = .ok (.iaload, 1) := dk_46 (dk_at dksX5_tires_0 5 rfl rfl)
theorem dX5_tires_6 : decode cX5_tires 6 = .ok (.aload_n 0, 1) := dk_42 (dk_at dksX5_tires_0 6 rfl rfl)
theorem dX5_tires_7 : decode cX5_tires 7 = .ok (.getfield 53, 3) := dk_180 0 53 (dk_at dksX5_tires_0 7 rfl rfl)
theorem dX5_tires_10 : decode cX5_tires 10 = .ok (.iload_n 1, 1) := dk_27 (dk_at dksX5_tires_0 10 rfl rfl)
theorem dX5_tires_11 : decode cX5_tires 11 = .ok (.iaload, 1) := dk_46 (dk_at dksX5_tires_0 11 rfl rfl)
theorem dX5_tires_12 : decode cX5_tires 12 = .ok (.imul, 1) := dk_104 (dk_at dksX5_tires_0 12 rfl rfl)
theorem dX5_tires_13 : decode cX5_tires 13 = .ok (.iconst 4, 1) := dk_7 (dk_at dksX5_tires_0 13 rfl rfl)
theorem dX5_tires_14 : decode cX5_tires 14 = .ok (.idiv, 1) := dk_108 (dk_at dksX5_tires_0 14 rfl rfl)
theorem dX5_tires_15 : decode cX5_tires 15 = .ok (.iconst 1, 1) := dk_4 (dk_at dksX5_tires_0 15 rfl rfl)
theorem dX5_tires_16 : decode cX5_tires 16 = .ok (.iadd, 1) := dk_96 (dk_at dksX5_tires_0 16 rfl rfl)
theorem dX5_tires_17 : decode cX5_tires 17 = .ok (.istore_n 3, 1) := dk_62 (dk_at dksX5_tires_0 17 rfl rfl)
theorem dX5_tires_18 : decode cX5_tires 18 = .ok (.aload_n 0, 1) := dk_42 (dk_at dksX5_tires_0 18 rfl rfl)
theorem dX5_tires_19 : decode cX5_tires 19 = .ok (.getfield 50, 3) := dk_180 0 50 (dk_at dksX5_tires_0 19 rfl rfl)
theorem dX5_tires_22 : decode cX5_tires 22 = .ok (.iload_n 1, 1) := dk_27 (dk_at dksX5_tires_0 22 rfl rfl)
theorem dX5_tires_23 : decode cX5_tires 23 = .ok (.iaload, 1) := dk_46 (dk_at dksX5_tires_0 23 rfl rfl)
theorem dX5_tires_24 : decode cX5_tires 24 = .ok (.tableswitch 70 0 4 #[36, 38, 40, 44, 61], 36) := by decide +kernel
theorem dX5_tires_60 : decode cX5_tires 60 = .ok (.iconst 1, 1) := dk_4 (dk_at dksX5_tires_2 0 rfl rfl)
theorem dX5_tires_61 : decode cX5_tires 61 = .ok (.ireturn, 1) := dk_172 (dk_at dksX5_tires_2 1 rfl rfl)
theorem dX5_tires_62 : decode cX5_tires 62 = .ok (.iload_n 3, 1) := dk_29 (dk_at dksX5_tires_2 2 rfl rfl)
theorem dX5_tires_63 : decode cX5_tires 63 = .ok (.ireturn, 1) := dk_172 (dk_at dksX5_tires_2 3 rfl rfl)
theorem dX5_tires_64 : decode cX5_tires 64 = .ok (.iconst 2, 1) := dk_5 (dk_at dksX5_tires_2 4 rfl rfl)
theorem dX5_tires_65 : decode cX5_tires 65 = .ok (.iload_n 3, 1) := dk_29 (dk_at dksX5_tires_2 5 rfl rfl)
theorem dX5_tires_66 : decode cX5_tires 66 = .ok (.imul, 1) := dk_104 (dk_at dksX5_tires_2 6 rfl rfl)
theorem dX5_tires_67 : decode cX5_tires 67 = .ok (.ireturn, 1) := dk_172 (dk_at dksX5_tires_2 7 rfl rfl)
theorem dX5_tires_68 : decode cX5_tires 68 = .ok (.aload_n 0, 1) := dk_42 (dk_at dksX5_tires_2 8 rfl rfl)
theorem dX5_tires_69 : decode cX5_tires 69 = .ok (.getfield 40, 3) := dk_180 0 40 (dk_at dksX5_tires_2 9 rfl rfl)
theorem dX5_tires_72 : decode cX5_tires 72 = .ok (.iload_n 2, 1) := dk_28 (dk_at dksX5_tires_2 12 rfl rfl)
theorem dX5_tires_73 : decode cX5_tires 73 = .ok (.baload, 1) := dk_51 (dk_at dksX5_tires_2 13 rfl rfl)
theorem dX5_tires_74 : decode cX5_tires 74 = .ok (.ifCond .eq 9, 3) := dk_153 0 9 (dk_at dksX5_tires_2 14 rfl rfl)
theorem dX5_tires_77 : decode cX5_tires 77 = .ok (.iload_n 3, 1) := dk_29 (dk_at dksX5_tires_2 17 rfl rfl)
theorem dX5_tires_78 : decode cX5_tires 78 = .ok (.iconst 2, 1) := dk_5 (dk_at dksX5_tires_2 18 rfl rfl)
theorem dX5_tires_79 : decode cX5_tires 79 = .ok (.idiv, 1) := dk_108 (dk_at dksX5_tires_2 19 rfl rfl)
theorem dX5_tires_80 : decode cX5_tires 80 = .ok (.goto 4, 3) := dk_167 0 4 (dk_at dksX5_tires_2 20 rfl rfl)
theorem dX5_tires_83 : decode cX5_tires 83 = .ok (.iload_n 3, 1) := dk_29 (dk_at dksX5_tires_2 23 rfl rfl)
theorem dX5_tires_84 : decode cX5_tires 84 = .ok (.ireturn, 1) := dk_172 (dk_at dksX5_tires_3 0 rfl rfl)
theorem dX5_tires_85 : decode cX5_tires 85 = .ok (.iconst 3, 1) := dk_6 (dk_at dksX5_tires_3 1 rfl rfl)
theorem dX5_tires_86 : decode cX5_tires 86 = .ok (.aload_n 0, 1) := dk_42 (dk_at dksX5_tires_3 2 rfl rfl)
theorem dX5_tires_87 : decode cX5_tires 87 = .ok (.getfield 37, 3) := dk_180 0 37 (dk_at dksX5_tires_3 3 rfl rfl)
theorem dX5_tires_90 : decode cX5_tires 90 = .ok (.iload_n 2, 1) := dk_28 (dk_at dksX5_tires_3 6 rfl rfl)
theorem dX5_tires_91 : decode cX5_tires 91 = .ok (.iaload, 1) := dk_46 (dk_at dksX5_tires_3 7 rfl rfl)
theorem dX5_tires_92 : decode cX5_tires 92 = .ok (.imul, 1) := dk_104 (dk_at dksX5_tires_3 8 rfl rfl)
theorem dX5_tires_93 : decode cX5_tires 93 = .ok (.ireturn, 1) := dk_172 (dk_at dksX5_tires_3 9 rfl rfl)
theorem dX5_tires_94 : decode cX5_tires 94 = .ok (.iconst 2, 1) := dk_5 (dk_at dksX5_tires_3 10 rfl rfl)
theorem dX5_tires_95 : decode cX5_tires 95 = .ok (.aload_n 0, 1) := dk_42 (dk_at dksX5_tires_3 11 rfl rfl)
theorem dX5_tires_96 : decode cX5_tires 96 = .ok (.getfield 37, 3) := dk_180 0 37 (dk_at dksX5_tires_3 12 rfl rfl)
theorem dX5_tires_99 : decode cX5_tires 99 = .ok (.iload_n 2, 1) := dk_28 (dk_at dksX5_tires_3 15 rfl rfl)
theorem dX5_tires_100 : decode cX5_tires 100 = .ok (.iaload, 1) := dk_46 (dk_at dksX5_tires_3 16 rfl rfl)
theorem dX5_tires_101 : decode cX5_tires 101 = .ok (.imul, 1) := dk_104 (dk_at dksX5_tires_3 17 rfl rfl)
theorem dX5_tires_102 : decode cX5_tires 102 = .ok (.ireturn, 1) := dk_172 (dk_at dksX5_tires_3 18 rfl rfl)
abbrev cX5_load : ByteArray := prog_18_method_42_code
def yX5_load : MethodName := ⟨RX5, "load", "(II)I"⟩
def dkwX5_load_5 : List UInt8 := [172]
abbrev dktX5_load_5 : List UInt8 := dkwX5_load_5 ++ []
def dkwX5_load_4 : List UInt8 := [29, 42, 180, 0, 53, 27, 46, 164, 0, 14, 29, 42, 180, 0, 53, 27, 46, 100, 167, 0, 4, 3, 172, 3]
abbrev dktX5_load_4 : List UInt8 := dkwX5_load_4 ++ dktX5_load_5
def dkwX5_load_3 : List UInt8 := [42, 180, 0, 56, 3, 46, 5, 108, 172, 29, 172, 42, 180, 0, 40, 28, 51, 154, 0, 7, 29, 167, 0, 25]
abbrev dktX5_load_3 : List UInt8 := dkwX5_load_3 ++ dktX5_load_4
def dkwX5_load_2 : List UInt8 := [170, 0, 0, 0, 0, 77, 0, 0, 0, 0, 0, 0, 0, 3, 0, 0, 0, 30, 0, 0, 0, 39, 0, 0, 0, 77, 0, 0, 0, 41]
abbrev dktX5_load_2 : List UInt8 := dkwX5_load_2 ++ dktX5_load_3
def dkwX5_load_1 : List UInt8 := [27, 46]
abbrev dktX5_load_1 : List UInt8 := dkwX5_load_1 ++ dktX5_load_2
def dkwX5_load_0 : List UInt8 := [42, 180, 0, 56, 3, 46, 16, 10, 42, 180, 0, 53, 27, 46, 100, 104, 16, 20, 108, 62, 42, 180, 0, 50]
abbrev dktX5_load_0 : List UInt8 := dkwX5_load_0 ++ dktX5_load_1
theorem dksX5_load_0 : cX5_load.data.toList.drop 0 = dktX5_load_0 := by decide +kernel
theorem dksX5_load_1 : cX5_load.data.toList.drop 24 = dktX5_load_1 := dk_seg dksX5_load_0 24 rfl rfl
theorem dksX5_load_2 : cX5_load.data.toList.drop 26 = dktX5_load_2 := dk_seg dksX5_load_1 2 rfl rfl
theorem dksX5_load_3 : cX5_load.data.toList.drop 56 = dktX5_load_3 := dk_seg dksX5_load_2 30 rfl rfl
theorem dksX5_load_4 : cX5_load.data.toList.drop 80 = dktX5_load_4 := dk_seg dksX5_load_3 24 rfl rfl
theorem dksX5_load_5 : cX5_load.data.toList.drop 104 = dktX5_load_5 := dk_seg dksX5_load_4 24 rfl rfl
theorem dX5_load_0 : decode cX5_load 0 = .ok (.aload_n 0, 1) := dk_42 (dk_at dksX5_load_0 0 rfl rfl)
theorem dX5_load_1 : decode cX5_load 1 = .ok (.getfield 56, 3) := dk_180 0 56 (dk_at dksX5_load_0 1 rfl rfl)
theorem dX5_load_4 : decode cX5_load 4 = .ok (.iconst 0, 1) := dk_3 (dk_at dksX5_load_0 4 rfl rfl)
theorem dX5_load_5 : decode cX5_load 5 = .ok (.iaload, 1) := dk_46 (dk_at dksX5_load_0 5 rfl rfl)
theorem dX5_load_6 : decode cX5_load 6 = .ok (.bipush 10, 2) := dk_16 10 (dk_at dksX5_load_0 6 rfl rfl)
theorem dX5_load_8 : decode cX5_load 8 = .ok (.aload_n 0, 1) := dk_42 (dk_at dksX5_load_0 8 rfl rfl)
theorem dX5_load_9 : decode cX5_load 9 = .ok (.getfield 53, 3) := dk_180 0 53 (dk_at dksX5_load_0 9 rfl rfl)
theorem dX5_load_12 : decode cX5_load 12 = .ok (.iload_n 1, 1) := dk_27 (dk_at dksX5_load_0 12 rfl rfl)
theorem dX5_load_13 : decode cX5_load 13 = .ok (.iaload, 1) := dk_46 (dk_at dksX5_load_0 13 rfl rfl)
theorem dX5_load_14 : decode cX5_load 14 = .ok (.isub, 1) := dk_100 (dk_at dksX5_load_0 14 rfl rfl)
theorem dX5_load_15 : decode cX5_load 15 = .ok (.imul, 1) := dk_104 (dk_at dksX5_load_0 15 rfl rfl)
theorem dX5_load_16 : decode cX5_load 16 = .ok (.bipush 20, 2) := dk_16 20 (dk_at dksX5_load_0 16 rfl rfl)
theorem dX5_load_18 : decode cX5_load 18 = .ok (.idiv, 1) := dk_108 (dk_at dksX5_load_0 18 rfl rfl)
theorem dX5_load_19 : decode cX5_load 19 = .ok (.istore_n 3, 1) := dk_62 (dk_at dksX5_load_0 19 rfl rfl)
theorem dX5_load_20 : decode cX5_load 20 = .ok (.aload_n 0, 1) := dk_42 (dk_at dksX5_load_0 20 rfl rfl)
theorem dX5_load_21 : decode cX5_load 21 = .ok (.getfield 50, 3) := dk_180 0 50 (dk_at dksX5_load_0 21 rfl rfl)
theorem dX5_load_24 : decode cX5_load 24 = .ok (.iload_n 1, 1) := dk_27 (dk_at dksX5_load_1 0 rfl rfl)
theorem dX5_load_25 : decode cX5_load 25 = .ok (.iaload, 1) := dk_46 (dk_at dksX5_load_1 1 rfl rfl)
theorem dX5_load_26 : decode cX5_load 26 = .ok (.tableswitch 77 0 3 #[30, 39, 77, 41], 30) := by decide +kernel
theorem dX5_load_56 : decode cX5_load 56 = .ok (.aload_n 0, 1) := dk_42 (dk_at dksX5_load_3 0 rfl rfl)
theorem dX5_load_57 : decode cX5_load 57 = .ok (.getfield 56, 3) := dk_180 0 56 (dk_at dksX5_load_3 1 rfl rfl)
theorem dX5_load_60 : decode cX5_load 60 = .ok (.iconst 0, 1) := dk_3 (dk_at dksX5_load_3 4 rfl rfl)
theorem dX5_load_61 : decode cX5_load 61 = .ok (.iaload, 1) := dk_46 (dk_at dksX5_load_3 5 rfl rfl)
theorem dX5_load_62 : decode cX5_load 62 = .ok (.iconst 2, 1) := dk_5 (dk_at dksX5_load_3 6 rfl rfl)
theorem dX5_load_63 : decode cX5_load 63 = .ok (.idiv, 1) := dk_108 (dk_at dksX5_load_3 7 rfl rfl)
theorem dX5_load_64 : decode cX5_load 64 = .ok (.ireturn, 1) := dk_172 (dk_at dksX5_load_3 8 rfl rfl)
theorem dX5_load_65 : decode cX5_load 65 = .ok (.iload_n 3, 1) := dk_29 (dk_at dksX5_load_3 9 rfl rfl)
theorem dX5_load_66 : decode cX5_load 66 = .ok (.ireturn, 1) := dk_172 (dk_at dksX5_load_3 10 rfl rfl)
theorem dX5_load_67 : decode cX5_load 67 = .ok (.aload_n 0, 1) := dk_42 (dk_at dksX5_load_3 11 rfl rfl)
theorem dX5_load_68 : decode cX5_load 68 = .ok (.getfield 40, 3) := dk_180 0 40 (dk_at dksX5_load_3 12 rfl rfl)
theorem dX5_load_71 : decode cX5_load 71 = .ok (.iload_n 2, 1) := dk_28 (dk_at dksX5_load_3 15 rfl rfl)
theorem dX5_load_72 : decode cX5_load 72 = .ok (.baload, 1) := dk_51 (dk_at dksX5_load_3 16 rfl rfl)
theorem dX5_load_73 : decode cX5_load 73 = .ok (.ifCond .ne 7, 3) := dk_154 0 7 (dk_at dksX5_load_3 17 rfl rfl)
theorem dX5_load_76 : decode cX5_load 76 = .ok (.iload_n 3, 1) := dk_29 (dk_at dksX5_load_3 20 rfl rfl)
theorem dX5_load_77 : decode cX5_load 77 = .ok (.goto 25, 3) := dk_167 0 25 (dk_at dksX5_load_3 21 rfl rfl)
theorem dX5_load_80 : decode cX5_load 80 = .ok (.iload_n 3, 1) := dk_29 (dk_at dksX5_load_4 0 rfl rfl)
theorem dX5_load_81 : decode cX5_load 81 = .ok (.aload_n 0, 1) := dk_42 (dk_at dksX5_load_4 1 rfl rfl)
theorem dX5_load_82 : decode cX5_load 82 = .ok (.getfield 53, 3) := dk_180 0 53 (dk_at dksX5_load_4 2 rfl rfl)
theorem dX5_load_85 : decode cX5_load 85 = .ok (.iload_n 1, 1) := dk_27 (dk_at dksX5_load_4 5 rfl rfl)
theorem dX5_load_86 : decode cX5_load 86 = .ok (.iaload, 1) := dk_46 (dk_at dksX5_load_4 6 rfl rfl)
theorem dX5_load_87 : decode cX5_load 87 = .ok (.if_icmp .le 14, 3) := dk_164 0 14 (dk_at dksX5_load_4 7 rfl rfl)
theorem dX5_load_90 : decode cX5_load 90 = .ok (.iload_n 3, 1) := dk_29 (dk_at dksX5_load_4 10 rfl rfl)
theorem dX5_load_91 : decode cX5_load 91 = .ok (.aload_n 0, 1) := dk_42 (dk_at dksX5_load_4 11 rfl rfl)
theorem dX5_load_92 : decode cX5_load 92 = .ok (.getfield 53, 3) := dk_180 0 53 (dk_at dksX5_load_4 12 rfl rfl)
theorem dX5_load_95 : decode cX5_load 95 = .ok (.iload_n 1, 1) := dk_27 (dk_at dksX5_load_4 15 rfl rfl)
theorem dX5_load_96 : decode cX5_load 96 = .ok (.iaload, 1) := dk_46 (dk_at dksX5_load_4 16 rfl rfl)
theorem dX5_load_97 : decode cX5_load 97 = .ok (.isub, 1) := dk_100 (dk_at dksX5_load_4 17 rfl rfl)
theorem dX5_load_98 : decode cX5_load 98 = .ok (.goto 4, 3) := dk_167 0 4 (dk_at dksX5_load_4 18 rfl rfl)
theorem dX5_load_101 : decode cX5_load 101 = .ok (.iconst 0, 1) := dk_3 (dk_at dksX5_load_4 21 rfl rfl)
theorem dX5_load_102 : decode cX5_load 102 = .ok (.ireturn, 1) := dk_172 (dk_at dksX5_load_4 22 rfl rfl)
theorem dX5_load_103 : decode cX5_load 103 = .ok (.iconst 0, 1) := dk_3 (dk_at dksX5_load_4 23 rfl rfl)
theorem dX5_load_104 : decode cX5_load 104 = .ok (.ireturn, 1) := dk_172 (dk_at dksX5_load_5 0 rfl rfl)
abbrev cX5_step : ByteArray := prog_18_method_16_code
def yX5_step : MethodName := ⟨RX5, "step", "(IZ)I"⟩
def dkwX5_step_3 : List UInt8 := [180, 0, 77, 28, 84, 42, 89, 180, 0, 77, 90, 4, 96, 181, 0, 77, 172]
abbrev dktX5_step_3 : List UInt8 := dkwX5_step_3 ++ []
def dkwX5_step_2 : List UInt8 := [180, 0, 40, 42, 180, 0, 77, 3, 84, 42, 180, 0, 44, 42, 180, 0, 77, 3, 84, 42, 180, 0, 47, 42]
abbrev dktX5_step_2 : List UInt8 := dkwX5_step_2 ++ dktX5_step_3
def dkwX5_step_1 : List UInt8 := [16, 9, 160, 0, 10, 42, 16, 250, 182, 0, 93, 172, 42, 180, 0, 37, 42, 180, 0, 77, 27, 79, 42]
abbrev dktX5_step_1 : List UInt8 := dkwX5_step_1 ++ dktX5_step_2
def dkwX5_step_0 : List UInt8 := [27, 133, 10, 20, 0, 124, 184, 0, 80, 154, 0, 10, 42, 16, 254, 182, 0, 93, 172, 42, 180, 0, 77]
abbrev dktX5_step_0 : List UInt8 := dkwX5_step_0 ++ dktX5_step_1
theorem dksX5_step_0 : cX5_step.data.toList.drop 0 = dktX5_step_0 := by decide +kernel
theorem dksX5_step_1 : cX5_step.data.toList.drop 23 = dktX5_step_1 := dk_seg dksX5_step_0 23 rfl rfl
theorem dksX5_step_2 : cX5_step.data.toList.drop 46 = dktX5_step_2 := dk_seg dksX5_step_1 23 rfl rfl
theorem dksX5_step_3 : cX5_step.data.toList.drop 70 = dktX5_step_3 := dk_seg dksX5_step_2 24 rfl rfl
theorem dX5_step_0 : decode cX5_step 0 = .ok (.iload_n 1, 1) := dk_27 (dk_at dksX5_step_0 0 rfl rfl)
theorem dX5_step_1 : decode cX5_step 1 = .ok (.i2l, 1) := dk_133 (dk_at dksX5_step_0 1 rfl rfl)
theorem dX5_step_2 : decode cX5_step 2 = .ok (.lconst 1, 1) := dk_10 (dk_at dksX5_step_0 2 rfl rfl)
theorem dX5_step_3 : decode cX5_step 3 = .ok (.ldc2_w 124, 3) := dk_20 0 124 (dk_at dksX5_step_0 3 rfl rfl)
theorem dX5_step_6 : decode cX5_step 6 = .ok (.invokestatic 80, 3) := dk_184 0 80 (dk_at dksX5_step_0 6 rfl rfl)
theorem dX5_step_9 : decode cX5_step 9 = .ok (.ifCond .ne 10, 3) := dk_154 0 10 (dk_at dksX5_step_0 9 rfl rfl)
theorem dX5_step_12 : decode cX5_step 12 = .ok (.aload_n 0, 1) := dk_42 (dk_at dksX5_step_0 12 rfl rfl)
theorem dX5_step_13 : decode cX5_step 13 = .ok (.bipush (-2), 2) := dk_16 254 (dk_at dksX5_step_0 13 rfl rfl)
theorem dX5_step_15 : decode cX5_step 15 = .ok (.invokevirtual 93, 3) := dk_182 0 93 (dk_at dksX5_step_0 15 rfl rfl)
theorem dX5_step_18 : decode cX5_step 18 = .ok (.ireturn, 1) := dk_172 (dk_at dksX5_step_0 18 rfl rfl)
theorem dX5_step_19 : decode cX5_step 19 = .ok (.aload_n 0, 1) := dk_42 (dk_at dksX5_step_0 19 rfl rfl)
theorem dX5_step_20 : decode cX5_step 20 = .ok (.getfield 77, 3) := dk_180 0 77 (dk_at dksX5_step_0 20 rfl rfl)
theorem dX5_step_23 : decode cX5_step 23 = .ok (.bipush 9, 2) := dk_16 9 (dk_at dksX5_step_1 0 rfl rfl)
theorem dX5_step_25 : decode cX5_step 25 = .ok (.if_icmp .ne 10, 3) := dk_160 0 10 (dk_at dksX5_step_1 2 rfl rfl)
theorem dX5_step_28 : decode cX5_step 28 = .ok (.aload_n 0, 1) := dk_42 (dk_at dksX5_step_1 5 rfl rfl)
theorem dX5_step_29 : decode cX5_step 29 = .ok (.bipush (-6), 2) := dk_16 250 (dk_at dksX5_step_1 6 rfl rfl)
theorem dX5_step_31 : decode cX5_step 31 = .ok (.invokevirtual 93, 3) := dk_182 0 93 (dk_at dksX5_step_1 8 rfl rfl)
theorem dX5_step_34 : decode cX5_step 34 = .ok (.ireturn, 1) := dk_172 (dk_at dksX5_step_1 11 rfl rfl)
theorem dX5_step_35 : decode cX5_step 35 = .ok (.aload_n 0, 1) := dk_42 (dk_at dksX5_step_1 12 rfl rfl)
theorem dX5_step_36 : decode cX5_step 36 = .ok (.getfield 37, 3) := dk_180 0 37 (dk_at dksX5_step_1 13 rfl rfl)
theorem dX5_step_39 : decode cX5_step 39 = .ok (.aload_n 0, 1) := dk_42 (dk_at dksX5_step_1 16 rfl rfl)
theorem dX5_step_40 : decode cX5_step 40 = .ok (.getfield 77, 3) := dk_180 0 77 (dk_at dksX5_step_1 17 rfl rfl)
theorem dX5_step_43 : decode cX5_step 43 = .ok (.iload_n 1, 1) := dk_27 (dk_at dksX5_step_1 20 rfl rfl)
theorem dX5_step_44 : decode cX5_step 44 = .ok (.iastore, 1) := dk_79 (dk_at dksX5_step_1 21 rfl rfl)
theorem dX5_step_45 : decode cX5_step 45 = .ok (.aload_n 0, 1) := dk_42 (dk_at dksX5_step_1 22 rfl rfl)
theorem dX5_step_46 : decode cX5_step 46 = .ok (.getfield 40, 3) := dk_180 0 40 (dk_at dksX5_step_2 0 rfl rfl)
theorem dX5_step_49 : decode cX5_step 49 = .ok (.aload_n 0, 1) := dk_42 (dk_at dksX5_step_2 3 rfl rfl)
theorem dX5_step_50 : decode cX5_step 50 = .ok (.getfield 77, 3) := dk_180 0 77 (dk_at dksX5_step_2 4 rfl rfl)
theorem dX5_step_53 : decode cX5_step 53 = .ok (.iconst 0, 1) := dk_3 (dk_at dksX5_step_2 7 rfl rfl)
theorem dX5_step_54 : decode cX5_step 54 = .ok (.bastore, 1) := dk_84 (dk_at dksX5_step_2 8 rfl rfl)
theorem dX5_step_55 : decode cX5_step 55 = .ok (.aload_n 0, 1) := dk_42 (dk_at dksX5_step_2 9 rfl rfl)
theorem dX5_step_56 : decode cX5_step 56 = .ok (.getfield 44, 3) := dk_180 0 44 (dk_at dksX5_step_2 10 rfl rfl)
theorem dX5_step_59 : decode cX5_step 59 = .ok (.aload_n 0, 1) := dk_42 (dk_at dksX5_step_2 13 rfl rfl)
theorem dX5_step_60 : decode cX5_step 60 = .ok (.getfield 77, 3) := dk_180 0 77 (dk_at dksX5_step_2 14 rfl rfl)
theorem dX5_step_63 : decode cX5_step 63 = .ok (.iconst 0, 1) := dk_3 (dk_at dksX5_step_2 17 rfl rfl)
theorem dX5_step_64 : decode cX5_step 64 = .ok (.bastore, 1) := dk_84 (dk_at dksX5_step_2 18 rfl rfl)
theorem dX5_step_65 : decode cX5_step 65 = .ok (.aload_n 0, 1) := dk_42 (dk_at dksX5_step_2 19 rfl rfl)
theorem dX5_step_66 : decode cX5_step 66 = .ok (.getfield 47, 3) := dk_180 0 47 (dk_at dksX5_step_2 20 rfl rfl)
theorem dX5_step_69 : decode cX5_step 69 = .ok (.aload_n 0, 1) := dk_42 (dk_at dksX5_step_2 23 rfl rfl)
theorem dX5_step_70 : decode cX5_step 70 = .ok (.getfield 77, 3) := dk_180 0 77 (dk_at dksX5_step_3 0 rfl rfl)
theorem dX5_step_73 : decode cX5_step 73 = .ok (.iload_n 2, 1) := dk_28 (dk_at dksX5_step_3 3 rfl rfl)
theorem dX5_step_74 : decode cX5_step 74 = .ok (.bastore, 1) := dk_84 (dk_at dksX5_step_3 4 rfl rfl)
theorem dX5_step_75 : decode cX5_step 75 = .ok (.aload_n 0, 1) := dk_42 (dk_at dksX5_step_3 5 rfl rfl)
theorem dX5_step_76 : decode cX5_step 76 = .ok (.dup, 1) := dk_89 (dk_at dksX5_step_3 6 rfl rfl)
theorem dX5_step_77 : decode cX5_step 77 = .ok (.getfield 77, 3) := dk_180 0 77 (dk_at dksX5_step_3 7 rfl rfl)
theorem dX5_step_80 : decode cX5_step 80 = .ok (.dup_x1, 1) := dk_90 (dk_at dksX5_step_3 10 rfl rfl)
theorem dX5_step_81 : decode cX5_step 81 = .ok (.iconst 1, 1) := dk_4 (dk_at dksX5_step_3 11 rfl rfl)
theorem dX5_step_82 : decode cX5_step 82 = .ok (.iadd, 1) := dk_96 (dk_at dksX5_step_3 12 rfl rfl)
theorem dX5_step_83 : decode cX5_step 83 = .ok (.putfield 77, 3) := dk_181 0 77 (dk_at dksX5_step_3 13 rfl rfl)
theorem dX5_step_86 : decode cX5_step 86 = .ok (.ireturn, 1) := dk_172 (dk_at dksX5_step_3 16 rfl rfl)
abbrev cX5_way : ByteArray := prog_18_method_17_code
def yX5_way : MethodName := ⟨RX5, "way", "(II)I"⟩
def dkwX5_way_3 : List UInt8 := [90, 4, 96, 181, 0, 84, 172]
abbrev dktX5_way_3 : List UInt8 := dkwX5_way_3 ++ []
def dkwX5_way_2 : List UInt8 := [180, 0, 50, 42, 180, 0, 84, 27, 79, 42, 180, 0, 53, 42, 180, 0, 84, 28, 79, 42, 89, 180, 0, 84]
abbrev dktX5_way_2 : List UInt8 := dkwX5_way_2 ++ dktX5_way_3
def dkwX5_way_1 : List UInt8 := [42, 16, 254, 182, 0, 93, 172, 42, 180, 0, 84, 16, 6, 160, 0, 10, 42, 16, 250, 182, 0, 93, 172, 42]
abbrev dktX5_way_1 : List UInt8 := dkwX5_way_1 ++ dktX5_way_2
def dkwX5_way_0 : List UInt8 := [27, 133, 9, 20, 0, 108, 184, 0, 80, 153, 0, 15, 28, 133, 9, 20, 0, 126, 184, 0, 80, 154, 0, 10]
abbrev dktX5_way_0 : List UInt8 := dkwX5_way_0 ++ dktX5_way_1
theorem dksX5_way_0 : cX5_way.data.toList.drop 0 = dktX5_way_0 := by decide +kernel
theorem dksX5_way_1 : cX5_way.data.toList.drop 24 = dktX5_way_1 := dk_seg dksX5_way_0 24 rfl rfl
theorem dksX5_way_2 : cX5_way.data.toList.drop 48 = dktX5_way_2 := dk_seg dksX5_way_1 24 rfl rfl
theorem dksX5_way_3 : cX5_way.data.toList.drop 72 = dktX5_way_3 := dk_seg dksX5_way_2 24 rfl rfl
theorem dX5_way_0 : decode cX5_way 0 = .ok (.iload_n 1, 1) := dk_27 (dk_at dksX5_way_0 0 rfl rfl)
theorem dX5_way_1 : decode cX5_way 1 = .ok (.i2l, 1) := dk_133 (dk_at dksX5_way_0 1 rfl rfl)
theorem dX5_way_2 : decode cX5_way 2 = .ok (.lconst 0, 1) := dk_9 (dk_at dksX5_way_0 2 rfl rfl)
theorem dX5_way_3 : decode cX5_way 3 = .ok (.ldc2_w 108, 3) := dk_20 0 108 (dk_at dksX5_way_0 3 rfl rfl)
theorem dX5_way_6 : decode cX5_way 6 = .ok (.invokestatic 80, 3) := dk_184 0 80 (dk_at dksX5_way_0 6 rfl rfl)
theorem dX5_way_9 : decode cX5_way 9 = .ok (.ifCond .eq 15, 3) := dk_153 0 15 (dk_at dksX5_way_0 9 rfl rfl)
theorem dX5_way_12 : decode cX5_way 12 = .ok (.iload_n 2, 1) := dk_28 (dk_at dksX5_way_0 12 rfl rfl)
theorem dX5_way_13 : decode cX5_way 13 = .ok (.i2l, 1) := dk_133 (dk_at dksX5_way_0 13 rfl rfl)
theorem dX5_way_14 : decode cX5_way 14 = .ok (.lconst 0, 1) := dk_9 (dk_at dksX5_way_0 14 rfl rfl)
theorem dX5_way_15 : decode cX5_way 15 = .ok (.ldc2_w 126, 3) := dk_20 0 126 (dk_at dksX5_way_0 15 rfl rfl)
theorem dX5_way_18 : decode cX5_way 18 = .ok (.invokestatic 80, 3) := dk_184 0 80 (dk_at dksX5_way_0 18 rfl rfl)
theorem dX5_way_21 : decode cX5_way 21 = .ok (.ifCond .ne 10, 3) := dk_154 0 10 (dk_at dksX5_way_0 21 rfl rfl)
theorem dX5_way_24 : decode cX5_way 24 = .ok (.aload_n 0, 1) := dk_42 (dk_at dksX5_way_1 0 rfl rfl)
theorem dX5_way_25 : decode cX5_way 25 = .ok (.bipush (-2), 2) := dk_16 254 (dk_at dksX5_way_1 1 rfl rfl)
theorem dX5_way_27 : decode cX5_way 27 = .ok (.invokevirtual 93, 3) := dk_182 0 93 (dk_at dksX5_way_1 3 rfl rfl)
theorem dX5_way_30 : decode cX5_way 30 = .ok (.ireturn, 1) := dk_172 (dk_at dksX5_way_1 6 rfl rfl)
theorem dX5_way_31 : decode cX5_way 31 = .ok (.aload_n 0, 1) := dk_42 (dk_at dksX5_way_1 7 rfl rfl)
theorem dX5_way_32 : decode cX5_way 32 = .ok (.getfield 84, 3) := dk_180 0 84 (dk_at dksX5_way_1 8 rfl rfl)
theorem dX5_way_35 : decode cX5_way 35 = .ok (.bipush 6, 2) := dk_16 6 (dk_at dksX5_way_1 11 rfl rfl)
theorem dX5_way_37 : decode cX5_way 37 = .ok (.if_icmp .ne 10, 3) := dk_160 0 10 (dk_at dksX5_way_1 13 rfl rfl)
theorem dX5_way_40 : decode cX5_way 40 = .ok (.aload_n 0, 1) := dk_42 (dk_at dksX5_way_1 16 rfl rfl)
theorem dX5_way_41 : decode cX5_way 41 = .ok (.bipush (-6), 2) := dk_16 250 (dk_at dksX5_way_1 17 rfl rfl)
theorem dX5_way_43 : decode cX5_way 43 = .ok (.invokevirtual 93, 3) := dk_182 0 93 (dk_at dksX5_way_1 19 rfl rfl)
theorem dX5_way_46 : decode cX5_way 46 = .ok (.ireturn, 1) := dk_172 (dk_at dksX5_way_1 22 rfl rfl)
theorem dX5_way_47 : decode cX5_way 47 = .ok (.aload_n 0, 1) := dk_42 (dk_at dksX5_way_1 23 rfl rfl)
theorem dX5_way_48 : decode cX5_way 48 = .ok (.getfield 50, 3) := dk_180 0 50 (dk_at dksX5_way_2 0 rfl rfl)
theorem dX5_way_51 : decode cX5_way 51 = .ok (.aload_n 0, 1) := dk_42 (dk_at dksX5_way_2 3 rfl rfl)
theorem dX5_way_52 : decode cX5_way 52 = .ok (.getfield 84, 3) := dk_180 0 84 (dk_at dksX5_way_2 4 rfl rfl)
theorem dX5_way_55 : decode cX5_way 55 = .ok (.iload_n 1, 1) := dk_27 (dk_at dksX5_way_2 7 rfl rfl)
theorem dX5_way_56 : decode cX5_way 56 = .ok (.iastore, 1) := dk_79 (dk_at dksX5_way_2 8 rfl rfl)
theorem dX5_way_57 : decode cX5_way 57 = .ok (.aload_n 0, 1) := dk_42 (dk_at dksX5_way_2 9 rfl rfl)
theorem dX5_way_58 : decode cX5_way 58 = .ok (.getfield 53, 3) := dk_180 0 53 (dk_at dksX5_way_2 10 rfl rfl)
theorem dX5_way_61 : decode cX5_way 61 = .ok (.aload_n 0, 1) := dk_42 (dk_at dksX5_way_2 13 rfl rfl)
theorem dX5_way_62 : decode cX5_way 62 = .ok (.getfield 84, 3) := dk_180 0 84 (dk_at dksX5_way_2 14 rfl rfl)
theorem dX5_way_65 : decode cX5_way 65 = .ok (.iload_n 2, 1) := dk_28 (dk_at dksX5_way_2 17 rfl rfl)
theorem dX5_way_66 : decode cX5_way 66 = .ok (.iastore, 1) := dk_79 (dk_at dksX5_way_2 18 rfl rfl)
theorem dX5_way_67 : decode cX5_way 67 = .ok (.aload_n 0, 1) := dk_42 (dk_at dksX5_way_2 19 rfl rfl)
theorem dX5_way_68 : decode cX5_way 68 = .ok (.dup, 1) := dk_89 (dk_at dksX5_way_2 20 rfl rfl)
theorem dX5_way_69 : decode cX5_way 69 = .ok (.getfield 84, 3) := dk_180 0 84 (dk_at dksX5_way_2 21 rfl rfl)
theorem dX5_way_72 : decode cX5_way 72 = .ok (.dup_x1, 1) := dk_90 (dk_at dksX5_way_3 0 rfl rfl)
theorem dX5_way_73 : decode cX5_way 73 = .ok (.iconst 1, 1) := dk_4 (dk_at dksX5_way_3 1 rfl rfl)
theorem dX5_way_74 : decode cX5_way 74 = .ok (.iadd, 1) := dk_96 (dk_at dksX5_way_3 2 rfl rfl)
theorem dX5_way_75 : decode cX5_way 75 = .ok (.putfield 84, 3) := dk_181 0 84 (dk_at dksX5_way_3 3 rfl rfl)
theorem dX5_way_78 : decode cX5_way 78 = .ok (.ireturn, 1) := dk_172 (dk_at dksX5_way_3 6 rfl rfl)
abbrev cX5_ask : ByteArray := prog_18_method_20_code
def yX5_ask : MethodName := ⟨RX5, "ask", "(II)I"⟩
def dkwX5_ask_2 : List UInt8 := [42, 180, 0, 56, 27, 28, 79, 29, 172]
abbrev dktX5_ask_2 : List UInt8 := dkwX5_ask_2 ++ []
def dkwX5_ask_1 : List UInt8 := [182, 0, 133, 133, 184, 0, 80, 154, 0, 10, 42, 16, 254, 182, 0, 93, 172, 42, 180, 0, 56, 27, 46, 62]
abbrev dktX5_ask_1 : List UInt8 := dkwX5_ask_1 ++ dktX5_ask_2
def dkwX5_ask_0 : List UInt8 := [27, 133, 9, 20, 0, 128, 184, 0, 80, 153, 0, 23, 28, 133, 42, 27, 182, 0, 130, 133, 42, 27]
abbrev dktX5_ask_0 : List UInt8 := dkwX5_ask_0 ++ dktX5_ask_1
theorem dksX5_ask_0 : cX5_ask.data.toList.drop 0 = dktX5_ask_0 := by decide +kernel
theorem dksX5_ask_1 : cX5_ask.data.toList.drop 22 = dktX5_ask_1 := dk_seg dksX5_ask_0 22 rfl rfl
theorem dksX5_ask_2 : cX5_ask.data.toList.drop 46 = dktX5_ask_2 := dk_seg dksX5_ask_1 24 rfl rfl
theorem dX5_ask_0 : decode cX5_ask 0 = .ok (.iload_n 1, 1) := dk_27 (dk_at dksX5_ask_0 0 rfl rfl)
theorem dX5_ask_1 : decode cX5_ask 1 = .ok (.i2l, 1) := dk_133 (dk_at dksX5_ask_0 1 rfl rfl)
theorem dX5_ask_2 : decode cX5_ask 2 = .ok (.lconst 0, 1) := dk_9 (dk_at dksX5_ask_0 2 rfl rfl)
theorem dX5_ask_3 : decode cX5_ask 3 = .ok (.ldc2_w 128, 3) := dk_20 0 128 (dk_at dksX5_ask_0 3 rfl rfl)
theorem dX5_ask_6 : decode cX5_ask 6 = .ok (.invokestatic 80, 3) := dk_184 0 80 (dk_at dksX5_ask_0 6 rfl rfl)
theorem dX5_ask_9 : decode cX5_ask 9 = .ok (.ifCond .eq 23, 3) := dk_153 0 23 (dk_at dksX5_ask_0 9 rfl rfl)
theorem dX5_ask_12 : decode cX5_ask 12 = .ok (.iload_n 2, 1) := dk_28 (dk_at dksX5_ask_0 12 rfl rfl)
theorem dX5_ask_13 : decode cX5_ask 13 = .ok (.i2l, 1) := dk_133 (dk_at dksX5_ask_0 13 rfl rfl)
theorem dX5_ask_14 : decode cX5_ask 14 = .ok (.aload_n 0, 1) := dk_42 (dk_at dksX5_ask_0 14 rfl rfl)
theorem dX5_ask_15 : decode cX5_ask 15 = .ok (.iload_n 1, 1) := dk_27 (dk_at dksX5_ask_0 15 rfl rfl)
theorem dX5_ask_16 : decode cX5_ask 16 = .ok (.invokevirtual 130, 3) := dk_182 0 130 (dk_at dksX5_ask_0 16 rfl rfl)
theorem dX5_ask_19 : decode cX5_ask 19 = .ok (.i2l, 1) := dk_133 (dk_at dksX5_ask_0 19 rfl rfl)
theorem dX5_ask_20 : decode cX5_ask 20 = .ok (.aload_n 0, 1) := dk_42 (dk_at dksX5_ask_0 20 rfl rfl)
theorem dX5_ask_21 : decode cX5_ask 21 = .ok (.iload_n 1, 1) := dk_27 (dk_at dksX5_ask_0 21 rfl rfl)
theorem dX5_ask_22 : decode cX5_ask 22 = .ok (.invokevirtual 133, 3) := dk_182 0 133 (dk_at dksX5_ask_1 0 rfl rfl)
theorem dX5_ask_25 : decode cX5_ask 25 = .ok (.i2l, 1) := dk_133 (dk_at dksX5_ask_1 3 rfl rfl)
theorem dX5_ask_26 : decode cX5_ask 26 = .ok (.invokestatic 80, 3) := dk_184 0 80 (dk_at dksX5_ask_1 4 rfl rfl)
theorem dX5_ask_29 : decode cX5_ask 29 = .ok (.ifCond .ne 10, 3) := dk_154 0 10 (dk_at dksX5_ask_1 7 rfl rfl)
theorem dX5_ask_32 : decode cX5_ask 32 = .ok (.aload_n 0, 1) := dk_42 (dk_at dksX5_ask_1 10 rfl rfl)
theorem dX5_ask_33 : decode cX5_ask 33 = .ok (.bipush (-2), 2) := dk_16 254 (dk_at dksX5_ask_1 11 rfl rfl)
theorem dX5_ask_35 : decode cX5_ask 35 = .ok (.invokevirtual 93, 3) := dk_182 0 93 (dk_at dksX5_ask_1 13 rfl rfl)
theorem dX5_ask_38 : decode cX5_ask 38 = .ok (.ireturn, 1) := dk_172 (dk_at dksX5_ask_1 16 rfl rfl)
theorem dX5_ask_39 : decode cX5_ask 39 = .ok (.aload_n 0, 1) := dk_42 (dk_at dksX5_ask_1 17 rfl rfl)
theorem dX5_ask_40 : decode cX5_ask 40 = .ok (.getfield 56, 3) := dk_180 0 56 (dk_at dksX5_ask_1 18 rfl rfl)
theorem dX5_ask_43 : decode cX5_ask 43 = .ok (.iload_n 1, 1) := dk_27 (dk_at dksX5_ask_1 21 rfl rfl)
theorem dX5_ask_44 : decode cX5_ask 44 = .ok (.iaload, 1) := dk_46 (dk_at dksX5_ask_1 22 rfl rfl)
theorem dX5_ask_45 : decode cX5_ask 45 = .ok (.istore_n 3, 1) := dk_62 (dk_at dksX5_ask_1 23 rfl rfl)
theorem dX5_ask_46 : decode cX5_ask 46 = .ok (.aload_n 0, 1) := dk_42 (dk_at dksX5_ask_2 0 rfl rfl)
theorem dX5_ask_47 : decode cX5_ask 47 = .ok (.getfield 56, 3) := dk_180 0 56 (dk_at dksX5_ask_2 1 rfl rfl)
theorem dX5_ask_50 : decode cX5_ask 50 = .ok (.iload_n 1, 1) := dk_27 (dk_at dksX5_ask_2 4 rfl rfl)
theorem dX5_ask_51 : decode cX5_ask 51 = .ok (.iload_n 2, 1) := dk_28 (dk_at dksX5_ask_2 5 rfl rfl)
theorem dX5_ask_52 : decode cX5_ask 52 = .ok (.iastore, 1) := dk_79 (dk_at dksX5_ask_2 6 rfl rfl)
theorem dX5_ask_53 : decode cX5_ask 53 = .ok (.iload_n 3, 1) := dk_29 (dk_at dksX5_ask_2 7 rfl rfl)
theorem dX5_ask_54 : decode cX5_ask 54 = .ok (.ireturn, 1) := dk_172 (dk_at dksX5_ask_2 8 rfl rfl)
abbrev cX5_leastOf : ByteArray := prog_18_method_18_code
def yX5_leastOf : MethodName := ⟨RX5, "leastOf", "(I)I"⟩
def dkwX5_leastOf_1 : List UInt8 := [172]
abbrev dktX5_leastOf_1 : List UInt8 := dkwX5_leastOf_1 ++ []
def dkwX5_leastOf_0 : List UInt8 := [27, 154, 0, 8, 16, 30, 167, 0, 18, 27, 8, 160, 0, 12, 42, 180, 0, 56, 7, 46, 167, 0, 4, 3]
abbrev dktX5_leastOf_0 : List UInt8 := dkwX5_leastOf_0 ++ dktX5_leastOf_1
theorem dksX5_leastOf_0 : cX5_leastOf.data.toList.drop 0 = dktX5_leastOf_0 := by decide +kernel
theorem dksX5_leastOf_1 : cX5_leastOf.data.toList.drop 24 = dktX5_leastOf_1 := dk_seg dksX5_leastOf_0 24 rfl rfl
theorem dX5_leastOf_0 : decode cX5_leastOf 0 = .ok (.iload_n 1, 1) := dk_27 (dk_at dksX5_leastOf_0 0 rfl rfl)
theorem dX5_leastOf_1 : decode cX5_leastOf 1 = .ok (.ifCond .ne 8, 3) := dk_154 0 8 (dk_at dksX5_leastOf_0 1 rfl rfl)
theorem dX5_leastOf_4 : decode cX5_leastOf 4 = .ok (.bipush 30, 2) := dk_16 30 (dk_at dksX5_leastOf_0 4 rfl rfl)
theorem dX5_leastOf_6 : decode cX5_leastOf 6 = .ok (.goto 18, 3) := dk_167 0 18 (dk_at dksX5_leastOf_0 6 rfl rfl)
theorem dX5_leastOf_9 : decode cX5_leastOf 9 = .ok (.iload_n 1, 1) := dk_27 (dk_at dksX5_leastOf_0 9 rfl rfl)
theorem dX5_leastOf_10 : decode cX5_leastOf 10 = .ok (.iconst 5, 1) := dk_8 (dk_at dksX5_leastOf_0 10 rfl rfl)
theorem dX5_leastOf_11 : decode cX5_leastOf 11 = .ok (.if_icmp .ne 12, 3) := dk_160 0 12 (dk_at dksX5_leastOf_0 11 rfl rfl)
theorem dX5_leastOf_14 : decode cX5_leastOf 14 = .ok (.aload_n 0, 1) := dk_42 (dk_at dksX5_leastOf_0 14 rfl rfl)
theorem dX5_leastOf_15 : decode cX5_leastOf 15 = .ok (.getfield 56, 3) := dk_180 0 56 (dk_at dksX5_leastOf_0 15 rfl rfl)
theorem dX5_leastOf_18 : decode cX5_leastOf 18 = .ok (.iconst 4, 1) := dk_7 (dk_at dksX5_leastOf_0 18 rfl rfl)
theorem dX5_leastOf_19 : decode cX5_leastOf 19 = .ok (.iaload, 1) := dk_46 (dk_at dksX5_leastOf_0 19 rfl rfl)
theorem dX5_leastOf_20 : decode cX5_leastOf 20 = .ok (.goto 4, 3) := dk_167 0 4 (dk_at dksX5_leastOf_0 20 rfl rfl)
theorem dX5_leastOf_23 : decode cX5_leastOf 23 = .ok (.iconst 0, 1) := dk_3 (dk_at dksX5_leastOf_0 23 rfl rfl)
theorem dX5_leastOf_24 : decode cX5_leastOf 24 = .ok (.ireturn, 1) := dk_172 (dk_at dksX5_leastOf_1 0 rfl rfl)
abbrev cX5_mostOf : ByteArray := prog_18_method_19_code
def yX5_mostOf : MethodName := ⟨RX5, "mostOf", "(I)I"⟩
def dkwX5_mostOf_1 : List UInt8 := [27, 8, 164, 0, 8, 16, 99, 167, 0, 6, 17, 0, 200, 172]
abbrev dktX5_mostOf_1 : List UInt8 := dkwX5_mostOf_1 ++ []
def dkwX5_mostOf_0 : List UInt8 := [27, 6, 160, 0, 8, 16, 100, 167, 0, 30, 27, 7, 160, 0, 12, 42, 180, 0, 56, 8, 46, 167, 0, 16]
abbrev dktX5_mostOf_0 : List UInt8 := dkwX5_mostOf_0 ++ dktX5_mostOf_1
theorem dksX5_mostOf_0 : cX5_mostOf.data.toList.drop 0 = dktX5_mostOf_0 := by decide +kernel
theorem dksX5_mostOf_1 : cX5_mostOf.data.toList.drop 24 = dktX5_mostOf_1 := dk_seg dksX5_mostOf_0 24 rfl rfl
theorem dX5_mostOf_0 : decode cX5_mostOf 0 = .ok (.iload_n 1, 1) := dk_27 (dk_at dksX5_mostOf_0 0 rfl rfl)
theorem dX5_mostOf_1 : decode cX5_mostOf 1 = .ok (.iconst 3, 1) := dk_6 (dk_at dksX5_mostOf_0 1 rfl rfl)
theorem dX5_mostOf_2 : decode cX5_mostOf 2 = .ok (.if_icmp .ne 8, 3) := dk_160 0 8 (dk_at dksX5_mostOf_0 2 rfl rfl)
theorem dX5_mostOf_5 : decode cX5_mostOf 5 = .ok (.bipush 100, 2) := dk_16 100 (dk_at dksX5_mostOf_0 5 rfl rfl)
theorem dX5_mostOf_7 : decode cX5_mostOf 7 = .ok (.goto 30, 3) := dk_167 0 30 (dk_at dksX5_mostOf_0 7 rfl rfl)
theorem dX5_mostOf_10 : decode cX5_mostOf 10 = .ok (.iload_n 1, 1) := dk_27 (dk_at dksX5_mostOf_0 10 rfl rfl)
theorem dX5_mostOf_11 : decode cX5_mostOf 11 = .ok (.iconst 4, 1) := dk_7 (dk_at dksX5_mostOf_0 11 rfl rfl)
theorem dX5_mostOf_12 : decode cX5_mostOf 12 = .ok (.if_icmp .ne 12, 3) := dk_160 0 12 (dk_at dksX5_mostOf_0 12 rfl rfl)
theorem dX5_mostOf_15 : decode cX5_mostOf 15 = .ok (.aload_n 0, 1) := dk_42 (dk_at dksX5_mostOf_0 15 rfl rfl)
theorem dX5_mostOf_16 : decode cX5_mostOf 16 = .ok (.getfield 56, 3) := dk_180 0 56 (dk_at dksX5_mostOf_0 16 rfl rfl)
theorem dX5_mostOf_19 : decode cX5_mostOf 19 = .ok (.iconst 5, 1) := dk_8 (dk_at dksX5_mostOf_0 19 rfl rfl)
theorem dX5_mostOf_20 : decode cX5_mostOf 20 = .ok (.iaload, 1) := dk_46 (dk_at dksX5_mostOf_0 20 rfl rfl)
theorem dX5_mostOf_21 : decode cX5_mostOf 21 = .ok (.goto 16, 3) := dk_167 0 16 (dk_at dksX5_mostOf_0 21 rfl rfl)
theorem dX5_mostOf_24 : decode cX5_mostOf 24 = .ok (.iload_n 1, 1) := dk_27 (dk_at dksX5_mostOf_1 0 rfl rfl)
theorem dX5_mostOf_25 : decode cX5_mostOf 25 = .ok (.iconst 5, 1) := dk_8 (dk_at dksX5_mostOf_1 1 rfl rfl)
theorem dX5_mostOf_26 : decode cX5_mostOf 26 = .ok (.if_icmp .le 8, 3) := dk_164 0 8 (dk_at dksX5_mostOf_1 2 rfl rfl)
theorem dX5_mostOf_29 : decode cX5_mostOf 29 = .ok (.bipush 99, 2) := dk_16 99 (dk_at dksX5_mostOf_1 5 rfl rfl)
theorem dX5_mostOf_31 : decode cX5_mostOf 31 = .ok (.goto 6, 3) := dk_167 0 6 (dk_at dksX5_mostOf_1 7 rfl rfl)
theorem dX5_mostOf_34 : decode cX5_mostOf 34 = .ok (.sipush 200, 3) := dk_17 0 200 (dk_at dksX5_mostOf_1 10 rfl rfl)
theorem dX5_mostOf_37 : decode cX5_mostOf 37 = .ok (.ireturn, 1) := dk_172 (dk_at dksX5_mostOf_1 13 rfl rfl)
abbrev cX5_put : ByteArray := prog_18_method_21_code
def yX5_put : MethodName := ⟨RX5, "put", "(IIZ)I"⟩
def dkwX5_put_3 : List UInt8 := [159, 0, 7, 4, 167, 0, 4, 3, 172]
abbrev dktX5_put_3 : List UInt8 := dkwX5_put_3 ++ []
def dkwX5_put_2 : List UInt8 := [167, 0, 7, 42, 180, 0, 47, 58, 4, 25, 4, 27, 51, 54, 5, 25, 4, 27, 29, 84, 21, 5, 29]
abbrev dktX5_put_2 : List UInt8 := dkwX5_put_2 ++ dktX5_put_3
def dkwX5_put_1 : List UInt8 := [182, 0, 93, 172, 28, 154, 0, 10, 42, 180, 0, 40, 167, 0, 19, 28, 4, 160, 0, 10, 42, 180, 0, 44]
abbrev dktX5_put_1 : List UInt8 := dkwX5_put_1 ++ dktX5_put_2
def dkwX5_put_0 : List UInt8 := [42, 27, 182, 0, 136, 153, 0, 15, 28, 133, 9, 20, 0, 140, 184, 0, 80, 154, 0, 10, 42, 16, 254]
abbrev dktX5_put_0 : List UInt8 := dkwX5_put_0 ++ dktX5_put_1
theorem dksX5_put_0 : cX5_put.data.toList.drop 0 = dktX5_put_0 := by decide +kernel
theorem dksX5_put_1 : cX5_put.data.toList.drop 23 = dktX5_put_1 := dk_seg dksX5_put_0 23 rfl rfl
theorem dksX5_put_2 : cX5_put.data.toList.drop 47 = dktX5_put_2 := dk_seg dksX5_put_1 24 rfl rfl
theorem dksX5_put_3 : cX5_put.data.toList.drop 70 = dktX5_put_3 := dk_seg dksX5_put_2 23 rfl rfl
theorem dX5_put_0 : decode cX5_put 0 = .ok (.aload_n 0, 1) := dk_42 (dk_at dksX5_put_0 0 rfl rfl)
theorem dX5_put_1 : decode cX5_put 1 = .ok (.iload_n 1, 1) := dk_27 (dk_at dksX5_put_0 1 rfl rfl)
theorem dX5_put_2 : decode cX5_put 2 = .ok (.invokevirtual 136, 3) := dk_182 0 136 (dk_at dksX5_put_0 2 rfl rfl)
theorem dX5_put_5 : decode cX5_put 5 = .ok (.ifCond .eq 15, 3) := dk_153 0 15 (dk_at dksX5_put_0 5 rfl rfl)
theorem dX5_put_8 : decode cX5_put 8 = .ok (.iload_n 2, 1) := dk_28 (dk_at dksX5_put_0 8 rfl rfl)
theorem dX5_put_9 : decode cX5_put 9 = .ok (.i2l, 1) := dk_133 (dk_at dksX5_put_0 9 rfl rfl)
theorem dX5_put_10 : decode cX5_put 10 = .ok (.lconst 0, 1) := dk_9 (dk_at dksX5_put_0 10 rfl rfl)
theorem dX5_put_11 : decode cX5_put 11 = .ok (.ldc2_w 140, 3) := dk_20 0 140 (dk_at dksX5_put_0 11 rfl rfl)
theorem dX5_put_14 : decode cX5_put 14 = .ok (.invokestatic 80, 3) := dk_184 0 80 (dk_at dksX5_put_0 14 rfl rfl)
theorem dX5_put_17 : decode cX5_put 17 = .ok (.ifCond .ne 10, 3) := dk_154 0 10 (dk_at dksX5_put_0 17 rfl rfl)
theorem dX5_put_20 : decode cX5_put 20 = .ok (.aload_n 0, 1) := dk_42 (dk_at dksX5_put_0 20 rfl rfl)
theorem dX5_put_21 : decode cX5_put 21 = .ok (.bipush (-2), 2) := dk_16 254 (dk_at dksX5_put_0 21 rfl rfl)
theorem dX5_put_23 : decode cX5_put 23 = .ok (.invokevirtual 93, 3) := dk_182 0 93 (dk_at dksX5_put_1 0 rfl rfl)
theorem dX5_put_26 : decode cX5_put 26 = .ok (.ireturn, 1) := dk_172 (dk_at dksX5_put_1 3 rfl rfl)
theorem dX5_put_27 : decode cX5_put 27 = .ok (.iload_n 2, 1) := dk_28 (dk_at dksX5_put_1 4 rfl rfl)
theorem dX5_put_28 : decode cX5_put 28 = .ok (.ifCond .ne 10, 3) := dk_154 0 10 (dk_at dksX5_put_1 5 rfl rfl)
theorem dX5_put_31 : decode cX5_put 31 = .ok (.aload_n 0, 1) := dk_42 (dk_at dksX5_put_1 8 rfl rfl)
theorem dX5_put_32 : decode cX5_put 32 = .ok (.getfield 40, 3) := dk_180 0 40 (dk_at dksX5_put_1 9 rfl rfl)
theorem dX5_put_35 : decode cX5_put 35 = .ok (.goto 19, 3) := dk_167 0 19 (dk_at dksX5_put_1 12 rfl rfl)
theorem dX5_put_38 : decode cX5_put 38 = .ok (.iload_n 2, 1) := dk_28 (dk_at dksX5_put_1 15 rfl rfl)
theorem dX5_put_39 : decode cX5_put 39 = .ok (.iconst 1, 1) := dk_4 (dk_at dksX5_put_1 16 rfl rfl)
theorem dX5_put_40 : decode cX5_put 40 = .ok (.if_icmp .ne 10, 3) := dk_160 0 10 (dk_at dksX5_put_1 17 rfl rfl)
theorem dX5_put_43 : decode cX5_put 43 = .ok (.aload_n 0, 1) := dk_42 (dk_at dksX5_put_1 20 rfl rfl)
theorem dX5_put_44 : decode cX5_put 44 = .ok (.getfield 44, 3) := dk_180 0 44 (dk_at dksX5_put_1 21 rfl rfl)
theorem dX5_put_47 : decode cX5_put 47 = .ok (.goto 7, 3) := dk_167 0 7 (dk_at dksX5_put_2 0 rfl rfl)
theorem dX5_put_50 : decode cX5_put 50 = .ok (.aload_n 0, 1) := dk_42 (dk_at dksX5_put_2 3 rfl rfl)
theorem dX5_put_51 : decode cX5_put 51 = .ok (.getfield 47, 3) := dk_180 0 47 (dk_at dksX5_put_2 4 rfl rfl)
theorem dX5_put_54 : decode cX5_put 54 = .ok (.astore 4, 2) := dk_58 4 (dk_at dksX5_put_2 7 rfl rfl)
theorem dX5_put_56 : decode cX5_put 56 = .ok (.aload 4, 2) := dk_25 4 (dk_at dksX5_put_2 9 rfl rfl)
theorem dX5_put_58 : decode cX5_put 58 = .ok (.iload_n 1, 1) := dk_27 (dk_at dksX5_put_2 11 rfl rfl)
theorem dX5_put_59 : decode cX5_put 59 = .ok (.baload, 1) := dk_51 (dk_at dksX5_put_2 12 rfl rfl)
theorem dX5_put_60 : decode cX5_put 60 = .ok (.istore 5, 2) := dk_54 5 (dk_at dksX5_put_2 13 rfl rfl)
theorem dX5_put_62 : decode cX5_put 62 = .ok (.aload 4, 2) := dk_25 4 (dk_at dksX5_put_2 15 rfl rfl)
theorem dX5_put_64 : decode cX5_put 64 = .ok (.iload_n 1, 1) := dk_27 (dk_at dksX5_put_2 17 rfl rfl)
theorem dX5_put_65 : decode cX5_put 65 = .ok (.iload_n 3, 1) := dk_29 (dk_at dksX5_put_2 18 rfl rfl)
theorem dX5_put_66 : decode cX5_put 66 = .ok (.bastore, 1) := dk_84 (dk_at dksX5_put_2 19 rfl rfl)
theorem dX5_put_67 : decode cX5_put 67 = .ok (.iload 5, 2) := dk_21 5 (dk_at dksX5_put_2 20 rfl rfl)
theorem dX5_put_69 : decode cX5_put 69 = .ok (.iload_n 3, 1) := dk_29 (dk_at dksX5_put_2 22 rfl rfl)
theorem dX5_put_70 : decode cX5_put 70 = .ok (.if_icmp .eq 7, 3) := dk_159 0 7 (dk_at dksX5_put_3 0 rfl rfl)
theorem dX5_put_73 : decode cX5_put 73 = .ok (.iconst 1, 1) := dk_4 (dk_at dksX5_put_3 3 rfl rfl)
theorem dX5_put_74 : decode cX5_put 74 = .ok (.goto 4, 3) := dk_167 0 4 (dk_at dksX5_put_3 4 rfl rfl)
theorem dX5_put_77 : decode cX5_put 77 = .ok (.iconst 0, 1) := dk_3 (dk_at dksX5_put_3 7 rfl rfl)
theorem dX5_put_78 : decode cX5_put 78 = .ok (.ireturn, 1) := dk_172 (dk_at dksX5_put_3 8 rfl rfl)
abbrev cX5_isStep : ByteArray := prog_18_method_4_code
def yX5_isStep : MethodName := ⟨RX5, "isStep", "(I)Z"⟩
def dkwX5_isStep_0 : List UInt8 := [27, 133, 9, 42, 180, 0, 77, 4, 100, 133, 184, 0, 80, 172]
abbrev dktX5_isStep_0 : List UInt8 := dkwX5_isStep_0 ++ []
theorem dksX5_isStep_0 : cX5_isStep.data.toList.drop 0 = dktX5_isStep_0 := by decide +kernel
theorem dX5_isStep_0 : decode cX5_isStep 0 = .ok (.iload_n 1, 1) := dk_27 (dk_at dksX5_isStep_0 0 rfl rfl)
theorem dX5_isStep_1 : decode cX5_isStep 1 = .ok (.i2l, 1) := dk_133 (dk_at dksX5_isStep_0 1 rfl rfl)
theorem dX5_isStep_2 : decode cX5_isStep 2 = .ok (.lconst 0, 1) := dk_9 (dk_at dksX5_isStep_0 2 rfl rfl)
theorem dX5_isStep_3 : decode cX5_isStep 3 = .ok (.aload_n 0, 1) := dk_42 (dk_at dksX5_isStep_0 3 rfl rfl)
theorem dX5_isStep_4 : decode cX5_isStep 4 = .ok (.getfield 77, 3) := dk_180 0 77 (dk_at dksX5_isStep_0 4 rfl rfl)
theorem dX5_isStep_7 : decode cX5_isStep 7 = .ok (.iconst 1, 1) := dk_4 (dk_at dksX5_isStep_0 7 rfl rfl)
theorem dX5_isStep_8 : decode cX5_isStep 8 = .ok (.isub, 1) := dk_100 (dk_at dksX5_isStep_0 8 rfl rfl)
theorem dX5_isStep_9 : decode cX5_isStep 9 = .ok (.i2l, 1) := dk_133 (dk_at dksX5_isStep_0 9 rfl rfl)
theorem dX5_isStep_10 : decode cX5_isStep 10 = .ok (.invokestatic 80, 3) := dk_184 0 80 (dk_at dksX5_isStep_0 10 rfl rfl)
theorem dX5_isStep_13 : decode cX5_isStep 13 = .ok (.ireturn, 1) := dk_172 (dk_at dksX5_isStep_0 13 rfl rfl)
abbrev cX5_rise : ByteArray := prog_18_method_22_code
def yX5_rise : MethodName := ⟨RX5, "rise", "(II)I"⟩
def dkwX5_rise_1 : List UInt8 := [182, 0, 93, 172, 42, 180, 0, 37, 27, 46, 62, 42, 180, 0, 37, 27, 28, 79, 29, 172]
abbrev dktX5_rise_1 : List UInt8 := dkwX5_rise_1 ++ []
def dkwX5_rise_0 : List UInt8 := [42, 27, 182, 0, 136, 153, 0, 15, 28, 133, 10, 20, 0, 124, 184, 0, 80, 154, 0, 10, 42, 16, 254]
abbrev dktX5_rise_0 : List UInt8 := dkwX5_rise_0 ++ dktX5_rise_1
theorem dksX5_rise_0 : cX5_rise.data.toList.drop 0 = dktX5_rise_0 := by decide +kernel
theorem dksX5_rise_1 : cX5_rise.data.toList.drop 23 = dktX5_rise_1 := dk_seg dksX5_rise_0 23 rfl rfl
theorem dX5_rise_0 : decode cX5_rise 0 = .ok (.aload_n 0, 1) := dk_42 (dk_at dksX5_rise_0 0 rfl rfl)
theorem dX5_rise_1 : decode cX5_rise 1 = .ok (.iload_n 1, 1) := dk_27 (dk_at dksX5_rise_0 1 rfl rfl)
theorem dX5_rise_2 : decode cX5_rise 2 = .ok (.invokevirtual 136, 3) := dk_182 0 136 (dk_at dksX5_rise_0 2 rfl rfl)
theorem dX5_rise_5 : decode cX5_rise 5 = .ok (.ifCond .eq 15, 3) := dk_153 0 15 (dk_at dksX5_rise_0 5 rfl rfl)
theorem dX5_rise_8 : decode cX5_rise 8 = .ok (.iload_n 2, 1) := dk_28 (dk_at dksX5_rise_0 8 rfl rfl)
theorem dX5_rise_9 : decode cX5_rise 9 = .ok (.i2l, 1) := dk_133 (dk_at dksX5_rise_0 9 rfl rfl)
theorem dX5_rise_10 : decode cX5_rise 10 = .ok (.lconst 1, 1) := dk_10 (dk_at dksX5_rise_0 10 rfl rfl)
theorem dX5_rise_11 : decode cX5_rise 11 = .ok (.ldc2_w 124, 3) := dk_20 0 124 (dk_at dksX5_rise_0 11 rfl rfl)
theorem dX5_rise_14 : decode cX5_rise 14 = .ok (.invokestatic 80, 3) := dk_184 0 80 (dk_at dksX5_rise_0 14 rfl rfl)
theorem dX5_rise_17 : decode cX5_rise 17 = .ok (.ifCond .ne 10, 3) := dk_154 0 10 (dk_at dksX5_rise_0 17 rfl rfl)
theorem dX5_rise_20 : decode cX5_rise 20 = .ok (.aload_n 0, 1) := dk_42 (dk_at dksX5_rise_0 20 rfl rfl)
theorem dX5_rise_21 : decode cX5_rise 21 = .ok (.bipush (-2), 2) := dk_16 254 (dk_at dksX5_rise_0 21 rfl rfl)
theorem dX5_rise_23 : decode cX5_rise 23 = .ok (.invokevirtual 93, 3) := dk_182 0 93 (dk_at dksX5_rise_1 0 rfl rfl)
theorem dX5_rise_26 : decode cX5_rise 26 = .ok (.ireturn, 1) := dk_172 (dk_at dksX5_rise_1 3 rfl rfl)
theorem dX5_rise_27 : decode cX5_rise 27 = .ok (.aload_n 0, 1) := dk_42 (dk_at dksX5_rise_1 4 rfl rfl)
theorem dX5_rise_28 : decode cX5_rise 28 = .ok (.getfield 37, 3) := dk_180 0 37 (dk_at dksX5_rise_1 5 rfl rfl)
theorem dX5_rise_31 : decode cX5_rise 31 = .ok (.iload_n 1, 1) := dk_27 (dk_at dksX5_rise_1 8 rfl rfl)
theorem dX5_rise_32 : decode cX5_rise 32 = .ok (.iaload, 1) := dk_46 (dk_at dksX5_rise_1 9 rfl rfl)
theorem dX5_rise_33 : decode cX5_rise 33 = .ok (.istore_n 3, 1) := dk_62 (dk_at dksX5_rise_1 10 rfl rfl)
theorem dX5_rise_34 : decode cX5_rise 34 = .ok (.aload_n 0, 1) := dk_42 (dk_at dksX5_rise_1 11 rfl rfl)
theorem dX5_rise_35 : decode cX5_rise 35 = .ok (.getfield 37, 3) := dk_180 0 37 (dk_at dksX5_rise_1 12 rfl rfl)
theorem dX5_rise_38 : decode cX5_rise 38 = .ok (.iload_n 1, 1) := dk_27 (dk_at dksX5_rise_1 15 rfl rfl)
theorem dX5_rise_39 : decode cX5_rise 39 = .ok (.iload_n 2, 1) := dk_28 (dk_at dksX5_rise_1 16 rfl rfl)
theorem dX5_rise_40 : decode cX5_rise 40 = .ok (.iastore, 1) := dk_79 (dk_at dksX5_rise_1 17 rfl rfl)
theorem dX5_rise_41 : decode cX5_rise 41 = .ok (.iload_n 3, 1) := dk_29 (dk_at dksX5_rise_1 18 rfl rfl)
theorem dX5_rise_42 : decode cX5_rise 42 = .ok (.ireturn, 1) := dk_172 (dk_at dksX5_rise_1 19 rfl rfl)
abbrev cX5_feed : ByteArray := prog_18_method_23_code
def yX5_feed : MethodName := ⟨RX5, "feed", "(I)I"⟩
def dkwX5_feed_2 : List UInt8 := [96, 181, 0, 144, 27, 79, 42, 180, 0, 144, 172]
abbrev dktX5_feed_2 : List UInt8 := dkwX5_feed_2 ++ []
def dkwX5_feed_1 : List UInt8 := [17, 0, 250, 160, 0, 10, 42, 16, 250, 182, 0, 93, 172, 42, 180, 0, 31, 42, 89, 180, 0, 144, 90, 4]
abbrev dktX5_feed_1 : List UInt8 := dkwX5_feed_1 ++ dktX5_feed_2
def dkwX5_feed_0 : List UInt8 := [27, 133, 9, 20, 0, 142, 184, 0, 80, 154, 0, 10, 42, 16, 254, 182, 0, 93, 172, 42, 180, 0, 144]
abbrev dktX5_feed_0 : List UInt8 := dkwX5_feed_0 ++ dktX5_feed_1
theorem dksX5_feed_0 : cX5_feed.data.toList.drop 0 = dktX5_feed_0 := by decide +kernel
theorem dksX5_feed_1 : cX5_feed.data.toList.drop 23 = dktX5_feed_1 := dk_seg dksX5_feed_0 23 rfl rfl
theorem dksX5_feed_2 : cX5_feed.data.toList.drop 47 = dktX5_feed_2 := dk_seg dksX5_feed_1 24 rfl rfl
theorem dX5_feed_0 : decode cX5_feed 0 = .ok (.iload_n 1, 1) := dk_27 (dk_at dksX5_feed_0 0 rfl rfl)
theorem dX5_feed_1 : decode cX5_feed 1 = .ok (.i2l, 1) := dk_133 (dk_at dksX5_feed_0 1 rfl rfl)
theorem dX5_feed_2 : decode cX5_feed 2 = .ok (.lconst 0, 1) := dk_9 (dk_at dksX5_feed_0 2 rfl rfl)
theorem dX5_feed_3 : decode cX5_feed 3 = .ok (.ldc2_w 142, 3) := dk_20 0 142 (dk_at dksX5_feed_0 3 rfl rfl)
theorem dX5_feed_6 : decode cX5_feed 6 = .ok (.invokestatic 80, 3) := dk_184 0 80 (dk_at dksX5_feed_0 6 rfl rfl)
theorem dX5_feed_9 : decode cX5_feed 9 = .ok (.ifCond .ne 10, 3) := dk_154 0 10 (dk_at dksX5_feed_0 9 rfl rfl)
theorem dX5_feed_12 : decode cX5_feed 12 = .ok (.aload_n 0, 1) := dk_42 (dk_at dksX5_feed_0 12 rfl rfl)
theorem dX5_feed_13 : decode cX5_feed 13 = .ok (.bipush (-2), 2) := dk_16 254 (dk_at dksX5_feed_0 13 rfl rfl)
theorem dX5_feed_15 : decode cX5_feed 15 = .ok (.invokevirtual 93, 3) := dk_182 0 93 (dk_at dksX5_feed_0 15 rfl rfl)
theorem dX5_feed_18 : decode cX5_feed 18 = .ok (.ireturn, 1) := dk_172 (dk_at dksX5_feed_0 18 rfl rfl)
theorem dX5_feed_19 : decode cX5_feed 19 = .ok (.aload_n 0, 1) := dk_42 (dk_at dksX5_feed_0 19 rfl rfl)
theorem dX5_feed_20 : decode cX5_feed 20 = .ok (.getfield 144, 3) := dk_180 0 144 (dk_at dksX5_feed_0 20 rfl rfl)
theorem dX5_feed_23 : decode cX5_feed 23 = .ok (.sipush 250, 3) := dk_17 0 250 (dk_at dksX5_feed_1 0 rfl rfl)
theorem dX5_feed_26 : decode cX5_feed 26 = .ok (.if_icmp .ne 10, 3) := dk_160 0 10 (dk_at dksX5_feed_1 3 rfl rfl)
theorem dX5_feed_29 : decode cX5_feed 29 = .ok (.aload_n 0, 1) := dk_42 (dk_at dksX5_feed_1 6 rfl rfl)
theorem dX5_feed_30 : decode cX5_feed 30 = .ok (.bipush (-6), 2) := dk_16 250 (dk_at dksX5_feed_1 7 rfl rfl)
theorem dX5_feed_32 : decode cX5_feed 32 = .ok (.invokevirtual 93, 3) := dk_182 0 93 (dk_at dksX5_feed_1 9 rfl rfl)
theorem dX5_feed_35 : decode cX5_feed 35 = .ok (.ireturn, 1) := dk_172 (dk_at dksX5_feed_1 12 rfl rfl)
theorem dX5_feed_36 : decode cX5_feed 36 = .ok (.aload_n 0, 1) := dk_42 (dk_at dksX5_feed_1 13 rfl rfl)
theorem dX5_feed_37 : decode cX5_feed 37 = .ok (.getfield 31, 3) := dk_180 0 31 (dk_at dksX5_feed_1 14 rfl rfl)
theorem dX5_feed_40 : decode cX5_feed 40 = .ok (.aload_n 0, 1) := dk_42 (dk_at dksX5_feed_1 17 rfl rfl)
theorem dX5_feed_41 : decode cX5_feed 41 = .ok (.dup, 1) := dk_89 (dk_at dksX5_feed_1 18 rfl rfl)
theorem dX5_feed_42 : decode cX5_feed 42 = .ok (.getfield 144, 3) := dk_180 0 144 (dk_at dksX5_feed_1 19 rfl rfl)
theorem dX5_feed_45 : decode cX5_feed 45 = .ok (.dup_x1, 1) := dk_90 (dk_at dksX5_feed_1 22 rfl rfl)
theorem dX5_feed_46 : decode cX5_feed 46 = .ok (.iconst 1, 1) := dk_4 (dk_at dksX5_feed_1 23 rfl rfl)
theorem dX5_feed_47 : decode cX5_feed 47 = .ok (.iadd, 1) := dk_96 (dk_at dksX5_feed_2 0 rfl rfl)
theorem dX5_feed_48 : decode cX5_feed 48 = .ok (.putfield 144, 3) := dk_181 0 144 (dk_at dksX5_feed_2 1 rfl rfl)
theorem dX5_feed_51 : decode cX5_feed 51 = .ok (.iload_n 1, 1) := dk_27 (dk_at dksX5_feed_2 4 rfl rfl)
theorem dX5_feed_52 : decode cX5_feed 52 = .ok (.iastore, 1) := dk_79 (dk_at dksX5_feed_2 5 rfl rfl)
theorem dX5_feed_53 : decode cX5_feed 53 = .ok (.aload_n 0, 1) := dk_42 (dk_at dksX5_feed_2 6 rfl rfl)
theorem dX5_feed_54 : decode cX5_feed 54 = .ok (.getfield 144, 3) := dk_180 0 144 (dk_at dksX5_feed_2 7 rfl rfl)
theorem dX5_feed_57 : decode cX5_feed 57 = .ok (.ireturn, 1) := dk_172 (dk_at dksX5_feed_2 10 rfl rfl)
abbrev cX5_wipe : ByteArray := prog_18_method_24_code
def yX5_wipe : MethodName := ⟨RX5, "wipe", "()I"⟩
def dkwX5_wipe_0 : List UInt8 := [42, 180, 0, 144, 60, 42, 3, 181, 0, 144, 27, 172]
abbrev dktX5_wipe_0 : List UInt8 := dkwX5_wipe_0 ++ []
theorem dksX5_wipe_0 : cX5_wipe.data.toList.drop 0 = dktX5_wipe_0 := by decide +kernel
theorem dX5_wipe_0 : decode cX5_wipe 0 = .ok (.aload_n 0, 1) := dk_42 (dk_at dksX5_wipe_0 0 rfl rfl)
theorem dX5_wipe_1 : decode cX5_wipe 1 = .ok (.getfield 144, 3) := dk_180 0 144 (dk_at dksX5_wipe_0 1 rfl rfl)
theorem dX5_wipe_4 : decode cX5_wipe 4 = .ok (.istore_n 1, 1) := dk_60 (dk_at dksX5_wipe_0 4 rfl rfl)
theorem dX5_wipe_5 : decode cX5_wipe 5 = .ok (.aload_n 0, 1) := dk_42 (dk_at dksX5_wipe_0 5 rfl rfl)
theorem dX5_wipe_6 : decode cX5_wipe 6 = .ok (.iconst 0, 1) := dk_3 (dk_at dksX5_wipe_0 6 rfl rfl)
theorem dX5_wipe_7 : decode cX5_wipe 7 = .ok (.putfield 144, 3) := dk_181 0 144 (dk_at dksX5_wipe_0 7 rfl rfl)
theorem dX5_wipe_10 : decode cX5_wipe 10 = .ok (.iload_n 1, 1) := dk_27 (dk_at dksX5_wipe_0 10 rfl rfl)
theorem dX5_wipe_11 : decode cX5_wipe 11 = .ok (.ireturn, 1) := dk_172 (dk_at dksX5_wipe_0 11 rfl rfl)
abbrev cX5_stair : ByteArray := prog_18_method_37_code
def yX5_stair : MethodName := ⟨RX5, "stair", "()I"⟩
def dkwX5_stair_1 : List UInt8 := [42, 16, 254, 182, 0, 93, 87, 16, 236, 42, 180, 0, 166, 100, 172, 42, 180, 0, 232, 172]
abbrev dktX5_stair_1 : List UInt8 := dkwX5_stair_1 ++ []
def dkwX5_stair_0 : List UInt8 := [42, 182, 0, 238, 76, 42, 182, 0, 242, 61, 42, 3, 181, 0, 144, 28, 154, 0, 23, 42, 43, 182, 0, 245]
abbrev dktX5_stair_0 : List UInt8 := dkwX5_stair_0 ++ dktX5_stair_1
theorem dksX5_stair_0 : cX5_stair.data.toList.drop 0 = dktX5_stair_0 := by decide +kernel
theorem dksX5_stair_1 : cX5_stair.data.toList.drop 24 = dktX5_stair_1 := dk_seg dksX5_stair_0 24 rfl rfl
theorem dX5_stair_0 : decode cX5_stair 0 = .ok (.aload_n 0, 1) := dk_42 (dk_at dksX5_stair_0 0 rfl rfl)
theorem dX5_stair_1 : decode cX5_stair 1 = .ok (.invokevirtual 238, 3) := dk_182 0 238 (dk_at dksX5_stair_0 1 rfl rfl)
theorem dX5_stair_4 : decode cX5_stair 4 = .ok (.astore_n 1, 1) := dk_76 (dk_at dksX5_stair_0 4 rfl rfl)
theorem dX5_stair_5 : decode cX5_stair 5 = .ok (.aload_n 0, 1) := dk_42 (dk_at dksX5_stair_0 5 rfl rfl)
theorem dX5_stair_6 : decode cX5_stair 6 = .ok (.invokevirtual 242, 3) := dk_182 0 242 (dk_at dksX5_stair_0 6 rfl rfl)
theorem dX5_stair_9 : decode cX5_stair 9 = .ok (.istore_n 2, 1) := dk_61 (dk_at dksX5_stair_0 9 rfl rfl)
theorem dX5_stair_10 : decode cX5_stair 10 = .ok (.aload_n 0, 1) := dk_42 (dk_at dksX5_stair_0 10 rfl rfl)
theorem dX5_stair_11 : decode cX5_stair 11 = .ok (.iconst 0, 1) := dk_3 (dk_at dksX5_stair_0 11 rfl rfl)
theorem dX5_stair_12 : decode cX5_stair 12 = .ok (.putfield 144, 3) := dk_181 0 144 (dk_at dksX5_stair_0 12 rfl rfl)
theorem dX5_stair_15 : decode cX5_stair 15 = .ok (.iload_n 2, 1) := dk_28 (dk_at dksX5_stair_0 15 rfl rfl)
theorem dX5_stair_16 : decode cX5_stair 16 = .ok (.ifCond .ne 23, 3) := dk_154 0 23 (dk_at dksX5_stair_0 16 rfl rfl)
theorem dX5_stair_19 : decode cX5_stair 19 = .ok (.aload_n 0, 1) := dk_42 (dk_at dksX5_stair_0 19 rfl rfl)
theorem dX5_stair_20 : decode cX5_stair 20 = .ok (.aload_n 1, 1) := dk_43 (dk_at dksX5_stair_0 20 rfl rfl)
theorem dX5_stair_21 : decode cX5_stair 21 = .ok (.invokevirtual 245, 3) := dk_182 0 245 (dk_at dksX5_stair_0 21 rfl rfl)
theorem dX5_stair_24 : decode cX5_stair 24 = .ok (.aload_n 0, 1) := dk_42 (dk_at dksX5_stair_1 0 rfl rfl)
theorem dX5_stair_25 : decode cX5_stair 25 = .ok (.bipush (-2), 2) := dk_16 254 (dk_at dksX5_stair_1 1 rfl rfl)
theorem dX5_stair_27 : decode cX5_stair 27 = .ok (.invokevirtual 93, 3) := dk_182 0 93 (dk_at dksX5_stair_1 3 rfl rfl)
theorem dX5_stair_30 : decode cX5_stair 30 = .ok (.pop, 1) := dk_87 (dk_at dksX5_stair_1 6 rfl rfl)
theorem dX5_stair_31 : decode cX5_stair 31 = .ok (.bipush (-20), 2) := dk_16 236 (dk_at dksX5_stair_1 7 rfl rfl)
theorem dX5_stair_33 : decode cX5_stair 33 = .ok (.aload_n 0, 1) := dk_42 (dk_at dksX5_stair_1 9 rfl rfl)
theorem dX5_stair_34 : decode cX5_stair 34 = .ok (.getfield 166, 3) := dk_180 0 166 (dk_at dksX5_stair_1 10 rfl rfl)
theorem dX5_stair_37 : decode cX5_stair 37 = .ok (.isub, 1) := dk_100 (dk_at dksX5_stair_1 13 rfl rfl)
theorem dX5_stair_38 : decode cX5_stair 38 = .ok (.ireturn, 1) := dk_172 (dk_at dksX5_stair_1 14 rfl rfl)
theorem dX5_stair_39 : decode cX5_stair 39 = .ok (.aload_n 0, 1) := dk_42 (dk_at dksX5_stair_1 15 rfl rfl)
theorem dX5_stair_40 : decode cX5_stair 40 = .ok (.getfield 232, 3) := dk_180 0 232 (dk_at dksX5_stair_1 16 rfl rfl)
theorem dX5_stair_43 : decode cX5_stair 43 = .ok (.ireturn, 1) := dk_172 (dk_at dksX5_stair_1 19 rfl rfl)
abbrev cX5_fresh : ByteArray := prog_18_method_66_code
def yX5_fresh : MethodName := ⟨RX5, "fresh", "()LStairOnSticksModel;"⟩
def dkwX5_fresh_1 : List UInt8 := [182, 0, 245, 42, 180, 1, 43, 176]
abbrev dktX5_fresh_1 : List UInt8 := dkwX5_fresh_1 ++ []
def dkwX5_fresh_0 : List UInt8 := [42, 180, 1, 43, 199, 0, 14, 42, 187, 0, 8, 89, 183, 1, 47, 181, 1, 43, 42, 180, 1, 43, 42]
abbrev dktX5_fresh_0 : List UInt8 := dkwX5_fresh_0 ++ dktX5_fresh_1
theorem dksX5_fresh_0 : cX5_fresh.data.toList.drop 0 = dktX5_fresh_0 := by decide +kernel
theorem dksX5_fresh_1 : cX5_fresh.data.toList.drop 23 = dktX5_fresh_1 := dk_seg dksX5_fresh_0 23 rfl rfl
theorem dX5_fresh_0 : decode cX5_fresh 0 = .ok (.aload_n 0, 1) := dk_42 (dk_at dksX5_fresh_0 0 rfl rfl)
theorem dX5_fresh_1 : decode cX5_fresh 1 = .ok (.getfield 299, 3) := dk_180 1 43 (dk_at dksX5_fresh_0 1 rfl rfl)
theorem dX5_fresh_4 : decode cX5_fresh 4 = .ok (.ifnonnull 14, 3) := dk_199 0 14 (dk_at dksX5_fresh_0 4 rfl rfl)
theorem dX5_fresh_7 : decode cX5_fresh 7 = .ok (.aload_n 0, 1) := dk_42 (dk_at dksX5_fresh_0 7 rfl rfl)
theorem dX5_fresh_8 : decode cX5_fresh 8 = .ok (.new 8, 3) := dk_187 0 8 (dk_at dksX5_fresh_0 8 rfl rfl)
theorem dX5_fresh_11 : decode cX5_fresh 11 = .ok (.dup, 1) := dk_89 (dk_at dksX5_fresh_0 11 rfl rfl)
theorem dX5_fresh_12 : decode cX5_fresh 12 = .ok (.invokespecial 303, 3) := dk_183 1 47 (dk_at dksX5_fresh_0 12 rfl rfl)
theorem dX5_fresh_15 : decode cX5_fresh 15 = .ok (.putfield 299, 3) := dk_181 1 43 (dk_at dksX5_fresh_0 15 rfl rfl)
theorem dX5_fresh_18 : decode cX5_fresh 18 = .ok (.aload_n 0, 1) := dk_42 (dk_at dksX5_fresh_0 18 rfl rfl)
theorem dX5_fresh_19 : decode cX5_fresh 19 = .ok (.getfield 299, 3) := dk_180 1 43 (dk_at dksX5_fresh_0 19 rfl rfl)
theorem dX5_fresh_22 : decode cX5_fresh 22 = .ok (.aload_n 0, 1) := dk_42 (dk_at dksX5_fresh_0 22 rfl rfl)
theorem dX5_fresh_23 : decode cX5_fresh 23 = .ok (.invokevirtual 245, 3) := dk_182 0 245 (dk_at dksX5_fresh_1 0 rfl rfl)
theorem dX5_fresh_26 : decode cX5_fresh 26 = .ok (.aload_n 0, 1) := dk_42 (dk_at dksX5_fresh_1 3 rfl rfl)
theorem dX5_fresh_27 : decode cX5_fresh 27 = .ok (.getfield 299, 3) := dk_180 1 43 (dk_at dksX5_fresh_1 4 rfl rfl)
theorem dX5_fresh_30 : decode cX5_fresh 30 = .ok (.areturn, 1) := dk_176 (dk_at dksX5_fresh_1 7 rfl rfl)
abbrev cX5_takeFrom : ByteArray := prog_18_method_89_code
def yX5_takeFrom : MethodName := ⟨RX5, "takeFrom", "(LStairOnSticksModel;)V"⟩
def dkwX5_takeFrom_7 : List UInt8 := [181, 1, 69, 42, 43, 180, 0, 59, 181, 0, 59, 177]
abbrev dktX5_takeFrom_7 : List UInt8 := dkwX5_takeFrom_7 ++ []
def dkwX5_takeFrom_6 : List UInt8 := [167, 255, 235, 42, 43, 180, 1, 79, 181, 1, 79, 42, 43, 180, 1, 82, 181, 1, 82, 42, 43, 180, 1, 69]
abbrev dktX5_takeFrom_6 : List UInt8 := dkwX5_takeFrom_6 ++ dktX5_takeFrom_7
def dkwX5_takeFrom_5 : List UInt8 := [3, 61, 28, 16, 10, 162, 0, 21, 42, 180, 0, 56, 28, 43, 180, 0, 56, 28, 46, 79, 132, 2, 1]
abbrev dktX5_takeFrom_5 : List UInt8 := dkwX5_takeFrom_5 ++ dktX5_takeFrom_6
def dkwX5_takeFrom_4 : List UInt8 := [180, 0, 50, 28, 46, 79, 42, 180, 0, 53, 28, 43, 180, 0, 53, 28, 46, 79, 132, 2, 1, 167, 255, 223]
abbrev dktX5_takeFrom_4 : List UInt8 := dkwX5_takeFrom_4 ++ dktX5_takeFrom_5
def dkwX5_takeFrom_3 : List UInt8 := [42, 43, 180, 0, 84, 181, 0, 84, 3, 61, 28, 16, 6, 162, 0, 33, 42, 180, 0, 50, 28, 43]
abbrev dktX5_takeFrom_3 : List UInt8 := dkwX5_takeFrom_3 ++ dktX5_takeFrom_4
def dkwX5_takeFrom_2 : List UInt8 := [180, 0, 44, 28, 51, 84, 42, 180, 0, 47, 28, 43, 180, 0, 47, 28, 51, 84, 132, 2, 1, 167, 255, 199]
abbrev dktX5_takeFrom_2 : List UInt8 := dkwX5_takeFrom_2 ++ dktX5_takeFrom_3
def dkwX5_takeFrom_1 : List UInt8 := [180, 0, 37, 28, 46, 79, 42, 180, 0, 40, 28, 43, 180, 0, 40, 28, 51, 84, 42, 180, 0, 44, 28, 43]
abbrev dktX5_takeFrom_1 : List UInt8 := dkwX5_takeFrom_1 ++ dktX5_takeFrom_2
def dkwX5_takeFrom_0 : List UInt8 := [42, 43, 180, 0, 77, 181, 0, 77, 3, 61, 28, 16, 9, 162, 0, 57, 42, 180, 0, 37, 28, 43]
abbrev dktX5_takeFrom_0 : List UInt8 := dkwX5_takeFrom_0 ++ dktX5_takeFrom_1
theorem dksX5_takeFrom_0 : cX5_takeFrom.data.toList.drop 0 = dktX5_takeFrom_0 := by decide +kernel
theorem dksX5_takeFrom_1 : cX5_takeFrom.data.toList.drop 22 = dktX5_takeFrom_1 := dk_seg dksX5_takeFrom_0 22 rfl rfl
theorem dksX5_takeFrom_2 : cX5_takeFrom.data.toList.drop 46 = dktX5_takeFrom_2 := dk_seg dksX5_takeFrom_1 24 rfl rfl
theorem dksX5_takeFrom_3 : cX5_takeFrom.data.toList.drop 70 = dktX5_takeFrom_3 := dk_seg dksX5_takeFrom_2 24 rfl rfl
theorem dksX5_takeFrom_4 : cX5_takeFrom.data.toList.drop 92 = dktX5_takeFrom_4 := dk_seg dksX5_takeFrom_3 22 rfl rfl
theorem dksX5_takeFrom_5 : cX5_takeFrom.data.toList.drop 116 = dktX5_takeFrom_5 := dk_seg dksX5_takeFrom_4 24 rfl rfl
theorem dksX5_takeFrom_6 : cX5_takeFrom.data.toList.drop 139 = dktX5_takeFrom_6 := dk_seg dksX5_takeFrom_5 23 rfl rfl
theorem dksX5_takeFrom_7 : cX5_takeFrom.data.toList.drop 163 = dktX5_takeFrom_7 := dk_seg dksX5_takeFrom_6 24 rfl rfl
theorem dX5_takeFrom_0 : decode cX5_takeFrom 0 = .ok (.aload_n 0, 1) := dk_42 (dk_at dksX5_takeFrom_0 0 rfl rfl)
theorem dX5_takeFrom_1 : decode cX5_takeFrom 1 = .ok (.aload_n 1, 1) := dk_43 (dk_at dksX5_takeFrom_0 1 rfl rfl)
theorem dX5_takeFrom_2 : decode cX5_takeFrom 2 = .ok (.getfield 77, 3) := dk_180 0 77 (dk_at dksX5_takeFrom_0 2 rfl rfl)
theorem dX5_takeFrom_5 : decode cX5_takeFrom 5 = .ok (.putfield 77, 3) := dk_181 0 77 (dk_at dksX5_takeFrom_0 5 rfl rfl)
theorem dX5_takeFrom_8 : decode cX5_takeFrom 8 = .ok (.iconst 0, 1) := dk_3 (dk_at dksX5_takeFrom_0 8 rfl rfl)
theorem dX5_takeFrom_9 : decode cX5_takeFrom 9 = .ok (.istore_n 2, 1) := dk_61 (dk_at dksX5_takeFrom_0 9 rfl rfl)
theorem dX5_takeFrom_10 : decode cX5_takeFrom 10 = .ok (.iload_n 2, 1) := dk_28 (dk_at dksX5_takeFrom_0 10 rfl rfl)
theorem dX5_takeFrom_11 : decode cX5_takeFrom 11 = .ok (.bipush 9, 2) := dk_16 9 (dk_at dksX5_takeFrom_0 11 rfl rfl)
theorem dX5_takeFrom_13 : decode cX5_takeFrom 13 = .ok (.if_icmp .ge 57, 3) := dk_162 0 57 (dk_at dksX5_takeFrom_0 13 rfl rfl)
theorem dX5_takeFrom_16 : decode cX5_takeFrom 16 = .ok (.aload_n 0, 1) := dk_42 (dk_at dksX5_takeFrom_0 16 rfl rfl)
theorem dX5_takeFrom_17 : decode cX5_takeFrom 17 = .ok (.getfield 37, 3) := dk_180 0 37 (dk_at dksX5_takeFrom_0 17 rfl rfl)
theorem dX5_takeFrom_20 : decode cX5_takeFrom 20 = .ok (.iload_n 2, 1) := dk_28 (dk_at dksX5_takeFrom_0 20 rfl rfl)
theorem dX5_takeFrom_21 : decode cX5_takeFrom 21 = .ok (.aload_n 1, 1) := dk_43 (dk_at dksX5_takeFrom_0 21 rfl rfl)
theorem dX5_takeFrom_22 : decode cX5_takeFrom 22 = .ok (.getfield 37, 3) := dk_180 0 37 (dk_at dksX5_takeFrom_1 0 rfl rfl)
theorem dX5_takeFrom_25 : decode cX5_takeFrom 25 = .ok (.iload_n 2, 1) := dk_28 (dk_at dksX5_takeFrom_1 3 rfl rfl)
theorem dX5_takeFrom_26 : decode cX5_takeFrom 26 = .ok (.iaload, 1) := dk_46 (dk_at dksX5_takeFrom_1 4 rfl rfl)
theorem dX5_takeFrom_27 : decode cX5_takeFrom 27 = .ok (.iastore, 1) := dk_79 (dk_at dksX5_takeFrom_1 5 rfl rfl)
theorem dX5_takeFrom_28 : decode cX5_takeFrom 28 = .ok (.aload_n 0, 1) := dk_42 (dk_at dksX5_takeFrom_1 6 rfl rfl)
theorem dX5_takeFrom_29 : decode cX5_takeFrom 29 = .ok (.getfield 40, 3) := dk_180 0 40 (dk_at dksX5_takeFrom_1 7 rfl rfl)
theorem dX5_takeFrom_32 : decode cX5_takeFrom 32 = .ok (.iload_n 2, 1) := dk_28 (dk_at dksX5_takeFrom_1 10 rfl rfl)
theorem dX5_takeFrom_33 : decode cX5_takeFrom 33 = .ok (.aload_n 1, 1) := dk_43 (dk_at dksX5_takeFrom_1 11 rfl rfl)
theorem dX5_takeFrom_34 : decode cX5_takeFrom 34 = .ok (.getfield 40, 3) := dk_180 0 40 (dk_at dksX5_takeFrom_1 12 rfl rfl)
theorem dX5_takeFrom_37 : decode cX5_takeFrom 37 = .ok (.iload_n 2, 1) := dk_28 (dk_at dksX5_takeFrom_1 15 rfl rfl)
theorem dX5_takeFrom_38 : decode cX5_takeFrom 38 = .ok (.baload, 1) := dk_51 (dk_at dksX5_takeFrom_1 16 rfl rfl)
theorem dX5_takeFrom_39 : decode cX5_takeFrom 39 = .ok (.bastore, 1) := dk_84 (dk_at dksX5_takeFrom_1 17 rfl rfl)
theorem dX5_takeFrom_40 : decode cX5_takeFrom 40 = .ok (.aload_n 0, 1) := dk_42 (dk_at dksX5_takeFrom_1 18 rfl rfl)
theorem dX5_takeFrom_41 : decode cX5_takeFrom 41 = .ok (.getfield 44, 3) := dk_180 0 44 (dk_at dksX5_takeFrom_1 19 rfl rfl)
theorem dX5_takeFrom_44 : decode cX5_takeFrom 44 = .ok (.iload_n 2, 1) := dk_28 (dk_at dksX5_takeFrom_1 22 rfl rfl)
theorem dX5_takeFrom_45 : decode cX5_takeFrom 45 = .ok (.aload_n 1, 1) := dk_43 (dk_at dksX5_takeFrom_1 23 rfl rfl)
theorem dX5_takeFrom_46 : decode cX5_takeFrom 46 = .ok (.getfield 44, 3) := dk_180 0 44 (dk_at dksX5_takeFrom_2 0 rfl rfl)
theorem dX5_takeFrom_49 : decode cX5_takeFrom 49 = .ok (.iload_n 2, 1) := dk_28 (dk_at dksX5_takeFrom_2 3 rfl rfl)
theorem dX5_takeFrom_50 : decode cX5_takeFrom 50 = .ok (.baload, 1) := dk_51 (dk_at dksX5_takeFrom_2 4 rfl rfl)
theorem dX5_takeFrom_51 : decode cX5_takeFrom 51 = .ok (.bastore, 1) := dk_84 (dk_at dksX5_takeFrom_2 5 rfl rfl)
theorem dX5_takeFrom_52 : decode cX5_takeFrom 52 = .ok (.aload_n 0, 1) := dk_42 (dk_at dksX5_takeFrom_2 6 rfl rfl)
theorem dX5_takeFrom_53 : decode cX5_takeFrom 53 = .ok (.getfield 47, 3) := dk_180 0 47 (dk_at dksX5_takeFrom_2 7 rfl rfl)
theorem dX5_takeFrom_56 : decode cX5_takeFrom 56 = .ok (.iload_n 2, 1) := dk_28 (dk_at dksX5_takeFrom_2 10 rfl rfl)
theorem dX5_takeFrom_57 : decode cX5_takeFrom 57 = .ok (.aload_n 1, 1) := dk_43 (dk_at dksX5_takeFrom_2 11 rfl rfl)
theorem dX5_takeFrom_58 : decode cX5_takeFrom 58 = .ok (.getfield 47, 3) := dk_180 0 47 (dk_at dksX5_takeFrom_2 12 rfl rfl)
theorem dX5_takeFrom_61 : decode cX5_takeFrom 61 = .ok (.iload_n 2, 1) := dk_28 (dk_at dksX5_takeFrom_2 15 rfl rfl)
theorem dX5_takeFrom_62 : decode cX5_takeFrom 62 = .ok (.baload, 1) := dk_51 (dk_at dksX5_takeFrom_2 16 rfl rfl)
theorem dX5_takeFrom_63 : decode cX5_takeFrom 63 = .ok (.bastore, 1) := dk_84 (dk_at dksX5_takeFrom_2 17 rfl rfl)
theorem dX5_takeFrom_64 : decode cX5_takeFrom 64 = .ok (.iinc 2 1, 3) := dk_132 2 1 (dk_at dksX5_takeFrom_2 18 rfl rfl)
theorem dX5_takeFrom_67 : decode cX5_takeFrom 67 = .ok (.goto (-57), 3) := dk_167 255 199 (dk_at dksX5_takeFrom_2 21 rfl rfl)
theorem dX5_takeFrom_70 : decode cX5_takeFrom 70 = .ok (.aload_n 0, 1) := dk_42 (dk_at dksX5_takeFrom_3 0 rfl rfl)
theorem dX5_takeFrom_71 : decode cX5_takeFrom 71 = .ok (.aload_n 1, 1) := dk_43 (dk_at dksX5_takeFrom_3 1 rfl rfl)
theorem dX5_takeFrom_72 : decode cX5_takeFrom 72 = .ok (.getfield 84, 3) := dk_180 0 84 (dk_at dksX5_takeFrom_3 2 rfl rfl)
theorem dX5_takeFrom_75 : decode cX5_takeFrom 75 = .ok (.putfield 84, 3) := dk_181 0 84 (dk_at dksX5_takeFrom_3 5 rfl rfl)
theorem dX5_takeFrom_78 : decode cX5_takeFrom 78 = .ok (.iconst 0, 1) := dk_3 (dk_at dksX5_takeFrom_3 8 rfl rfl)
theorem dX5_takeFrom_79 : decode cX5_takeFrom 79 = .ok (.istore_n 2, 1) := dk_61 (dk_at dksX5_takeFrom_3 9 rfl rfl)
theorem dX5_takeFrom_80 : decode cX5_takeFrom 80 = .ok (.iload_n 2, 1) := dk_28 (dk_at dksX5_takeFrom_3 10 rfl rfl)
theorem dX5_takeFrom_81 : decode cX5_takeFrom 81 = .ok (.bipush 6, 2) := dk_16 6 (dk_at dksX5_takeFrom_3 11 rfl rfl)
theorem dX5_takeFrom_83 : decode cX5_takeFrom 83 = .ok (.if_icmp .ge 33, 3) := dk_162 0 33 (dk_at dksX5_takeFrom_3 13 rfl rfl)
theorem dX5_takeFrom_86 : decode cX5_takeFrom 86 = .ok (.aload_n 0, 1) := dk_42 (dk_at dksX5_takeFrom_3 16 rfl rfl)
theorem dX5_takeFrom_87 : decode cX5_takeFrom 87 = .ok (.getfield 50, 3) := dk_180 0 50 (dk_at dksX5_takeFrom_3 17 rfl rfl)
theorem dX5_takeFrom_90 : decode cX5_takeFrom 90 = .ok (.iload_n 2, 1) := dk_28 (dk_at dksX5_takeFrom_3 20 rfl rfl)
theorem dX5_takeFrom_91 : decode cX5_takeFrom 91 = .ok (.aload_n 1, 1) := dk_43 (dk_at dksX5_takeFrom_3 21 rfl rfl)
theorem dX5_takeFrom_92 : decode cX5_takeFrom 92 = .ok (.getfield 50, 3) := dk_180 0 50 (dk_at dksX5_takeFrom_4 0 rfl rfl)
theorem dX5_takeFrom_95 : decode cX5_takeFrom 95 = .ok (.iload_n 2, 1) := dk_28 (dk_at dksX5_takeFrom_4 3 rfl rfl)
theorem dX5_takeFrom_96 : decode cX5_takeFrom 96 = .ok (.iaload, 1) := dk_46 (dk_at dksX5_takeFrom_4 4 rfl rfl)
theorem dX5_takeFrom_97 : decode cX5_takeFrom 97 = .ok (.iastore, 1) := dk_79 (dk_at dksX5_takeFrom_4 5 rfl rfl)
theorem dX5_takeFrom_98 : decode cX5_takeFrom 98 = .ok (.aload_n 0, 1) := dk_42 (dk_at dksX5_takeFrom_4 6 rfl rfl)
theorem dX5_takeFrom_99 : decode cX5_takeFrom 99 = .ok (.getfield 53, 3) := dk_180 0 53 (dk_at dksX5_takeFrom_4 7 rfl rfl)
theorem dX5_takeFrom_102 : decode cX5_takeFrom 102 = .ok (.iload_n 2, 1) := dk_28 (dk_at dksX5_takeFrom_4 10 rfl rfl)
theorem dX5_takeFrom_103 : decode cX5_takeFrom 103 = .ok (.aload_n 1, 1) := dk_43 (dk_at dksX5_takeFrom_4 11 rfl rfl)
theorem dX5_takeFrom_104 : decode cX5_takeFrom 104 = .ok (.getfield 53, 3) := dk_180 0 53 (dk_at dksX5_takeFrom_4 12 rfl rfl)
theorem dX5_takeFrom_107 : decode cX5_takeFrom 107 = .ok (.iload_n 2, 1) := dk_28 (dk_at dksX5_takeFrom_4 15 rfl rfl)
theorem dX5_takeFrom_108 : decode cX5_takeFrom 108 = .ok (.iaload, 1) := dk_46 (dk_at dksX5_takeFrom_4 16 rfl rfl)
theorem dX5_takeFrom_109 : decode cX5_takeFrom 109 = .ok (.iastore, 1) := dk_79 (dk_at dksX5_takeFrom_4 17 rfl rfl)
theorem dX5_takeFrom_110 : decode cX5_takeFrom 110 = .ok (.iinc 2 1, 3) := dk_132 2 1 (dk_at dksX5_takeFrom_4 18 rfl rfl)
theorem dX5_takeFrom_113 : decode cX5_takeFrom 113 = .ok (.goto (-33), 3) := dk_167 255 223 (dk_at dksX5_takeFrom_4 21 rfl rfl)
theorem dX5_takeFrom_116 : decode cX5_takeFrom 116 = .ok (.iconst 0, 1) := dk_3 (dk_at dksX5_takeFrom_5 0 rfl rfl)
theorem dX5_takeFrom_117 : decode cX5_takeFrom 117 = .ok (.istore_n 2, 1) := dk_61 (dk_at dksX5_takeFrom_5 1 rfl rfl)
theorem dX5_takeFrom_118 : decode cX5_takeFrom 118 = .ok (.iload_n 2, 1) := dk_28 (dk_at dksX5_takeFrom_5 2 rfl rfl)
theorem dX5_takeFrom_119 : decode cX5_takeFrom 119 = .ok (.bipush 10, 2) := dk_16 10 (dk_at dksX5_takeFrom_5 3 rfl rfl)
theorem dX5_takeFrom_121 : decode cX5_takeFrom 121 = .ok (.if_icmp .ge 21, 3) := dk_162 0 21 (dk_at dksX5_takeFrom_5 5 rfl rfl)
theorem dX5_takeFrom_124 : decode cX5_takeFrom 124 = .ok (.aload_n 0, 1) := dk_42 (dk_at dksX5_takeFrom_5 8 rfl rfl)
theorem dX5_takeFrom_125 : decode cX5_takeFrom 125 = .ok (.getfield 56, 3) := dk_180 0 56 (dk_at dksX5_takeFrom_5 9 rfl rfl)
theorem dX5_takeFrom_128 : decode cX5_takeFrom 128 = .ok (.iload_n 2, 1) := dk_28 (dk_at dksX5_takeFrom_5 12 rfl rfl)
theorem dX5_takeFrom_129 : decode cX5_takeFrom 129 = .ok (.aload_n 1, 1) := dk_43 (dk_at dksX5_takeFrom_5 13 rfl rfl)
theorem dX5_takeFrom_130 : decode cX5_takeFrom 130 = .ok (.getfield 56, 3) := dk_180 0 56 (dk_at dksX5_takeFrom_5 14 rfl rfl)
theorem dX5_takeFrom_133 : decode cX5_takeFrom 133 = .ok (.iload_n 2, 1) := dk_28 (dk_at dksX5_takeFrom_5 17 rfl rfl)
theorem dX5_takeFrom_134 : decode cX5_takeFrom 134 = .ok (.iaload, 1) := dk_46 (dk_at dksX5_takeFrom_5 18 rfl rfl)
theorem dX5_takeFrom_135 : decode cX5_takeFrom 135 = .ok (.iastore, 1) := dk_79 (dk_at dksX5_takeFrom_5 19 rfl rfl)
theorem dX5_takeFrom_136 : decode cX5_takeFrom 136 = .ok (.iinc 2 1, 3) := dk_132 2 1 (dk_at dksX5_takeFrom_5 20 rfl rfl)
theorem dX5_takeFrom_139 : decode cX5_takeFrom 139 = .ok (.goto (-21), 3) := dk_167 255 235 (dk_at dksX5_takeFrom_6 0 rfl rfl)
theorem dX5_takeFrom_142 : decode cX5_takeFrom 142 = .ok (.aload_n 0, 1) := dk_42 (dk_at dksX5_takeFrom_6 3 rfl rfl)
theorem dX5_takeFrom_143 : decode cX5_takeFrom 143 = .ok (.aload_n 1, 1) := dk_43 (dk_at dksX5_takeFrom_6 4 rfl rfl)
theorem dX5_takeFrom_144 : decode cX5_takeFrom 144 = .ok (.getfield 335, 3) := dk_180 1 79 (dk_at dksX5_takeFrom_6 5 rfl rfl)
theorem dX5_takeFrom_147 : decode cX5_takeFrom 147 = .ok (.putfield 335, 3) := dk_181 1 79 (dk_at dksX5_takeFrom_6 8 rfl rfl)
theorem dX5_takeFrom_150 : decode cX5_takeFrom 150 = .ok (.aload_n 0, 1) := dk_42 (dk_at dksX5_takeFrom_6 11 rfl rfl)
theorem dX5_takeFrom_151 : decode cX5_takeFrom 151 = .ok (.aload_n 1, 1) := dk_43 (dk_at dksX5_takeFrom_6 12 rfl rfl)
theorem dX5_takeFrom_152 : decode cX5_takeFrom 152 = .ok (.getfield 338, 3) := dk_180 1 82 (dk_at dksX5_takeFrom_6 13 rfl rfl)
theorem dX5_takeFrom_155 : decode cX5_takeFrom 155 = .ok (.putfield 338, 3) := dk_181 1 82 (dk_at dksX5_takeFrom_6 16 rfl rfl)
theorem dX5_takeFrom_158 : decode cX5_takeFrom 158 = .ok (.aload_n 0, 1) := dk_42 (dk_at dksX5_takeFrom_6 19 rfl rfl)
theorem dX5_takeFrom_159 : decode cX5_takeFrom 159 = .ok (.aload_n 1, 1) := dk_43 (dk_at dksX5_takeFrom_6 20 rfl rfl)
theorem dX5_takeFrom_160 : decode cX5_takeFrom 160 = .ok (.getfield 325, 3) := dk_180 1 69 (dk_at dksX5_takeFrom_6 21 rfl rfl)
theorem dX5_takeFrom_163 : decode cX5_takeFrom 163 = .ok (.putfield 325, 3) := dk_181 1 69 (dk_at dksX5_takeFrom_7 0 rfl rfl)
theorem dX5_takeFrom_166 : decode cX5_takeFrom 166 = .ok (.aload_n 0, 1) := dk_42 (dk_at dksX5_takeFrom_7 3 rfl rfl)
theorem dX5_takeFrom_167 : decode cX5_takeFrom 167 = .ok (.aload_n 1, 1) := dk_43 (dk_at dksX5_takeFrom_7 4 rfl rfl)
theorem dX5_takeFrom_168 : decode cX5_takeFrom 168 = .ok (.getfield 59, 3) := dk_180 0 59 (dk_at dksX5_takeFrom_7 5 rfl rfl)
theorem dX5_takeFrom_171 : decode cX5_takeFrom 171 = .ok (.putfield 59, 3) := dk_181 0 59 (dk_at dksX5_takeFrom_7 8 rfl rfl)
theorem dX5_takeFrom_174 : decode cX5_takeFrom 174 = .ok (.return_, 1) := dk_177 (dk_at dksX5_takeFrom_7 11 rfl rfl)
abbrev cX5_readAll : ByteArray := prog_18_method_36_code
def yX5_readAll : MethodName := ⟨RX5, "readAll", "()Z"⟩
def dkwX5_readAll_2 : List UInt8 := [182, 0, 235, 154, 0, 5, 3, 172, 42, 89, 180, 0, 232, 4, 96, 181, 0, 232, 167, 255, 213, 4, 172]
abbrev dktX5_readAll_2 : List UInt8 := dkwX5_readAll_2 ++ []
def dkwX5_readAll_1 : List UInt8 := [180, 0, 156, 153, 0, 42, 42, 180, 0, 156, 6, 159, 0, 8, 42, 182, 0, 179, 172, 42, 182, 0, 186, 42]
abbrev dktX5_readAll_1 : List UInt8 := dkwX5_readAll_1 ++ dktX5_readAll_2
def dkwX5_readAll_0 : List UInt8 := [42, 4, 181, 0, 232, 42, 3, 181, 0, 147, 42, 182, 0, 186, 42, 182, 0, 235, 154, 0, 5, 3, 172, 42]
abbrev dktX5_readAll_0 : List UInt8 := dkwX5_readAll_0 ++ dktX5_readAll_1
theorem dksX5_readAll_0 : cX5_readAll.data.toList.drop 0 = dktX5_readAll_0 := by decide +kernel
theorem dksX5_readAll_1 : cX5_readAll.data.toList.drop 24 = dktX5_readAll_1 := dk_seg dksX5_readAll_0 24 rfl rfl
theorem dksX5_readAll_2 : cX5_readAll.data.toList.drop 48 = dktX5_readAll_2 := dk_seg dksX5_readAll_1 24 rfl rfl
theorem dX5_readAll_0 : decode cX5_readAll 0 = .ok (.aload_n 0, 1) := dk_42 (dk_at dksX5_readAll_0 0 rfl rfl)
theorem dX5_readAll_1 : decode cX5_readAll 1 = .ok (.iconst 1, 1) := dk_4 (dk_at dksX5_readAll_0 1 rfl rfl)
theorem dX5_readAll_2 : decode cX5_readAll 2 = .ok (.putfield 232, 3) := dk_181 0 232 (dk_at dksX5_readAll_0 2 rfl rfl)
theorem dX5_readAll_5 : decode cX5_readAll 5 = .ok (.aload_n 0, 1) := dk_42 (dk_at dksX5_readAll_0 5 rfl rfl)
theorem dX5_readAll_6 : decode cX5_readAll 6 = .ok (.iconst 0, 1) := dk_3 (dk_at dksX5_readAll_0 6 rfl rfl)
theorem dX5_readAll_7 : decode cX5_readAll 7 = .ok (.putfield 147, 3) := dk_181 0 147 (dk_at dksX5_readAll_0 7 rfl rfl)
theorem dX5_readAll_10 : decode cX5_readAll 10 = .ok (.aload_n 0, 1) := dk_42 (dk_at dksX5_readAll_0 10 rfl rfl)
theorem dX5_readAll_11 : decode cX5_readAll 11 = .ok (.invokevirtual 186, 3) := dk_182 0 186 (dk_at dksX5_readAll_0 11 rfl rfl)
theorem dX5_readAll_14 : decode cX5_readAll 14 = .ok (.aload_n 0, 1) := dk_42 (dk_at dksX5_readAll_0 14 rfl rfl)
theorem dX5_readAll_15 : decode cX5_readAll 15 = .ok (.invokevirtual 235, 3) := dk_182 0 235 (dk_at dksX5_readAll_0 15 rfl rfl)
theorem dX5_readAll_18 : decode cX5_readAll 18 = .ok (.ifCond .ne 5, 3) := dk_154 0 5 (dk_at dksX5_readAll_0 18 rfl rfl)
theorem dX5_readAll_21 : decode cX5_readAll 21 = .ok (.iconst 0, 1) := dk_3 (dk_at dksX5_readAll_0 21 rfl rfl)
theorem dX5_readAll_22 : decode cX5_readAll 22 = .ok (.ireturn, 1) := dk_172 (dk_at dksX5_readAll_0 22 rfl rfl)
theorem dX5_readAll_23 : decode cX5_readAll 23 = .ok (.aload_n 0, 1) := dk_42 (dk_at dksX5_readAll_0 23 rfl rfl)
theorem dX5_readAll_24 : decode cX5_readAll 24 = .ok (.getfield 156, 3) := dk_180 0 156 (dk_at dksX5_readAll_1 0 rfl rfl)
theorem dX5_readAll_27 : decode cX5_readAll 27 = .ok (.ifCond .eq 42, 3) := dk_153 0 42 (dk_at dksX5_readAll_1 3 rfl rfl)
theorem dX5_readAll_30 : decode cX5_readAll 30 = .ok (.aload_n 0, 1) := dk_42 (dk_at dksX5_readAll_1 6 rfl rfl)
theorem dX5_readAll_31 : decode cX5_readAll 31 = .ok (.getfield 156, 3) := dk_180 0 156 (dk_at dksX5_readAll_1 7 rfl rfl)
theorem dX5_readAll_34 : decode cX5_readAll 34 = .ok (.iconst 3, 1) := dk_6 (dk_at dksX5_readAll_1 10 rfl rfl)
theorem dX5_readAll_35 : decode cX5_readAll 35 = .ok (.if_icmp .eq 8, 3) := dk_159 0 8 (dk_at dksX5_readAll_1 11 rfl rfl)
theorem dX5_readAll_38 : decode cX5_readAll 38 = .ok (.aload_n 0, 1) := dk_42 (dk_at dksX5_readAll_1 14 rfl rfl)
theorem dX5_readAll_39 : decode cX5_readAll 39 = .ok (.invokevirtual 179, 3) := dk_182 0 179 (dk_at dksX5_readAll_1 15 rfl rfl)
theorem dX5_readAll_42 : decode cX5_readAll 42 = .ok (.ireturn, 1) := dk_172 (dk_at dksX5_readAll_1 18 rfl rfl)
theorem dX5_readAll_43 : decode cX5_readAll 43 = .ok (.aload_n 0, 1) := dk_42 (dk_at dksX5_readAll_1 19 rfl rfl)
theorem dX5_readAll_44 : decode cX5_readAll 44 = .ok (.invokevirtual 186, 3) := dk_182 0 186 (dk_at dksX5_readAll_1 20 rfl rfl)
theorem dX5_readAll_47 : decode cX5_readAll 47 = .ok (.aload_n 0, 1) := dk_42 (dk_at dksX5_readAll_1 23 rfl rfl)
theorem dX5_readAll_48 : decode cX5_readAll 48 = .ok (.invokevirtual 235, 3) := dk_182 0 235 (dk_at dksX5_readAll_2 0 rfl rfl)
theorem dX5_readAll_51 : decode cX5_readAll 51 = .ok (.ifCond .ne 5, 3) := dk_154 0 5 (dk_at dksX5_readAll_2 3 rfl rfl)
theorem dX5_readAll_54 : decode cX5_readAll 54 = .ok (.iconst 0, 1) := dk_3 (dk_at dksX5_readAll_2 6 rfl rfl)
theorem dX5_readAll_55 : decode cX5_readAll 55 = .ok (.ireturn, 1) := dk_172 (dk_at dksX5_readAll_2 7 rfl rfl)
theorem dX5_readAll_56 : decode cX5_readAll 56 = .ok (.aload_n 0, 1) := dk_42 (dk_at dksX5_readAll_2 8 rfl rfl)
theorem dX5_readAll_57 : decode cX5_readAll 57 = .ok (.dup, 1) := dk_89 (dk_at dksX5_readAll_2 9 rfl rfl)
theorem dX5_readAll_58 : decode cX5_readAll 58 = .ok (.getfield 232, 3) := dk_180 0 232 (dk_at dksX5_readAll_2 10 rfl rfl)
theorem dX5_readAll_61 : decode cX5_readAll 61 = .ok (.iconst 1, 1) := dk_4 (dk_at dksX5_readAll_2 13 rfl rfl)
theorem dX5_readAll_62 : decode cX5_readAll 62 = .ok (.iadd, 1) := dk_96 (dk_at dksX5_readAll_2 14 rfl rfl)
theorem dX5_readAll_63 : decode cX5_readAll 63 = .ok (.putfield 232, 3) := dk_181 0 232 (dk_at dksX5_readAll_2 15 rfl rfl)
theorem dX5_readAll_66 : decode cX5_readAll 66 = .ok (.goto (-43), 3) := dk_167 255 213 (dk_at dksX5_readAll_2 18 rfl rfl)
theorem dX5_readAll_69 : decode cX5_readAll 69 = .ok (.iconst 1, 1) := dk_4 (dk_at dksX5_readAll_2 21 rfl rfl)
theorem dX5_readAll_70 : decode cX5_readAll 70 = .ok (.ireturn, 1) := dk_172 (dk_at dksX5_readAll_2 22 rfl rfl)
abbrev cX5_look : ByteArray := prog_18_method_27_code
def yX5_look : MethodName := ⟨RX5, "look", "()V"⟩
def dkwX5_look_11 : List UInt8 := [181, 0, 147, 177]
abbrev dktX5_look_11 : List UInt8 := dkwX5_look_11 ++ []
def dkwX5_look_10 : List UInt8 := [180, 0, 147, 46, 16, 59, 160, 0, 7, 6, 167, 0, 4, 7, 181, 0, 156, 42, 89, 180, 0, 147, 4, 96]
abbrev dktX5_look_10 : List UInt8 := dkwX5_look_10 ++ dktX5_look_11
def dkwX5_look_9 : List UInt8 := [18, 165, 181, 0, 153, 42, 89, 180, 0, 147, 4, 96, 181, 0, 147, 167, 255, 178, 42, 42, 180, 0, 31, 42]
abbrev dktX5_look_9 : List UInt8 := dkwX5_look_9 ++ dktX5_look_10
def dkwX5_look_8 : List UInt8 := [42, 180, 0, 153, 16, 10, 104, 42, 180, 0, 31, 42, 180, 0, 147, 46, 96, 16, 48, 100, 167, 0, 5]
abbrev dktX5_look_8 : List UInt8 := dkwX5_look_8 ++ dktX5_look_9
def dkwX5_look_7 : List UInt8 := [180, 0, 147, 46, 184, 0, 162, 153, 0, 91, 42, 42, 180, 0, 147, 42, 180, 0, 150, 100, 6, 162, 0, 26]
abbrev dktX5_look_7 : List UInt8 := dkwX5_look_7 ++ dktX5_look_8
def dkwX5_look_6 : List UInt8 := [153, 0, 89, 42, 5, 181, 0, 156, 42, 180, 0, 147, 42, 180, 0, 144, 162, 0, 106, 42, 180, 0, 31, 42]
abbrev dktX5_look_6 : List UInt8 := dkwX5_look_6 ++ dktX5_look_7
def dkwX5_look_5 : List UInt8 := [180, 0, 147, 4, 96, 181, 0, 147, 167, 255, 220, 42, 180, 0, 31, 42, 180, 0, 147, 46, 184, 0, 162]
abbrev dktX5_look_5 : List UInt8 := dkwX5_look_5 ++ dktX5_look_6
def dkwX5_look_4 : List UInt8 := [42, 180, 0, 144, 162, 0, 165, 42, 180, 0, 31, 42, 180, 0, 147, 46, 184, 0, 159, 153, 0, 150, 42, 89]
abbrev dktX5_look_4 : List UInt8 := dkwX5_look_4 ++ dktX5_look_5
def dkwX5_look_3 : List UInt8 := [42, 180, 0, 31, 42, 180, 0, 147, 46, 184, 0, 159, 153, 0, 47, 42, 4, 181, 0, 156, 42, 180, 0, 147]
abbrev dktX5_look_3 : List UInt8 := dkwX5_look_3 ++ dktX5_look_4
def dkwX5_look_2 : List UInt8 := [42, 3, 181, 0, 153, 42, 180, 0, 147, 42, 180, 0, 144, 160, 0, 11, 42, 3, 181, 0, 156, 167, 0, 196]
abbrev dktX5_look_2 : List UInt8 := dkwX5_look_2 ++ dktX5_look_3
def dkwX5_look_1 : List UInt8 := [160, 0, 16, 42, 89, 180, 0, 147, 4, 96, 181, 0, 147, 167, 255, 221, 42, 42, 180, 0, 147, 181, 0, 150]
abbrev dktX5_look_1 : List UInt8 := dkwX5_look_1 ++ dktX5_look_2
def dkwX5_look_0 : List UInt8 := [42, 180, 0, 147, 42, 180, 0, 144, 162, 0, 30, 42, 180, 0, 31, 42, 180, 0, 147, 46, 16, 32]
abbrev dktX5_look_0 : List UInt8 := dkwX5_look_0 ++ dktX5_look_1
theorem dksX5_look_0 : cX5_look.data.toList.drop 0 = dktX5_look_0 := by decide +kernel
theorem dksX5_look_1 : cX5_look.data.toList.drop 22 = dktX5_look_1 := dk_seg dksX5_look_0 22 rfl rfl
theorem dksX5_look_2 : cX5_look.data.toList.drop 46 = dktX5_look_2 := dk_seg dksX5_look_1 24 rfl rfl
theorem dksX5_look_3 : cX5_look.data.toList.drop 70 = dktX5_look_3 := dk_seg dksX5_look_2 24 rfl rfl
theorem dksX5_look_4 : cX5_look.data.toList.drop 94 = dktX5_look_4 := dk_seg dksX5_look_3 24 rfl rfl
theorem dksX5_look_5 : cX5_look.data.toList.drop 118 = dktX5_look_5 := dk_seg dksX5_look_4 24 rfl rfl
theorem dksX5_look_6 : cX5_look.data.toList.drop 141 = dktX5_look_6 := dk_seg dksX5_look_5 23 rfl rfl
theorem dksX5_look_7 : cX5_look.data.toList.drop 165 = dktX5_look_7 := dk_seg dksX5_look_6 24 rfl rfl
theorem dksX5_look_8 : cX5_look.data.toList.drop 189 = dktX5_look_8 := dk_seg dksX5_look_7 24 rfl rfl
theorem dksX5_look_9 : cX5_look.data.toList.drop 212 = dktX5_look_9 := dk_seg dksX5_look_8 23 rfl rfl
theorem dksX5_look_10 : cX5_look.data.toList.drop 236 = dktX5_look_10 := dk_seg dksX5_look_9 24 rfl rfl
theorem dksX5_look_11 : cX5_look.data.toList.drop 260 = dktX5_look_11 := dk_seg dksX5_look_10 24 rfl rfl
theorem dX5_look_0 : decode cX5_look 0 = .ok (.aload_n 0, 1) := dk_42 (dk_at dksX5_look_0 0 rfl rfl)
theorem dX5_look_1 : decode cX5_look 1 = .ok (.getfield 147, 3) := dk_180 0 147 (dk_at dksX5_look_0 1 rfl rfl)
theorem dX5_look_4 : decode cX5_look 4 = .ok (.aload_n 0, 1) := dk_42 (dk_at dksX5_look_0 4 rfl rfl)
theorem dX5_look_5 : decode cX5_look 5 = .ok (.getfield 144, 3) := dk_180 0 144 (dk_at dksX5_look_0 5 rfl rfl)
theorem dX5_look_8 : decode cX5_look 8 = .ok (.if_icmp .ge 30, 3) := dk_162 0 30 (dk_at dksX5_look_0 8 rfl rfl)
theorem dX5_look_11 : decode cX5_look 11 = .ok (.aload_n 0, 1) := dk_42 (dk_at dksX5_look_0 11 rfl rfl)
theorem dX5_look_12 : decode cX5_look 12 = .ok (.getfield 31, 3) := dk_180 0 31 (dk_at dksX5_look_0 12 rfl rfl)
theorem dX5_look_15 : decode cX5_look 15 = .ok (.aload_n 0, 1) := dk_42 (dk_at dksX5_look_0 15 rfl rfl)
theorem dX5_look_16 : decode cX5_look 16 = .ok (.getfield 147, 3) := dk_180 0 147 (dk_at dksX5_look_0 16 rfl rfl)
theorem dX5_look_19 : decode cX5_look 19 = .ok (.iaload, 1) := dk_46 (dk_at dksX5_look_0 19 rfl rfl)
theorem dX5_look_20 : decode cX5_look 20 = .ok (.bipush 32, 2) := dk_16 32 (dk_at dksX5_look_0 20 rfl rfl)
theorem dX5_look_22 : decode cX5_look 22 = .ok (.if_icmp .ne 16, 3) := dk_160 0 16 (dk_at dksX5_look_1 0 rfl rfl)
theorem dX5_look_25 : decode cX5_look 25 = .ok (.aload_n 0, 1) := dk_42 (dk_at dksX5_look_1 3 rfl rfl)
theorem dX5_look_26 : decode cX5_look 26 = .ok (.dup, 1) := dk_89 (dk_at dksX5_look_1 4 rfl rfl)
theorem dX5_look_27 : decode cX5_look 27 = .ok (.getfield 147, 3) := dk_180 0 147 (dk_at dksX5_look_1 5 rfl rfl)
theorem dX5_look_30 : decode cX5_look 30 = .ok (.iconst 1, 1) := dk_4 (dk_at dksX5_look_1 8 rfl rfl)
theorem dX5_look_31 : decode cX5_look 31 = .ok (.iadd, 1) := dk_96 (dk_at dksX5_look_1 9 rfl rfl)
theorem dX5_look_32 : decode cX5_look 32 = .ok (.putfield 147, 3) := dk_181 0 147 (dk_at dksX5_look_1 10 rfl rfl)
theorem dX5_look_35 : decode cX5_look 35 = .ok (.goto (-35), 3) := dk_167 255 221 (dk_at dksX5_look_1 13 rfl rfl)
theorem dX5_look_38 : decode cX5_look 38 = .ok (.aload_n 0, 1) := dk_42 (dk_at dksX5_look_1 16 rfl rfl)
theorem dX5_look_39 : decode cX5_look 39 = .ok (.aload_n 0, 1) := dk_42 (dk_at dksX5_look_1 17 rfl rfl)
theorem dX5_look_40 : decode cX5_look 40 = .ok (.getfield 147, 3) := dk_180 0 147 (dk_at dksX5_look_1 18 rfl rfl)
theorem dX5_look_43 : decode cX5_look 43 = .ok (.putfield 150, 3) := dk_181 0 150 (dk_at dksX5_look_1 21 rfl rfl)
theorem dX5_look_46 : decode cX5_look 46 = .ok (.aload_n 0, 1) := dk_42 (dk_at dksX5_look_2 0 rfl rfl)
theorem dX5_look_47 : decode cX5_look 47 = .ok (.iconst 0, 1) := dk_3 (dk_at dksX5_look_2 1 rfl rfl)
theorem dX5_look_48 : decode cX5_look 48 = .ok (.putfield 153, 3) := dk_181 0 153 (dk_at dksX5_look_2 2 rfl rfl)
theorem dX5_look_51 : decode cX5_look 51 = .ok (.aload_n 0, 1) := dk_42 (dk_at dksX5_look_2 5 rfl rfl)
theorem dX5_look_52 : decode cX5_look 52 = .ok (.getfield 147, 3) := dk_180 0 147 (dk_at dksX5_look_2 6 rfl rfl)
theorem dX5_look_55 : decode cX5_look 55 = .ok (.aload_n 0, 1) := dk_42 (dk_at dksX5_look_2 9 rfl rfl)
theorem dX5_look_56 : decode cX5_look 56 = .ok (.getfield 144, 3) := dk_180 0 144 (dk_at dksX5_look_2 10 rfl rfl)
theorem dX5_look_59 : decode cX5_look 59 = .ok (.if_icmp .ne 11, 3) := dk_160 0 11 (dk_at dksX5_look_2 13 rfl rfl)
theorem dX5_look_62 : decode cX5_look 62 = .ok (.aload_n 0, 1) := dk_42 (dk_at dksX5_look_2 16 rfl rfl)
theorem dX5_look_63 : decode cX5_look 63 = .ok (.iconst 0, 1) := dk_3 (dk_at dksX5_look_2 17 rfl rfl)
theorem dX5_look_64 : decode cX5_look 64 = .ok (.putfield 156, 3) := dk_181 0 156 (dk_at dksX5_look_2 18 rfl rfl)
theorem dX5_look_67 : decode cX5_look 67 = .ok (.goto 196, 3) := dk_167 0 196 (dk_at dksX5_look_2 21 rfl rfl)
theorem dX5_look_70 : decode cX5_look 70 = .ok (.aload_n 0, 1) := dk_42 (dk_at dksX5_look_3 0 rfl rfl)
theorem dX5_look_71 : decode cX5_look 71 = .ok (.getfield 31, 3) := dk_180 0 31 (dk_at dksX5_look_3 1 rfl rfl)
theorem dX5_look_74 : decode cX5_look 74 = .ok (.aload_n 0, 1) := dk_42 (dk_at dksX5_look_3 4 rfl rfl)
theorem dX5_look_75 : decode cX5_look 75 = .ok (.getfield 147, 3) := dk_180 0 147 (dk_at dksX5_look_3 5 rfl rfl)
theorem dX5_look_78 : decode cX5_look 78 = .ok (.iaload, 1) := dk_46 (dk_at dksX5_look_3 8 rfl rfl)
theorem dX5_look_79 : decode cX5_look 79 = .ok (.invokestatic 159, 3) := dk_184 0 159 (dk_at dksX5_look_3 9 rfl rfl)
theorem dX5_look_82 : decode cX5_look 82 = .ok (.ifCond .eq 47, 3) := dk_153 0 47 (dk_at dksX5_look_3 12 rfl rfl)
theorem dX5_look_85 : decode cX5_look 85 = .ok (.aload_n 0, 1) := dk_42 (dk_at dksX5_look_3 15 rfl rfl)
theorem dX5_look_86 : decode cX5_look 86 = .ok (.iconst 1, 1) := dk_4 (dk_at dksX5_look_3 16 rfl rfl)
theorem dX5_look_87 : decode cX5_look 87 = .ok (.putfield 156, 3) := dk_181 0 156 (dk_at dksX5_look_3 17 rfl rfl)
theorem dX5_look_90 : decode cX5_look 90 = .ok (.aload_n 0, 1) := dk_42 (dk_at dksX5_look_3 20 rfl rfl)
theorem dX5_look_91 : decode cX5_look 91 = .ok (.getfield 147, 3) := dk_180 0 147 (dk_at dksX5_look_3 21 rfl rfl)
theorem dX5_look_94 : decode cX5_look 94 = .ok (.aload_n 0, 1) := dk_42 (dk_at dksX5_look_4 0 rfl rfl)
theorem dX5_look_95 : decode cX5_look 95 = .ok (.getfield 144, 3) := dk_180 0 144 (dk_at dksX5_look_4 1 rfl rfl)
theorem dX5_look_98 : decode cX5_look 98 = .ok (.if_icmp .ge 165, 3) := dk_162 0 165 (dk_at dksX5_look_4 4 rfl rfl)
theorem dX5_look_101 : decode cX5_look 101 = .ok (.aload_n 0, 1) := dk_42 (dk_at dksX5_look_4 7 rfl rfl)
theorem dX5_look_102 : decode cX5_look 102 = .ok (.getfield 31, 3) := dk_180 0 31 (dk_at dksX5_look_4 8 rfl rfl)
theorem dX5_look_105 : decode cX5_look 105 = .ok (.aload_n 0, 1) := dk_42 (dk_at dksX5_look_4 11 rfl rfl)
theorem dX5_look_106 : decode cX5_look 106 = .ok (.getfield 147, 3) := dk_180 0 147 (dk_at dksX5_look_4 12 rfl rfl)
theorem dX5_look_109 : decode cX5_look 109 = .ok (.iaload, 1) := dk_46 (dk_at dksX5_look_4 15 rfl rfl)
theorem dX5_look_110 : decode cX5_look 110 = .ok (.invokestatic 159, 3) := dk_184 0 159 (dk_at dksX5_look_4 16 rfl rfl)
theorem dX5_look_113 : decode cX5_look 113 = .ok (.ifCond .eq 150, 3) := dk_153 0 150 (dk_at dksX5_look_4 19 rfl rfl)
theorem dX5_look_116 : decode cX5_look 116 = .ok (.aload_n 0, 1) := dk_42 (dk_at dksX5_look_4 22 rfl rfl)
theorem dX5_look_117 : decode cX5_look 117 = .ok (.dup, 1) := dk_89 (dk_at dksX5_look_4 23 rfl rfl)
theorem dX5_look_118 : decode cX5_look 118 = .ok (.getfield 147, 3) := dk_180 0 147 (dk_at dksX5_look_5 0 rfl rfl)
theorem dX5_look_121 : decode cX5_look 121 = .ok (.iconst 1, 1) := dk_4 (dk_at dksX5_look_5 3 rfl rfl)
theorem dX5_look_122 : decode cX5_look 122 = .ok (.iadd, 1) := dk_96 (dk_at dksX5_look_5 4 rfl rfl)
theorem dX5_look_123 : decode cX5_look 123 = .ok (.putfield 147, 3) := dk_181 0 147 (dk_at dksX5_look_5 5 rfl rfl)
theorem dX5_look_126 : decode cX5_look 126 = .ok (.goto (-36), 3) := dk_167 255 220 (dk_at dksX5_look_5 8 rfl rfl)
theorem dX5_look_129 : decode cX5_look 129 = .ok (.aload_n 0, 1) := dk_42 (dk_at dksX5_look_5 11 rfl rfl)
theorem dX5_look_130 : decode cX5_look 130 = .ok (.getfield 31, 3) := dk_180 0 31 (dk_at dksX5_look_5 12 rfl rfl)
theorem dX5_look_133 : decode cX5_look 133 = .ok (.aload_n 0, 1) := dk_42 (dk_at dksX5_look_5 15 rfl rfl)
theorem dX5_look_134 : decode cX5_look 134 = .ok (.getfield 147, 3) := dk_180 0 147 (dk_at dksX5_look_5 16 rfl rfl)
theorem dX5_look_137 : decode cX5_look 137 = .ok (.iaload, 1) := dk_46 (dk_at dksX5_look_5 19 rfl rfl)
theorem dX5_look_138 : decode cX5_look 138 = .ok (.invokestatic 162, 3) := dk_184 0 162 (dk_at dksX5_look_5 20 rfl rfl)
theorem dX5_look_141 : decode cX5_look 141 = .ok (.ifCond .eq 89, 3) := dk_153 0 89 (dk_at dksX5_look_6 0 rfl rfl)
theorem dX5_look_144 : decode cX5_look 144 = .ok (.aload_n 0, 1) := dk_42 (dk_at dksX5_look_6 3 rfl rfl)
theorem dX5_look_145 : decode cX5_look 145 = .ok (.iconst 2, 1) := dk_5 (dk_at dksX5_look_6 4 rfl rfl)
theorem dX5_look_146 : decode cX5_look 146 = .ok (.putfield 156, 3) := dk_181 0 156 (dk_at dksX5_look_6 5 rfl rfl)
theorem dX5_look_149 : decode cX5_look 149 = .ok (.aload_n 0, 1) := dk_42 (dk_at dksX5_look_6 8 rfl rfl)
theorem dX5_look_150 : decode cX5_look 150 = .ok (.getfield 147, 3) := dk_180 0 147 (dk_at dksX5_look_6 9 rfl rfl)
theorem dX5_look_153 : decode cX5_look 153 = .ok (.aload_n 0, 1) := dk_42 (dk_at dksX5_look_6 12 rfl rfl)
theorem dX5_look_154 : decode cX5_look 154 = .ok (.getfield 144, 3) := dk_180 0 144 (dk_at dksX5_look_6 13 rfl rfl)
theorem dX5_look_157 : decode cX5_look 157 = .ok (.if_icmp .ge 106, 3) := dk_162 0 106 (dk_at dksX5_look_6 16 rfl rfl)
theorem dX5_look_160 : decode cX5_look 160 = .ok (.aload_n 0, 1) := dk_42 (dk_at dksX5_look_6 19 rfl rfl)
theorem dX5_look_161 : decode cX5_look 161 = .ok (.getfield 31, 3) := dk_180 0 31 (dk_at dksX5_look_6 20 rfl rfl)
theorem dX5_look_164 : decode cX5_look 164 = .ok (.aload_n 0, 1) := dk_42 (dk_at dksX5_look_6 23 rfl rfl)
theorem dX5_look_165 : decode cX5_look 165 = .ok (.getfield 147, 3) := dk_180 0 147 (dk_at dksX5_look_7 0 rfl rfl)
theorem dX5_look_168 : decode cX5_look 168 = .ok (.iaload, 1) := dk_46 (dk_at dksX5_look_7 3 rfl rfl)
theorem dX5_look_169 : decode cX5_look 169 = .ok (.invokestatic 162, 3) := dk_184 0 162 (dk_at dksX5_look_7 4 rfl rfl)
theorem dX5_look_172 : decode cX5_look 172 = .ok (.ifCond .eq 91, 3) := dk_153 0 91 (dk_at dksX5_look_7 7 rfl rfl)
theorem dX5_look_175 : decode cX5_look 175 = .ok (.aload_n 0, 1) := dk_42 (dk_at dksX5_look_7 10 rfl rfl)
theorem dX5_look_176 : decode cX5_look 176 = .ok (.aload_n 0, 1) := dk_42 (dk_at dksX5_look_7 11 rfl rfl)
theorem dX5_look_177 : decode cX5_look 177 = .ok (.getfield 147, 3) := dk_180 0 147 (dk_at dksX5_look_7 12 rfl rfl)
theorem dX5_look_180 : decode cX5_look 180 = .ok (.aload_n 0, 1) := dk_42 (dk_at dksX5_look_7 15 rfl rfl)
theorem dX5_look_181 : decode cX5_look 181 = .ok (.getfield 150, 3) := dk_180 0 150 (dk_at dksX5_look_7 16 rfl rfl)
theorem dX5_look_184 : decode cX5_look 184 = .ok (.isub, 1) := dk_100 (dk_at dksX5_look_7 19 rfl rfl)
theorem dX5_look_185 : decode cX5_look 185 = .ok (.iconst 3, 1) := dk_6 (dk_at dksX5_look_7 20 rfl rfl)
theorem dX5_look_186 : decode cX5_look 186 = .ok (.if_icmp .ge 26, 3) := dk_162 0 26 (dk_at dksX5_look_7 21 rfl rfl)
theorem dX5_look_189 : decode cX5_look 189 = .ok (.aload_n 0, 1) := dk_42 (dk_at dksX5_look_8 0 rfl rfl)
theorem dX5_look_190 : decode cX5_look 190 = .ok (.getfield 153, 3) := dk_180 0 153 (dk_at dksX5_look_8 1 rfl rfl)
theorem dX5_look_193 : decode cX5_look 193 = .ok (.bipush 10, 2) := dk_16 10 (dk_at dksX5_look_8 4 rfl rfl)
theorem dX5_look_195 : decode cX5_look 195 = .ok (.imul, 1) := dk_104 (dk_at dksX5_look_8 6 rfl rfl)
theorem dX5_look_196 : decode cX5_look 196 = .ok (.aload_n 0, 1) := dk_42 (dk_at dksX5_look_8 7 rfl rfl)
theorem dX5_look_197 : decode cX5_look 197 = .ok (.getfield 31, 3) := dk_180 0 31 (dk_at dksX5_look_8 8 rfl rfl)
theorem dX5_look_200 : decode cX5_look 200 = .ok (.aload_n 0, 1) := dk_42 (dk_at dksX5_look_8 11 rfl rfl)
theorem dX5_look_201 : decode cX5_look 201 = .ok (.getfield 147, 3) := dk_180 0 147 (dk_at dksX5_look_8 12 rfl rfl)
theorem dX5_look_204 : decode cX5_look 204 = .ok (.iaload, 1) := dk_46 (dk_at dksX5_look_8 15 rfl rfl)
theorem dX5_look_205 : decode cX5_look 205 = .ok (.iadd, 1) := dk_96 (dk_at dksX5_look_8 16 rfl rfl)
theorem dX5_look_206 : decode cX5_look 206 = .ok (.bipush 48, 2) := dk_16 48 (dk_at dksX5_look_8 17 rfl rfl)
theorem dX5_look_208 : decode cX5_look 208 = .ok (.isub, 1) := dk_100 (dk_at dksX5_look_8 19 rfl rfl)
theorem dX5_look_209 : decode cX5_look 209 = .ok (.goto 5, 3) := dk_167 0 5 (dk_at dksX5_look_8 20 rfl rfl)
theorem dX5_look_212 : decode cX5_look 212 = .ok (.ldc 165, 2) := dk_18 165 (dk_at dksX5_look_9 0 rfl rfl)
theorem dX5_look_214 : decode cX5_look 214 = .ok (.putfield 153, 3) := dk_181 0 153 (dk_at dksX5_look_9 2 rfl rfl)
theorem dX5_look_217 : decode cX5_look 217 = .ok (.aload_n 0, 1) := dk_42 (dk_at dksX5_look_9 5 rfl rfl)
theorem dX5_look_218 : decode cX5_look 218 = .ok (.dup, 1) := dk_89 (dk_at dksX5_look_9 6 rfl rfl)
theorem dX5_look_219 : decode cX5_look 219 = .ok (.getfield 147, 3) := dk_180 0 147 (dk_at dksX5_look_9 7 rfl rfl)
theorem dX5_look_222 : decode cX5_look 222 = .ok (.iconst 1, 1) := dk_4 (dk_at dksX5_look_9 10 rfl rfl)
theorem dX5_look_223 : decode cX5_look 223 = .ok (.iadd, 1) := dk_96 (dk_at dksX5_look_9 11 rfl rfl)
theorem dX5_look_224 : decode cX5_look 224 = .ok (.putfield 147, 3) := dk_181 0 147 (dk_at dksX5_look_9 12 rfl rfl)
theorem dX5_look_227 : decode cX5_look 227 = .ok (.goto (-78), 3) := dk_167 255 178 (dk_at dksX5_look_9 15 rfl rfl)
theorem dX5_look_230 : decode cX5_look 230 = .ok (.aload_n 0, 1) := dk_42 (dk_at dksX5_look_9 18 rfl rfl)
theorem dX5_look_231 : decode cX5_look 231 = .ok (.aload_n 0, 1) := dk_42 (dk_at dksX5_look_9 19 rfl rfl)
theorem dX5_look_232 : decode cX5_look 232 = .ok (.getfield 31, 3) := dk_180 0 31 (dk_at dksX5_look_9 20 rfl rfl)
theorem dX5_look_235 : decode cX5_look 235 = .ok (.aload_n 0, 1) := dk_42 (dk_at dksX5_look_9 23 rfl rfl)
theorem dX5_look_236 : decode cX5_look 236 = .ok (.getfield 147, 3) := dk_180 0 147 (dk_at dksX5_look_10 0 rfl rfl)
theorem dX5_look_239 : decode cX5_look 239 = .ok (.iaload, 1) := dk_46 (dk_at dksX5_look_10 3 rfl rfl)
theorem dX5_look_240 : decode cX5_look 240 = .ok (.bipush 59, 2) := dk_16 59 (dk_at dksX5_look_10 4 rfl rfl)
theorem dX5_look_242 : decode cX5_look 242 = .ok (.if_icmp .ne 7, 3) := dk_160 0 7 (dk_at dksX5_look_10 6 rfl rfl)
theorem dX5_look_245 : decode cX5_look 245 = .ok (.iconst 3, 1) := dk_6 (dk_at dksX5_look_10 9 rfl rfl)
theorem dX5_look_246 : decode cX5_look 246 = .ok (.goto 4, 3) := dk_167 0 4 (dk_at dksX5_look_10 10 rfl rfl)
theorem dX5_look_249 : decode cX5_look 249 = .ok (.iconst 4, 1) := dk_7 (dk_at dksX5_look_10 13 rfl rfl)
theorem dX5_look_250 : decode cX5_look 250 = .ok (.putfield 156, 3) := dk_181 0 156 (dk_at dksX5_look_10 14 rfl rfl)
theorem dX5_look_253 : decode cX5_look 253 = .ok (.aload_n 0, 1) := dk_42 (dk_at dksX5_look_10 17 rfl rfl)
theorem dX5_look_254 : decode cX5_look 254 = .ok (.dup, 1) := dk_89 (dk_at dksX5_look_10 18 rfl rfl)
theorem dX5_look_255 : decode cX5_look 255 = .ok (.getfield 147, 3) := dk_180 0 147 (dk_at dksX5_look_10 19 rfl rfl)
theorem dX5_look_258 : decode cX5_look 258 = .ok (.iconst 1, 1) := dk_4 (dk_at dksX5_look_10 22 rfl rfl)
theorem dX5_look_259 : decode cX5_look 259 = .ok (.iadd, 1) := dk_96 (dk_at dksX5_look_10 23 rfl rfl)
theorem dX5_look_260 : decode cX5_look 260 = .ok (.putfield 147, 3) := dk_181 0 147 (dk_at dksX5_look_11 0 rfl rfl)
theorem dX5_look_263 : decode cX5_look 263 = .ok (.return_, 1) := dk_177 (dk_at dksX5_look_11 3 rfl rfl)
abbrev cX5_isLetter : ByteArray := prog_18_method_25_code
def yX5_isLetter : MethodName := ⟨RX5, "isLetter", "(I)Z"⟩
def dkwX5_isLetter_0 : List UInt8 := [26, 16, 97, 161, 0, 13, 26, 16, 122, 163, 0, 7, 4, 167, 0, 4, 3, 172]
abbrev dktX5_isLetter_0 : List UInt8 := dkwX5_isLetter_0 ++ []
theorem dksX5_isLetter_0 : cX5_isLetter.data.toList.drop 0 = dktX5_isLetter_0 := by decide +kernel
theorem dX5_isLetter_0 : decode cX5_isLetter 0 = .ok (.iload_n 0, 1) := dk_26 (dk_at dksX5_isLetter_0 0 rfl rfl)
theorem dX5_isLetter_1 : decode cX5_isLetter 1 = .ok (.bipush 97, 2) := dk_16 97 (dk_at dksX5_isLetter_0 1 rfl rfl)
theorem dX5_isLetter_3 : decode cX5_isLetter 3 = .ok (.if_icmp .lt 13, 3) := dk_161 0 13 (dk_at dksX5_isLetter_0 3 rfl rfl)
theorem dX5_isLetter_6 : decode cX5_isLetter 6 = .ok (.iload_n 0, 1) := dk_26 (dk_at dksX5_isLetter_0 6 rfl rfl)
theorem dX5_isLetter_7 : decode cX5_isLetter 7 = .ok (.bipush 122, 2) := dk_16 122 (dk_at dksX5_isLetter_0 7 rfl rfl)
theorem dX5_isLetter_9 : decode cX5_isLetter 9 = .ok (.if_icmp .gt 7, 3) := dk_163 0 7 (dk_at dksX5_isLetter_0 9 rfl rfl)
theorem dX5_isLetter_12 : decode cX5_isLetter 12 = .ok (.iconst 1, 1) := dk_4 (dk_at dksX5_isLetter_0 12 rfl rfl)
theorem dX5_isLetter_13 : decode cX5_isLetter 13 = .ok (.goto 4, 3) := dk_167 0 4 (dk_at dksX5_isLetter_0 13 rfl rfl)
theorem dX5_isLetter_16 : decode cX5_isLetter 16 = .ok (.iconst 0, 1) := dk_3 (dk_at dksX5_isLetter_0 16 rfl rfl)
theorem dX5_isLetter_17 : decode cX5_isLetter 17 = .ok (.ireturn, 1) := dk_172 (dk_at dksX5_isLetter_0 17 rfl rfl)
abbrev cX5_isDigit : ByteArray := prog_18_method_26_code
def yX5_isDigit : MethodName := ⟨RX5, "isDigit", "(I)Z"⟩
def dkwX5_isDigit_0 : List UInt8 := [26, 16, 48, 161, 0, 13, 26, 16, 57, 163, 0, 7, 4, 167, 0, 4, 3, 172]
abbrev dktX5_isDigit_0 : List UInt8 := dkwX5_isDigit_0 ++ []
theorem dksX5_isDigit_0 : cX5_isDigit.data.toList.drop 0 = dktX5_isDigit_0 := by decide +kernel
theorem dX5_isDigit_0 : decode cX5_isDigit 0 = .ok (.iload_n 0, 1) := dk_26 (dk_at dksX5_isDigit_0 0 rfl rfl)
theorem dX5_isDigit_1 : decode cX5_isDigit 1 = .ok (.bipush 48, 2) := dk_16 48 (dk_at dksX5_isDigit_0 1 rfl rfl)
theorem dX5_isDigit_3 : decode cX5_isDigit 3 = .ok (.if_icmp .lt 13, 3) := dk_161 0 13 (dk_at dksX5_isDigit_0 3 rfl rfl)
theorem dX5_isDigit_6 : decode cX5_isDigit 6 = .ok (.iload_n 0, 1) := dk_26 (dk_at dksX5_isDigit_0 6 rfl rfl)
theorem dX5_isDigit_7 : decode cX5_isDigit 7 = .ok (.bipush 57, 2) := dk_16 57 (dk_at dksX5_isDigit_0 7 rfl rfl)
theorem dX5_isDigit_9 : decode cX5_isDigit 9 = .ok (.if_icmp .gt 7, 3) := dk_163 0 7 (dk_at dksX5_isDigit_0 9 rfl rfl)
theorem dX5_isDigit_12 : decode cX5_isDigit 12 = .ok (.iconst 1, 1) := dk_4 (dk_at dksX5_isDigit_0 12 rfl rfl)
theorem dX5_isDigit_13 : decode cX5_isDigit 13 = .ok (.goto 4, 3) := dk_167 0 4 (dk_at dksX5_isDigit_0 13 rfl rfl)
theorem dX5_isDigit_16 : decode cX5_isDigit 16 = .ok (.iconst 0, 1) := dk_3 (dk_at dksX5_isDigit_0 16 rfl rfl)
theorem dX5_isDigit_17 : decode cX5_isDigit 17 = .ok (.ireturn, 1) := dk_172 (dk_at dksX5_isDigit_0 17 rfl rfl)
abbrev cX5_statement : ByteArray := prog_18_method_35_code
def yX5_statement : MethodName := ⟨RX5, "statement", "()Z"⟩
def dkwX5_statement_7 : List UInt8 := [154, 0, 5, 3, 172, 42, 180, 0, 47, 42, 180, 0, 183, 3, 84, 4, 172]
abbrev dktX5_statement_7 : List UInt8 := dkwX5_statement_7 ++ []
def dkwX5_statement_6 : List UInt8 := [153, 0, 11, 42, 18, 228, 6, 182, 0, 220, 172, 42, 18, 230, 3, 42, 180, 0, 77, 4, 100, 182, 0, 198]
abbrev dktX5_statement_6 : List UInt8 := dkwX5_statement_6 ++ dktX5_statement_7
def dkwX5_statement_5 : List UInt8 := [42, 18, 226, 182, 0, 189, 153, 0, 11, 42, 18, 226, 5, 182, 0, 220, 172, 42, 18, 228, 182, 0, 189]
abbrev dktX5_statement_5 : List UInt8 := dkwX5_statement_5 ++ dktX5_statement_6
def dkwX5_statement_4 : List UInt8 := [18, 218, 3, 182, 0, 220, 172, 42, 18, 224, 182, 0, 189, 153, 0, 11, 42, 18, 224, 4, 182, 0, 220, 172]
abbrev dktX5_statement_4 : List UInt8 := dkwX5_statement_4 ++ dktX5_statement_5
def dkwX5_statement_3 : List UInt8 := [172, 42, 27, 42, 180, 0, 183, 182, 0, 216, 87, 4, 172, 42, 18, 218, 182, 0, 189, 153, 0, 11, 42]
abbrev dktX5_statement_3 : List UInt8 := dkwX5_statement_3 ++ dktX5_statement_4
def dkwX5_statement_2 : List UInt8 := [182, 0, 198, 154, 0, 5, 3, 172, 42, 180, 0, 183, 60, 42, 3, 16, 10, 182, 0, 193, 154, 0, 5, 3]
abbrev dktX5_statement_2 : List UInt8 := dkwX5_statement_2 ++ dktX5_statement_3
def dkwX5_statement_1 : List UInt8 := [18, 214, 182, 0, 189, 153, 0, 54, 42, 180, 0, 84, 16, 6, 162, 0, 45, 42, 18, 214, 3, 8]
abbrev dktX5_statement_1 : List UInt8 := dkwX5_statement_1 ++ dktX5_statement_2
def dkwX5_statement_0 : List UInt8 := [42, 18, 196, 182, 0, 189, 153, 0, 17, 42, 180, 0, 77, 16, 9, 162, 0, 8, 42, 182, 0, 211, 172, 42]
abbrev dktX5_statement_0 : List UInt8 := dkwX5_statement_0 ++ dktX5_statement_1
theorem dksX5_statement_0 : cX5_statement.data.toList.drop 0 = dktX5_statement_0 := by decide +kernel
theorem dksX5_statement_1 : cX5_statement.data.toList.drop 24 = dktX5_statement_1 := dk_seg dksX5_statement_0 24 rfl rfl
theorem dksX5_statement_2 : cX5_statement.data.toList.drop 46 = dktX5_statement_2 := dk_seg dksX5_statement_1 22 rfl rfl
theorem dksX5_statement_3 : cX5_statement.data.toList.drop 70 = dktX5_statement_3 := dk_seg dksX5_statement_2 24 rfl rfl
theorem dksX5_statement_4 : cX5_statement.data.toList.drop 93 = dktX5_statement_4 := dk_seg dksX5_statement_3 23 rfl rfl
theorem dksX5_statement_5 : cX5_statement.data.toList.drop 117 = dktX5_statement_5 := dk_seg dksX5_statement_4 24 rfl rfl
theorem dksX5_statement_6 : cX5_statement.data.toList.drop 140 = dktX5_statement_6 := dk_seg dksX5_statement_5 23 rfl rfl
theorem dksX5_statement_7 : cX5_statement.data.toList.drop 164 = dktX5_statement_7 := dk_seg dksX5_statement_6 24 rfl rfl
theorem dX5_statement_0 : decode cX5_statement 0 = .ok (.aload_n 0, 1) := dk_42 (dk_at dksX5_statement_0 0 rfl rfl)
theorem dX5_statement_1 : decode cX5_statement 1 = .ok (.ldc 196, 2) := dk_18 196 (dk_at dksX5_statement_0 1 rfl rfl)
theorem dX5_statement_3 : decode cX5_statement 3 = .ok (.invokevirtual 189, 3) := dk_182 0 189 (dk_at dksX5_statement_0 3 rfl rfl)
theorem dX5_statement_6 : decode cX5_statement 6 = .ok (.ifCond .eq 17, 3) := dk_153 0 17 (dk_at dksX5_statement_0 6 rfl rfl)
theorem dX5_statement_9 : decode cX5_statement 9 = .ok (.aload_n 0, 1) := dk_42 (dk_at dksX5_statement_0 9 rfl rfl)
theorem dX5_statement_10 : decode cX5_statement 10 = .ok (.getfield 77, 3) := dk_180 0 77 (dk_at dksX5_statement_0 10 rfl rfl)
theorem dX5_statement_13 : decode cX5_statement 13 = .ok (.bipush 9, 2) := dk_16 9 (dk_at dksX5_statement_0 13 rfl rfl)
theorem dX5_statement_15 : decode cX5_statement 15 = .ok (.if_icmp .ge 8, 3) := dk_162 0 8 (dk_at dksX5_statement_0 15 rfl rfl)
theorem dX5_statement_18 : decode cX5_statement 18 = .ok (.aload_n 0, 1) := dk_42 (dk_at dksX5_statement_0 18 rfl rfl)
theorem dX5_statement_19 : decode cX5_statement 19 = .ok (.invokevirtual 211, 3) := dk_182 0 211 (dk_at dksX5_statement_0 19 rfl rfl)
theorem dX5_statement_22 : decode cX5_statement 22 = .ok (.ireturn, 1) := dk_172 (dk_at dksX5_statement_0 22 rfl rfl)
theorem dX5_statement_23 : decode cX5_statement 23 = .ok (.aload_n 0, 1) := dk_42 (dk_at dksX5_statement_0 23 rfl rfl)
theorem dX5_statement_24 : decode cX5_statement 24 = .ok (.ldc 214, 2) := dk_18 214 (dk_at dksX5_statement_1 0 rfl rfl)
theorem dX5_statement_26 : decode cX5_statement 26 = .ok (.invokevirtual 189, 3) := dk_182 0 189 (dk_at dksX5_statement_1 2 rfl rfl)
theorem dX5_statement_29 : decode cX5_statement 29 = .ok (.ifCond .eq 54, 3) := dk_153 0 54 (dk_at dksX5_statement_1 5 rfl rfl)
theorem dX5_statement_32 : decode cX5_statement 32 = .ok (.aload_n 0, 1) := dk_42 (dk_at dksX5_statement_1 8 rfl rfl)
theorem dX5_statement_33 : decode cX5_statement 33 = .ok (.getfield 84, 3) := dk_180 0 84 (dk_at dksX5_statement_1 9 rfl rfl)
theorem dX5_statement_36 : decode cX5_statement 36 = .ok (.bipush 6, 2) := dk_16 6 (dk_at dksX5_statement_1 12 rfl rfl)
theorem dX5_statement_38 : decode cX5_statement 38 = .ok (.if_icmp .ge 45, 3) := dk_162 0 45 (dk_at dksX5_statement_1 14 rfl rfl)
theorem dX5_statement_41 : decode cX5_statement 41 = .ok (.aload_n 0, 1) := dk_42 (dk_at dksX5_statement_1 17 rfl rfl)
theorem dX5_statement_42 : decode cX5_statement 42 = .ok (.ldc 214, 2) := dk_18 214 (dk_at dksX5_statement_1 18 rfl rfl)
theorem dX5_statement_44 : decode cX5_statement 44 = .ok (.iconst 0, 1) := dk_3 (dk_at dksX5_statement_1 20 rfl rfl)
theorem dX5_statement_45 : decode cX5_statement 45 = .ok (.iconst 5, 1) := dk_8 (dk_at dksX5_statement_1 21 rfl rfl)
theorem dX5_statement_46 : decode cX5_statement 46 = .ok (.invokevirtual 198, 3) := dk_182 0 198 (dk_at dksX5_statement_2 0 rfl rfl)
theorem dX5_statement_49 : decode cX5_statement 49 = .ok (.ifCond .ne 5, 3) := dk_154 0 5 (dk_at dksX5_statement_2 3 rfl rfl)
theorem dX5_statement_52 : decode cX5_statement 52 = .ok (.iconst 0, 1) := dk_3 (dk_at dksX5_statement_2 6 rfl rfl)
theorem dX5_statement_53 : decode cX5_statement 53 = .ok (.ireturn, 1) := dk_172 (dk_at dksX5_statement_2 7 rfl rfl)
theorem dX5_statement_54 : decode cX5_statement 54 = .ok (.aload_n 0, 1) := dk_42 (dk_at dksX5_statement_2 8 rfl rfl)
theorem dX5_statement_55 : decode cX5_statement 55 = .ok (.getfield 183, 3) := dk_180 0 183 (dk_at dksX5_statement_2 9 rfl rfl)
theorem dX5_statement_58 : decode cX5_statement 58 = .ok (.istore_n 1, 1) := dk_60 (dk_at dksX5_statement_2 12 rfl rfl)
theorem dX5_statement_59 : decode cX5_statement 59 = .ok (.aload_n 0, 1) := dk_42 (dk_at dksX5_statement_2 13 rfl rfl)
theorem dX5_statement_60 : decode cX5_statement 60 = .ok (.iconst 0, 1) := dk_3 (dk_at dksX5_statement_2 14 rfl rfl)
theorem dX5_statement_61 : decode cX5_statement 61 = .ok (.bipush 10, 2) := dk_16 10 (dk_at dksX5_statement_2 15 rfl rfl)
theorem dX5_statement_63 : decode cX5_statement 63 = .ok (.invokevirtual 193, 3) := dk_182 0 193 (dk_at dksX5_statement_2 17 rfl rfl)
theorem dX5_statement_66 : decode cX5_statement 66 = .ok (.ifCond .ne 5, 3) := dk_154 0 5 (dk_at dksX5_statement_2 20 rfl rfl)
theorem dX5_statement_69 : decode cX5_statement 69 = .ok (.iconst 0, 1) := dk_3 (dk_at dksX5_statement_2 23 rfl rfl)
theorem dX5_statement_70 : decode cX5_statement 70 = .ok (.ireturn, 1) := dk_172 (dk_at dksX5_statement_3 0 rfl rfl)
theorem dX5_statement_71 : decode cX5_statement 71 = .ok (.aload_n 0, 1) := dk_42 (dk_at dksX5_statement_3 1 rfl rfl)
theorem dX5_statement_72 : decode cX5_statement 72 = .ok (.iload_n 1, 1) := dk_27 (dk_at dksX5_statement_3 2 rfl rfl)
theorem dX5_statement_73 : decode cX5_statement 73 = .ok (.aload_n 0, 1) := dk_42 (dk_at dksX5_statement_3 3 rfl rfl)
theorem dX5_statement_74 : decode cX5_statement 74 = .ok (.getfield 183, 3) := dk_180 0 183 (dk_at dksX5_statement_3 4 rfl rfl)
theorem dX5_statement_77 : decode cX5_statement 77 = .ok (.invokevirtual 216, 3) := dk_182 0 216 (dk_at dksX5_statement_3 7 rfl rfl)
theorem dX5_statement_80 : decode cX5_statement 80 = .ok (.pop, 1) := dk_87 (dk_at dksX5_statement_3 10 rfl rfl)
theorem dX5_statement_81 : decode cX5_statement 81 = .ok (.iconst 1, 1) := dk_4 (dk_at dksX5_statement_3 11 rfl rfl)
theorem dX5_statement_82 : decode cX5_statement 82 = .ok (.ireturn, 1) := dk_172 (dk_at dksX5_statement_3 12 rfl rfl)
theorem dX5_statement_83 : decode cX5_statement 83 = .ok (.aload_n 0, 1) := dk_42 (dk_at dksX5_statement_3 13 rfl rfl)
theorem dX5_statement_84 : decode cX5_statement 84 = .ok (.ldc 218, 2) := dk_18 218 (dk_at dksX5_statement_3 14 rfl rfl)
theorem dX5_statement_86 : decode cX5_statement 86 = .ok (.invokevirtual 189, 3) := dk_182 0 189 (dk_at dksX5_statement_3 16 rfl rfl)
theorem dX5_statement_89 : decode cX5_statement 89 = .ok (.ifCond .eq 11, 3) := dk_153 0 11 (dk_at dksX5_statement_3 19 rfl rfl)
theorem dX5_statement_92 : decode cX5_statement 92 = .ok (.aload_n 0, 1) := dk_42 (dk_at dksX5_statement_3 22 rfl rfl)
theorem dX5_statement_93 : decode cX5_statement 93 = .ok (.ldc 218, 2) := dk_18 218 (dk_at dksX5_statement_4 0 rfl rfl)
theorem dX5_statement_95 : decode cX5_statement 95 = .ok (.iconst 0, 1) := dk_3 (dk_at dksX5_statement_4 2 rfl rfl)
theorem dX5_statement_96 : decode cX5_statement 96 = .ok (.invokevirtual 220, 3) := dk_182 0 220 (dk_at dksX5_statement_4 3 rfl rfl)
theorem dX5_statement_99 : decode cX5_statement 99 = .ok (.ireturn, 1) := dk_172 (dk_at dksX5_statement_4 6 rfl rfl)
theorem dX5_statement_100 : decode cX5_statement 100 = .ok (.aload_n 0, 1) := dk_42 (dk_at dksX5_statement_4 7 rfl rfl)
theorem dX5_statement_101 : decode cX5_statement 101 = .ok (.ldc 224, 2) := dk_18 224 (dk_at dksX5_statement_4 8 rfl rfl)
theorem dX5_statement_103 : decode cX5_statement 103 = .ok (.invokevirtual 189, 3) := dk_182 0 189 (dk_at dksX5_statement_4 10 rfl rfl)
theorem dX5_statement_106 : decode cX5_statement 106 = .ok (.ifCond .eq 11, 3) := dk_153 0 11 (dk_at dksX5_statement_4 13 rfl rfl)
theorem dX5_statement_109 : decode cX5_statement 109 = .ok (.aload_n 0, 1) := dk_42 (dk_at dksX5_statement_4 16 rfl rfl)
theorem dX5_statement_110 : decode cX5_statement 110 = .ok (.ldc 224, 2) := dk_18 224 (dk_at dksX5_statement_4 17 rfl rfl)
theorem dX5_statement_112 : decode cX5_statement 112 = .ok (.iconst 1, 1) := dk_4 (dk_at dksX5_statement_4 19 rfl rfl)
theorem dX5_statement_113 : decode cX5_statement 113 = .ok (.invokevirtual 220, 3) := dk_182 0 220 (dk_at dksX5_statement_4 20 rfl rfl)
theorem dX5_statement_116 : decode cX5_statement 116 = .ok (.ireturn, 1) := dk_172 (dk_at dksX5_statement_4 23 rfl rfl)
theorem dX5_statement_117 : decode cX5_statement 117 = .ok (.aload_n 0, 1) := dk_42 (dk_at dksX5_statement_5 0 rfl rfl)
theorem dX5_statement_118 : decode cX5_statement 118 = .ok (.ldc 226, 2) := dk_18 226 (dk_at dksX5_statement_5 1 rfl rfl)
theorem dX5_statement_120 : decode cX5_statement 120 = .ok (.invokevirtual 189, 3) := dk_182 0 189 (dk_at dksX5_statement_5 3 rfl rfl)
theorem dX5_statement_123 : decode cX5_statement 123 = .ok (.ifCond .eq 11, 3) := dk_153 0 11 (dk_at dksX5_statement_5 6 rfl rfl)
theorem dX5_statement_126 : decode cX5_statement 126 = .ok (.aload_n 0, 1) := dk_42 (dk_at dksX5_statement_5 9 rfl rfl)
theorem dX5_statement_127 : decode cX5_statement 127 = .ok (.ldc 226, 2) := dk_18 226 (dk_at dksX5_statement_5 10 rfl rfl)
theorem dX5_statement_129 : decode cX5_statement 129 = .ok (.iconst 2, 1) := dk_5 (dk_at dksX5_statement_5 12 rfl rfl)
theorem dX5_statement_130 : decode cX5_statement 130 = .ok (.invokevirtual 220, 3) := dk_182 0 220 (dk_at dksX5_statement_5 13 rfl rfl)
theorem dX5_statement_133 : decode cX5_statement 133 = .ok (.ireturn, 1) := dk_172 (dk_at dksX5_statement_5 16 rfl rfl)
theorem dX5_statement_134 : decode cX5_statement 134 = .ok (.aload_n 0, 1) := dk_42 (dk_at dksX5_statement_5 17 rfl rfl)
theorem dX5_statement_135 : decode cX5_statement 135 = .ok (.ldc 228, 2) := dk_18 228 (dk_at dksX5_statement_5 18 rfl rfl)
theorem dX5_statement_137 : decode cX5_statement 137 = .ok (.invokevirtual 189, 3) := dk_182 0 189 (dk_at dksX5_statement_5 20 rfl rfl)
theorem dX5_statement_140 : decode cX5_statement 140 = .ok (.ifCond .eq 11, 3) := dk_153 0 11 (dk_at dksX5_statement_6 0 rfl rfl)
theorem dX5_statement_143 : decode cX5_statement 143 = .ok (.aload_n 0, 1) := dk_42 (dk_at dksX5_statement_6 3 rfl rfl)
theorem dX5_statement_144 : decode cX5_statement 144 = .ok (.ldc 228, 2) := dk_18 228 (dk_at dksX5_statement_6 4 rfl rfl)
theorem dX5_statement_146 : decode cX5_statement 146 = .ok (.iconst 3, 1) := dk_6 (dk_at dksX5_statement_6 6 rfl rfl)
theorem dX5_statement_147 : decode cX5_statement 147 = .ok (.invokevirtual 220, 3) := dk_182 0 220 (dk_at dksX5_statement_6 7 rfl rfl)
theorem dX5_statement_150 : decode cX5_statement 150 = .ok (.ireturn, 1) := dk_172 (dk_at dksX5_statement_6 10 rfl rfl)
theorem dX5_statement_151 : decode cX5_statement 151 = .ok (.aload_n 0, 1) := dk_42 (dk_at dksX5_statement_6 11 rfl rfl)
theorem dX5_statement_152 : decode cX5_statement 152 = .ok (.ldc 230, 2) := dk_18 230 (dk_at dksX5_statement_6 12 rfl rfl)
theorem dX5_statement_154 : decode cX5_statement 154 = .ok (.iconst 0, 1) := dk_3 (dk_at dksX5_statement_6 14 rfl rfl)
theorem dX5_statement_155 : decode cX5_statement 155 = .ok (.aload_n 0, 1) := dk_42 (dk_at dksX5_statement_6 15 rfl rfl)
theorem dX5_statement_156 : decode cX5_statement 156 = .ok (.getfield 77, 3) := dk_180 0 77 (dk_at dksX5_statement_6 16 rfl rfl)
theorem dX5_statement_159 : decode cX5_statement 159 = .ok (.iconst 1, 1) := dk_4 (dk_at dksX5_statement_6 19 rfl rfl)
theorem dX5_statement_160 : decode cX5_statement 160 = .ok (.isub, 1) := dk_100 (dk_at dksX5_statement_6 20 rfl rfl)
theorem dX5_statement_161 : decode cX5_statement 161 = .ok (.invokevirtual 198, 3) := dk_182 0 198 (dk_at dksX5_statement_6 21 rfl rfl)
theorem dX5_statement_164 : decode cX5_statement 164 = .ok (.ifCond .ne 5, 3) := dk_154 0 5 (dk_at dksX5_statement_7 0 rfl rfl)
theorem dX5_statement_167 : decode cX5_statement 167 = .ok (.iconst 0, 1) := dk_3 (dk_at dksX5_statement_7 3 rfl rfl)
theorem dX5_statement_168 : decode cX5_statement 168 = .ok (.ireturn, 1) := dk_172 (dk_at dksX5_statement_7 4 rfl rfl)
theorem dX5_statement_169 : decode cX5_statement 169 = .ok (.aload_n 0, 1) := dk_42 (dk_at dksX5_statement_7 5 rfl rfl)
theorem dX5_statement_170 : decode cX5_statement 170 = .ok (.getfield 47, 3) := dk_180 0 47 (dk_at dksX5_statement_7 6 rfl rfl)
theorem dX5_statement_173 : decode cX5_statement 173 = .ok (.aload_n 0, 1) := dk_42 (dk_at dksX5_statement_7 9 rfl rfl)
theorem dX5_statement_174 : decode cX5_statement 174 = .ok (.getfield 183, 3) := dk_180 0 183 (dk_at dksX5_statement_7 10 rfl rfl)
theorem dX5_statement_177 : decode cX5_statement 177 = .ok (.iconst 0, 1) := dk_3 (dk_at dksX5_statement_7 13 rfl rfl)
theorem dX5_statement_178 : decode cX5_statement 178 = .ok (.bastore, 1) := dk_84 (dk_at dksX5_statement_7 14 rfl rfl)
theorem dX5_statement_179 : decode cX5_statement 179 = .ok (.iconst 1, 1) := dk_4 (dk_at dksX5_statement_7 15 rfl rfl)
theorem dX5_statement_180 : decode cX5_statement 180 = .ok (.ireturn, 1) := dk_172 (dk_at dksX5_statement_7 16 rfl rfl)
abbrev cX5_isWord : ByteArray := prog_18_method_29_code
def yX5_isWord : MethodName := ⟨RX5, "isWord", "(Ljava/lang/String;)Z"⟩
def dkwX5_isWord_2 : List UInt8 := [28, 182, 0, 175, 159, 0, 5, 3, 172, 132, 2, 1, 167, 255, 224, 4, 172]
abbrev dktX5_isWord_2 : List UInt8 := dkwX5_isWord_2 ++ []
def dkwX5_isWord_1 : List UInt8 := [3, 172, 3, 61, 28, 43, 182, 0, 169, 162, 0, 30, 42, 180, 0, 31, 42, 180, 0, 150, 28, 96, 46, 43]
abbrev dktX5_isWord_1 : List UInt8 := dkwX5_isWord_1 ++ dktX5_isWord_2
def dkwX5_isWord_0 : List UInt8 := [42, 180, 0, 156, 4, 160, 0, 19, 42, 180, 0, 147, 42, 180, 0, 150, 100, 43, 182, 0, 169, 159, 0, 5]
abbrev dktX5_isWord_0 : List UInt8 := dkwX5_isWord_0 ++ dktX5_isWord_1
theorem dksX5_isWord_0 : cX5_isWord.data.toList.drop 0 = dktX5_isWord_0 := by decide +kernel
theorem dksX5_isWord_1 : cX5_isWord.data.toList.drop 24 = dktX5_isWord_1 := dk_seg dksX5_isWord_0 24 rfl rfl
theorem dksX5_isWord_2 : cX5_isWord.data.toList.drop 48 = dktX5_isWord_2 := dk_seg dksX5_isWord_1 24 rfl rfl
theorem dX5_isWord_0 : decode cX5_isWord 0 = .ok (.aload_n 0, 1) := dk_42 (dk_at dksX5_isWord_0 0 rfl rfl)
theorem dX5_isWord_1 : decode cX5_isWord 1 = .ok (.getfield 156, 3) := dk_180 0 156 (dk_at dksX5_isWord_0 1 rfl rfl)
theorem dX5_isWord_4 : decode cX5_isWord 4 = .ok (.iconst 1, 1) := dk_4 (dk_at dksX5_isWord_0 4 rfl rfl)
theorem dX5_isWord_5 : decode cX5_isWord 5 = .ok (.if_icmp .ne 19, 3) := dk_160 0 19 (dk_at dksX5_isWord_0 5 rfl rfl)
theorem dX5_isWord_8 : decode cX5_isWord 8 = .ok (.aload_n 0, 1) := dk_42 (dk_at dksX5_isWord_0 8 rfl rfl)
theorem dX5_isWord_9 : decode cX5_isWord 9 = .ok (.getfield 147, 3) := dk_180 0 147 (dk_at dksX5_isWord_0 9 rfl rfl)
theorem dX5_isWord_12 : decode cX5_isWord 12 = .ok (.aload_n 0, 1) := dk_42 (dk_at dksX5_isWord_0 12 rfl rfl)
theorem dX5_isWord_13 : decode cX5_isWord 13 = .ok (.getfield 150, 3) := dk_180 0 150 (dk_at dksX5_isWord_0 13 rfl rfl)
theorem dX5_isWord_16 : decode cX5_isWord 16 = .ok (.isub, 1) := dk_100 (dk_at dksX5_isWord_0 16 rfl rfl)
theorem dX5_isWord_17 : decode cX5_isWord 17 = .ok (.aload_n 1, 1) := dk_43 (dk_at dksX5_isWord_0 17 rfl rfl)
theorem dX5_isWord_18 : decode cX5_isWord 18 = .ok (.invokevirtual 169, 3) := dk_182 0 169 (dk_at dksX5_isWord_0 18 rfl rfl)
theorem dX5_isWord_21 : decode cX5_isWord 21 = .ok (.if_icmp .eq 5, 3) := dk_159 0 5 (dk_at dksX5_isWord_0 21 rfl rfl)
theorem dX5_isWord_24 : decode cX5_isWord 24 = .ok (.iconst 0, 1) := dk_3 (dk_at dksX5_isWord_1 0 rfl rfl)
theorem dX5_isWord_25 : decode cX5_isWord 25 = .ok (.ireturn, 1) := dk_172 (dk_at dksX5_isWord_1 1 rfl rfl)
theorem dX5_isWord_26 : decode cX5_isWord 26 = .ok (.iconst 0, 1) := dk_3 (dk_at dksX5_isWord_1 2 rfl rfl)
theorem dX5_isWord_27 : decode cX5_isWord 27 = .ok (.istore_n 2, 1) := dk_61 (dk_at dksX5_isWord_1 3 rfl rfl)
theorem dX5_isWord_28 : decode cX5_isWord 28 = .ok (.iload_n 2, 1) := dk_28 (dk_at dksX5_isWord_1 4 rfl rfl)
theorem dX5_isWord_29 : decode cX5_isWord 29 = .ok (.aload_n 1, 1) := dk_43 (dk_at dksX5_isWord_1 5 rfl rfl)
theorem dX5_isWord_30 : decode cX5_isWord 30 = .ok (.invokevirtual 169, 3) := dk_182 0 169 (dk_at dksX5_isWord_1 6 rfl rfl)
theorem dX5_isWord_33 : decode cX5_isWord 33 = .ok (.if_icmp .ge 30, 3) := dk_162 0 30 (dk_at dksX5_isWord_1 9 rfl rfl)
theorem dX5_isWord_36 : decode cX5_isWord 36 = .ok (.aload_n 0, 1) := dk_42 (dk_at dksX5_isWord_1 12 rfl rfl)
theorem dX5_isWord_37 : decode cX5_isWord 37 = .ok (.getfield 31, 3) := dk_180 0 31 (dk_at dksX5_isWord_1 13 rfl rfl)
theorem dX5_isWord_40 : decode cX5_isWord 40 = .ok (.aload_n 0, 1) := dk_42 (dk_at dksX5_isWord_1 16 rfl rfl)
theorem dX5_isWord_41 : decode cX5_isWord 41 = .ok (.getfield 150, 3) := dk_180 0 150 (dk_at dksX5_isWord_1 17 rfl rfl)
theorem dX5_isWord_44 : decode cX5_isWord 44 = .ok (.iload_n 2, 1) := dk_28 (dk_at dksX5_isWord_1 20 rfl rfl)
theorem dX5_isWord_45 : decode cX5_isWord 45 = .ok (.iadd, 1) := dk_96 (dk_at dksX5_isWord_1 21 rfl rfl)
theorem dX5_isWord_46 : decode cX5_isWord 46 = .ok (.iaload, 1) := dk_46 (dk_at dksX5_isWord_1 22 rfl rfl)
theorem dX5_isWord_47 : decode cX5_isWord 47 = .ok (.aload_n 1, 1) := dk_43 (dk_at dksX5_isWord_1 23 rfl rfl)
theorem dX5_isWord_48 : decode cX5_isWord 48 = .ok (.iload_n 2, 1) := dk_28 (dk_at dksX5_isWord_2 0 rfl rfl)
theorem dX5_isWord_49 : decode cX5_isWord 49 = .ok (.invokevirtual 175, 3) := dk_182 0 175 (dk_at dksX5_isWord_2 1 rfl rfl)
theorem dX5_isWord_52 : decode cX5_isWord 52 = .ok (.if_icmp .eq 5, 3) := dk_159 0 5 (dk_at dksX5_isWord_2 4 rfl rfl)
theorem dX5_isWord_55 : decode cX5_isWord 55 = .ok (.iconst 0, 1) := dk_3 (dk_at dksX5_isWord_2 7 rfl rfl)
theorem dX5_isWord_56 : decode cX5_isWord 56 = .ok (.ireturn, 1) := dk_172 (dk_at dksX5_isWord_2 8 rfl rfl)
theorem dX5_isWord_57 : decode cX5_isWord 57 = .ok (.iinc 2 1, 3) := dk_132 2 1 (dk_at dksX5_isWord_2 9 rfl rfl)
theorem dX5_isWord_60 : decode cX5_isWord 60 = .ok (.goto (-32), 3) := dk_167 255 224 (dk_at dksX5_isWord_2 12 rfl rfl)
theorem dX5_isWord_63 : decode cX5_isWord 63 = .ok (.iconst 1, 1) := dk_4 (dk_at dksX5_isWord_2 15 rfl rfl)
theorem dX5_isWord_64 : decode cX5_isWord 64 = .ok (.ireturn, 1) := dk_172 (dk_at dksX5_isWord_2 16 rfl rfl)
abbrev cX5_stepTold : ByteArray := prog_18_method_33_code
def yX5_stepTold : MethodName := ⟨RX5, "stepTold", "()Z"⟩
def dkwX5_stepTold_2 : List UInt8 := [42, 18, 210, 182, 0, 203, 84, 4, 172]
abbrev dktX5_stepTold_2 : List UInt8 := dkwX5_stepTold_2 ++ []
def dkwX5_stepTold_1 : List UInt8 := [182, 0, 203, 182, 0, 206, 60, 42, 180, 0, 40, 27, 42, 18, 209, 182, 0, 203, 84, 42, 180, 0, 44, 27]
abbrev dktX5_stepTold_1 : List UInt8 := dkwX5_stepTold_1 ++ dktX5_stepTold_2
def dkwX5_stepTold_0 : List UInt8 := [42, 18, 196, 4, 16, 20, 182, 0, 198, 154, 0, 5, 3, 172, 42, 42, 180, 0, 183, 42, 18, 202]
abbrev dktX5_stepTold_0 : List UInt8 := dkwX5_stepTold_0 ++ dktX5_stepTold_1
theorem dksX5_stepTold_0 : cX5_stepTold.data.toList.drop 0 = dktX5_stepTold_0 := by decide +kernel
theorem dksX5_stepTold_1 : cX5_stepTold.data.toList.drop 22 = dktX5_stepTold_1 := dk_seg dksX5_stepTold_0 22 rfl rfl
theorem dksX5_stepTold_2 : cX5_stepTold.data.toList.drop 46 = dktX5_stepTold_2 := dk_seg dksX5_stepTold_1 24 rfl rfl
theorem dX5_stepTold_0 : decode cX5_stepTold 0 = .ok (.aload_n 0, 1) := dk_42 (dk_at dksX5_stepTold_0 0 rfl rfl)
theorem dX5_stepTold_1 : decode cX5_stepTold 1 = .ok (.ldc 196, 2) := dk_18 196 (dk_at dksX5_stepTold_0 1 rfl rfl)
theorem dX5_stepTold_3 : decode cX5_stepTold 3 = .ok (.iconst 1, 1) := dk_4 (dk_at dksX5_stepTold_0 3 rfl rfl)
theorem dX5_stepTold_4 : decode cX5_stepTold 4 = .ok (.bipush 20, 2) := dk_16 20 (dk_at dksX5_stepTold_0 4 rfl rfl)
theorem dX5_stepTold_6 : decode cX5_stepTold 6 = .ok (.invokevirtual 198, 3) := dk_182 0 198 (dk_at dksX5_stepTold_0 6 rfl rfl)
theorem dX5_stepTold_9 : decode cX5_stepTold 9 = .ok (.ifCond .ne 5, 3) := dk_154 0 5 (dk_at dksX5_stepTold_0 9 rfl rfl)
theorem dX5_stepTold_12 : decode cX5_stepTold 12 = .ok (.iconst 0, 1) := dk_3 (dk_at dksX5_stepTold_0 12 rfl rfl)
theorem dX5_stepTold_13 : decode cX5_stepTold 13 = .ok (.ireturn, 1) := dk_172 (dk_at dksX5_stepTold_0 13 rfl rfl)
theorem dX5_stepTold_14 : decode cX5_stepTold 14 = .ok (.aload_n 0, 1) := dk_42 (dk_at dksX5_stepTold_0 14 rfl rfl)
theorem dX5_stepTold_15 : decode cX5_stepTold 15 = .ok (.aload_n 0, 1) := dk_42 (dk_at dksX5_stepTold_0 15 rfl rfl)
theorem dX5_stepTold_16 : decode cX5_stepTold 16 = .ok (.getfield 183, 3) := dk_180 0 183 (dk_at dksX5_stepTold_0 16 rfl rfl)
theorem dX5_stepTold_19 : decode cX5_stepTold 19 = .ok (.aload_n 0, 1) := dk_42 (dk_at dksX5_stepTold_0 19 rfl rfl)
theorem dX5_stepTold_20 : decode cX5_stepTold 20 = .ok (.ldc 202, 2) := dk_18 202 (dk_at dksX5_stepTold_0 20 rfl rfl)
theorem dX5_stepTold_22 : decode cX5_stepTold 22 = .ok (.invokevirtual 203, 3) := dk_182 0 203 (dk_at dksX5_stepTold_1 0 rfl rfl)
theorem dX5_stepTold_25 : decode cX5_stepTold 25 = .ok (.invokevirtual 206, 3) := dk_182 0 206 (dk_at dksX5_stepTold_1 3 rfl rfl)
theorem dX5_stepTold_28 : decode cX5_stepTold 28 = .ok (.istore_n 1, 1) := dk_60 (dk_at dksX5_stepTold_1 6 rfl rfl)
theorem dX5_stepTold_29 : decode cX5_stepTold 29 = .ok (.aload_n 0, 1) := dk_42 (dk_at dksX5_stepTold_1 7 rfl rfl)
theorem dX5_stepTold_30 : decode cX5_stepTold 30 = .ok (.getfield 40, 3) := dk_180 0 40 (dk_at dksX5_stepTold_1 8 rfl rfl)
theorem dX5_stepTold_33 : decode cX5_stepTold 33 = .ok (.iload_n 1, 1) := dk_27 (dk_at dksX5_stepTold_1 11 rfl rfl)
theorem dX5_stepTold_34 : decode cX5_stepTold 34 = .ok (.aload_n 0, 1) := dk_42 (dk_at dksX5_stepTold_1 12 rfl rfl)
theorem dX5_stepTold_35 : decode cX5_stepTold 35 = .ok (.ldc 209, 2) := dk_18 209 (dk_at dksX5_stepTold_1 13 rfl rfl)
theorem dX5_stepTold_37 : decode cX5_stepTold 37 = .ok (.invokevirtual 203, 3) := dk_182 0 203 (dk_at dksX5_stepTold_1 15 rfl rfl)
theorem dX5_stepTold_40 : decode cX5_stepTold 40 = .ok (.bastore, 1) := dk_84 (dk_at dksX5_stepTold_1 18 rfl rfl)
theorem dX5_stepTold_41 : decode cX5_stepTold 41 = .ok (.aload_n 0, 1) := dk_42 (dk_at dksX5_stepTold_1 19 rfl rfl)
theorem dX5_stepTold_42 : decode cX5_stepTold 42 = .ok (.getfield 44, 3) := dk_180 0 44 (dk_at dksX5_stepTold_1 20 rfl rfl)
theorem dX5_stepTold_45 : decode cX5_stepTold 45 = .ok (.iload_n 1, 1) := dk_27 (dk_at dksX5_stepTold_1 23 rfl rfl)
theorem dX5_stepTold_46 : decode cX5_stepTold 46 = .ok (.aload_n 0, 1) := dk_42 (dk_at dksX5_stepTold_2 0 rfl rfl)
theorem dX5_stepTold_47 : decode cX5_stepTold 47 = .ok (.ldc 210, 2) := dk_18 210 (dk_at dksX5_stepTold_2 1 rfl rfl)
theorem dX5_stepTold_49 : decode cX5_stepTold 49 = .ok (.invokevirtual 203, 3) := dk_182 0 203 (dk_at dksX5_stepTold_2 3 rfl rfl)
theorem dX5_stepTold_52 : decode cX5_stepTold 52 = .ok (.bastore, 1) := dk_84 (dk_at dksX5_stepTold_2 6 rfl rfl)
theorem dX5_stepTold_53 : decode cX5_stepTold 53 = .ok (.iconst 1, 1) := dk_4 (dk_at dksX5_stepTold_2 7 rfl rfl)
theorem dX5_stepTold_54 : decode cX5_stepTold 54 = .ok (.ireturn, 1) := dk_172 (dk_at dksX5_stepTold_2 8 rfl rfl)
abbrev cX5_tells : ByteArray := prog_18_method_31_code
def yX5_tells : MethodName := ⟨RX5, "tells", "(Ljava/lang/String;II)Z"⟩
def dkwX5_tells_0 : List UInt8 := [42, 43, 182, 0, 189, 154, 0, 8, 42, 182, 0, 179, 172, 42, 182, 0, 186, 42, 28, 29, 182, 0, 193, 172]
abbrev dktX5_tells_0 : List UInt8 := dkwX5_tells_0 ++ []
theorem dksX5_tells_0 : cX5_tells.data.toList.drop 0 = dktX5_tells_0 := by decide +kernel
theorem dX5_tells_0 : decode cX5_tells 0 = .ok (.aload_n 0, 1) := dk_42 (dk_at dksX5_tells_0 0 rfl rfl)
theorem dX5_tells_1 : decode cX5_tells 1 = .ok (.aload_n 1, 1) := dk_43 (dk_at dksX5_tells_0 1 rfl rfl)
theorem dX5_tells_2 : decode cX5_tells 2 = .ok (.invokevirtual 189, 3) := dk_182 0 189 (dk_at dksX5_tells_0 2 rfl rfl)
theorem dX5_tells_5 : decode cX5_tells 5 = .ok (.ifCond .ne 8, 3) := dk_154 0 8 (dk_at dksX5_tells_0 5 rfl rfl)
theorem dX5_tells_8 : decode cX5_tells 8 = .ok (.aload_n 0, 1) := dk_42 (dk_at dksX5_tells_0 8 rfl rfl)
theorem dX5_tells_9 : decode cX5_tells 9 = .ok (.invokevirtual 179, 3) := dk_182 0 179 (dk_at dksX5_tells_0 9 rfl rfl)
theorem dX5_tells_12 : decode cX5_tells 12 = .ok (.ireturn, 1) := dk_172 (dk_at dksX5_tells_0 12 rfl rfl)
theorem dX5_tells_13 : decode cX5_tells 13 = .ok (.aload_n 0, 1) := dk_42 (dk_at dksX5_tells_0 13 rfl rfl)
theorem dX5_tells_14 : decode cX5_tells 14 = .ok (.invokevirtual 186, 3) := dk_182 0 186 (dk_at dksX5_tells_0 14 rfl rfl)
theorem dX5_tells_17 : decode cX5_tells 17 = .ok (.aload_n 0, 1) := dk_42 (dk_at dksX5_tells_0 17 rfl rfl)
theorem dX5_tells_18 : decode cX5_tells 18 = .ok (.iload_n 2, 1) := dk_28 (dk_at dksX5_tells_0 18 rfl rfl)
theorem dX5_tells_19 : decode cX5_tells 19 = .ok (.iload_n 3, 1) := dk_29 (dk_at dksX5_tells_0 19 rfl rfl)
theorem dX5_tells_20 : decode cX5_tells 20 = .ok (.invokevirtual 193, 3) := dk_182 0 193 (dk_at dksX5_tells_0 20 rfl rfl)
theorem dX5_tells_23 : decode cX5_tells 23 = .ok (.ireturn, 1) := dk_172 (dk_at dksX5_tells_0 23 rfl rfl)
abbrev cX5_wrong : ByteArray := prog_18_method_28_code
def yX5_wrong : MethodName := ⟨RX5, "wrong", "()Z"⟩
def dkwX5_wrong_0 : List UInt8 := [42, 42, 180, 0, 150, 181, 0, 166, 3, 172]
abbrev dktX5_wrong_0 : List UInt8 := dkwX5_wrong_0 ++ []
theorem dksX5_wrong_0 : cX5_wrong.data.toList.drop 0 = dktX5_wrong_0 := by decide +kernel
theorem dX5_wrong_0 : decode cX5_wrong 0 = .ok (.aload_n 0, 1) := dk_42 (dk_at dksX5_wrong_0 0 rfl rfl)
theorem dX5_wrong_1 : decode cX5_wrong 1 = .ok (.aload_n 0, 1) := dk_42 (dk_at dksX5_wrong_0 1 rfl rfl)
theorem dX5_wrong_2 : decode cX5_wrong 2 = .ok (.getfield 150, 3) := dk_180 0 150 (dk_at dksX5_wrong_0 2 rfl rfl)
theorem dX5_wrong_5 : decode cX5_wrong 5 = .ok (.putfield 166, 3) := dk_181 0 166 (dk_at dksX5_wrong_0 5 rfl rfl)
theorem dX5_wrong_8 : decode cX5_wrong 8 = .ok (.iconst 0, 1) := dk_3 (dk_at dksX5_wrong_0 8 rfl rfl)
theorem dX5_wrong_9 : decode cX5_wrong 9 = .ok (.ireturn, 1) := dk_172 (dk_at dksX5_wrong_0 9 rfl rfl)
abbrev cX5_number : ByteArray := prog_18_method_30_code
def yX5_number : MethodName := ⟨RX5, "number", "(II)Z"⟩
def dkwX5_number_1 : List UInt8 := [182, 0, 179, 172, 42, 42, 180, 0, 153, 181, 0, 183, 42, 182, 0, 186, 4, 172]
abbrev dktX5_number_1 : List UInt8 := dkwX5_number_1 ++ []
def dkwX5_number_0 : List UInt8 := [42, 180, 0, 156, 5, 160, 0, 18, 42, 180, 0, 153, 133, 27, 133, 28, 133, 184, 0, 80, 154, 0, 8, 42]
abbrev dktX5_number_0 : List UInt8 := dkwX5_number_0 ++ dktX5_number_1
theorem dksX5_number_0 : cX5_number.data.toList.drop 0 = dktX5_number_0 := by decide +kernel
theorem dksX5_number_1 : cX5_number.data.toList.drop 24 = dktX5_number_1 := dk_seg dksX5_number_0 24 rfl rfl
theorem dX5_number_0 : decode cX5_number 0 = .ok (.aload_n 0, 1) := dk_42 (dk_at dksX5_number_0 0 rfl rfl)
theorem dX5_number_1 : decode cX5_number 1 = .ok (.getfield 156, 3) := dk_180 0 156 (dk_at dksX5_number_0 1 rfl rfl)
theorem dX5_number_4 : decode cX5_number 4 = .ok (.iconst 2, 1) := dk_5 (dk_at dksX5_number_0 4 rfl rfl)
theorem dX5_number_5 : decode cX5_number 5 = .ok (.if_icmp .ne 18, 3) := dk_160 0 18 (dk_at dksX5_number_0 5 rfl rfl)
theorem dX5_number_8 : decode cX5_number 8 = .ok (.aload_n 0, 1) := dk_42 (dk_at dksX5_number_0 8 rfl rfl)
theorem dX5_number_9 : decode cX5_number 9 = .ok (.getfield 153, 3) := dk_180 0 153 (dk_at dksX5_number_0 9 rfl rfl)
theorem dX5_number_12 : decode cX5_number 12 = .ok (.i2l, 1) := dk_133 (dk_at dksX5_number_0 12 rfl rfl)
theorem dX5_number_13 : decode cX5_number 13 = .ok (.iload_n 1, 1) := dk_27 (dk_at dksX5_number_0 13 rfl rfl)
theorem dX5_number_14 : decode cX5_number 14 = .ok (.i2l, 1) := dk_133 (dk_at dksX5_number_0 14 rfl rfl)
theorem dX5_number_15 : decode cX5_number 15 = .ok (.iload_n 2, 1) := dk_28 (dk_at dksX5_number_0 15 rfl rfl)
theorem dX5_number_16 : decode cX5_number 16 = .ok (.i2l, 1) := dk_133 (dk_at dksX5_number_0 16 rfl rfl)
theorem dX5_number_17 : decode cX5_number 17 = .ok (.invokestatic 80, 3) := dk_184 0 80 (dk_at dksX5_number_0 17 rfl rfl)
theorem dX5_number_20 : decode cX5_number 20 = .ok (.ifCond .ne 8, 3) := dk_154 0 8 (dk_at dksX5_number_0 20 rfl rfl)
theorem dX5_number_23 : decode cX5_number 23 = .ok (.aload_n 0, 1) := dk_42 (dk_at dksX5_number_0 23 rfl rfl)
theorem dX5_number_24 : decode cX5_number 24 = .ok (.invokevirtual 179, 3) := dk_182 0 179 (dk_at dksX5_number_1 0 rfl rfl)
theorem dX5_number_27 : decode cX5_number 27 = .ok (.ireturn, 1) := dk_172 (dk_at dksX5_number_1 3 rfl rfl)
theorem dX5_number_28 : decode cX5_number 28 = .ok (.aload_n 0, 1) := dk_42 (dk_at dksX5_number_1 4 rfl rfl)
theorem dX5_number_29 : decode cX5_number 29 = .ok (.aload_n 0, 1) := dk_42 (dk_at dksX5_number_1 5 rfl rfl)
theorem dX5_number_30 : decode cX5_number 30 = .ok (.getfield 153, 3) := dk_180 0 153 (dk_at dksX5_number_1 6 rfl rfl)
theorem dX5_number_33 : decode cX5_number 33 = .ok (.putfield 183, 3) := dk_181 0 183 (dk_at dksX5_number_1 9 rfl rfl)
theorem dX5_number_36 : decode cX5_number 36 = .ok (.aload_n 0, 1) := dk_42 (dk_at dksX5_number_1 12 rfl rfl)
theorem dX5_number_37 : decode cX5_number 37 = .ok (.invokevirtual 186, 3) := dk_182 0 186 (dk_at dksX5_number_1 13 rfl rfl)
theorem dX5_number_40 : decode cX5_number 40 = .ok (.iconst 1, 1) := dk_4 (dk_at dksX5_number_1 16 rfl rfl)
theorem dX5_number_41 : decode cX5_number 41 = .ok (.ireturn, 1) := dk_172 (dk_at dksX5_number_1 17 rfl rfl)
abbrev cX5_perhaps : ByteArray := prog_18_method_32_code
def yX5_perhaps : MethodName := ⟨RX5, "perhaps", "(Ljava/lang/String;)Z"⟩
def dkwX5_perhaps_0 : List UInt8 := [42, 43, 182, 0, 189, 61, 28, 153, 0, 7, 42, 182, 0, 186, 28, 172]
abbrev dktX5_perhaps_0 : List UInt8 := dkwX5_perhaps_0 ++ []
theorem dksX5_perhaps_0 : cX5_perhaps.data.toList.drop 0 = dktX5_perhaps_0 := by decide +kernel
theorem dX5_perhaps_0 : decode cX5_perhaps 0 = .ok (.aload_n 0, 1) := dk_42 (dk_at dksX5_perhaps_0 0 rfl rfl)
theorem dX5_perhaps_1 : decode cX5_perhaps 1 = .ok (.aload_n 1, 1) := dk_43 (dk_at dksX5_perhaps_0 1 rfl rfl)
theorem dX5_perhaps_2 : decode cX5_perhaps 2 = .ok (.invokevirtual 189, 3) := dk_182 0 189 (dk_at dksX5_perhaps_0 2 rfl rfl)
theorem dX5_perhaps_5 : decode cX5_perhaps 5 = .ok (.istore_n 2, 1) := dk_61 (dk_at dksX5_perhaps_0 5 rfl rfl)
theorem dX5_perhaps_6 : decode cX5_perhaps 6 = .ok (.iload_n 2, 1) := dk_28 (dk_at dksX5_perhaps_0 6 rfl rfl)
theorem dX5_perhaps_7 : decode cX5_perhaps 7 = .ok (.ifCond .eq 7, 3) := dk_153 0 7 (dk_at dksX5_perhaps_0 7 rfl rfl)
theorem dX5_perhaps_10 : decode cX5_perhaps 10 = .ok (.aload_n 0, 1) := dk_42 (dk_at dksX5_perhaps_0 10 rfl rfl)
theorem dX5_perhaps_11 : decode cX5_perhaps 11 = .ok (.invokevirtual 186, 3) := dk_182 0 186 (dk_at dksX5_perhaps_0 11 rfl rfl)
theorem dX5_perhaps_14 : decode cX5_perhaps 14 = .ok (.iload_n 2, 1) := dk_28 (dk_at dksX5_perhaps_0 14 rfl rfl)
theorem dX5_perhaps_15 : decode cX5_perhaps 15 = .ok (.ireturn, 1) := dk_172 (dk_at dksX5_perhaps_0 15 rfl rfl)
abbrev cX5_askedTold : ByteArray := prog_18_method_34_code
def yX5_askedTold : MethodName := ⟨RX5, "askedTold", "(Ljava/lang/String;I)Z"⟩
def dkwX5_askedTold_1 : List UInt8 := [153, 0, 10, 42, 180, 0, 183, 167, 0, 9, 42, 180, 0, 56, 28, 46, 79, 29, 172]
abbrev dktX5_askedTold_1 : List UInt8 := dkwX5_askedTold_1 ++ []
def dkwX5_askedTold_0 : List UInt8 := [42, 43, 42, 28, 182, 0, 130, 42, 28, 182, 0, 133, 182, 0, 198, 62, 42, 180, 0, 56, 28, 29]
abbrev dktX5_askedTold_0 : List UInt8 := dkwX5_askedTold_0 ++ dktX5_askedTold_1
theorem dksX5_askedTold_0 : cX5_askedTold.data.toList.drop 0 = dktX5_askedTold_0 := by decide +kernel
theorem dksX5_askedTold_1 : cX5_askedTold.data.toList.drop 22 = dktX5_askedTold_1 := dk_seg dksX5_askedTold_0 22 rfl rfl
theorem dX5_askedTold_0 : decode cX5_askedTold 0 = .ok (.aload_n 0, 1) := dk_42 (dk_at dksX5_askedTold_0 0 rfl rfl)
theorem dX5_askedTold_1 : decode cX5_askedTold 1 = .ok (.aload_n 1, 1) := dk_43 (dk_at dksX5_askedTold_0 1 rfl rfl)
theorem dX5_askedTold_2 : decode cX5_askedTold 2 = .ok (.aload_n 0, 1) := dk_42 (dk_at dksX5_askedTold_0 2 rfl rfl)
theorem dX5_askedTold_3 : decode cX5_askedTold 3 = .ok (.iload_n 2, 1) := dk_28 (dk_at dksX5_askedTold_0 3 rfl rfl)
theorem dX5_askedTold_4 : decode cX5_askedTold 4 = .ok (.invokevirtual 130, 3) := dk_182 0 130 (dk_at dksX5_askedTold_0 4 rfl rfl)
theorem dX5_askedTold_7 : decode cX5_askedTold 7 = .ok (.aload_n 0, 1) := dk_42 (dk_at dksX5_askedTold_0 7 rfl rfl)
theorem dX5_askedTold_8 : decode cX5_askedTold 8 = .ok (.iload_n 2, 1) := dk_28 (dk_at dksX5_askedTold_0 8 rfl rfl)
theorem dX5_askedTold_9 : decode cX5_askedTold 9 = .ok (.invokevirtual 133, 3) := dk_182 0 133 (dk_at dksX5_askedTold_0 9 rfl rfl)
theorem dX5_askedTold_12 : decode cX5_askedTold 12 = .ok (.invokevirtual 198, 3) := dk_182 0 198 (dk_at dksX5_askedTold_0 12 rfl rfl)
theorem dX5_askedTold_15 : decode cX5_askedTold 15 = .ok (.istore_n 3, 1) := dk_62 (dk_at dksX5_askedTold_0 15 rfl rfl)
theorem dX5_askedTold_16 : decode cX5_askedTold 16 = .ok (.aload_n 0, 1) := dk_42 (dk_at dksX5_askedTold_0 16 rfl rfl)
theorem dX5_askedTold_17 : decode cX5_askedTold 17 = .ok (.getfield 56, 3) := dk_180 0 56 (dk_at dksX5_askedTold_0 17 rfl rfl)
theorem dX5_askedTold_20 : decode cX5_askedTold 20 = .ok (.iload_n 2, 1) := dk_28 (dk_at dksX5_askedTold_0 20 rfl rfl)
theorem dX5_askedTold_21 : decode cX5_askedTold 21 = .ok (.iload_n 3, 1) := dk_29 (dk_at dksX5_askedTold_0 21 rfl rfl)
theorem dX5_askedTold_22 : decode cX5_askedTold 22 = .ok (.ifCond .eq 10, 3) := dk_153 0 10 (dk_at dksX5_askedTold_1 0 rfl rfl)
theorem dX5_askedTold_25 : decode cX5_askedTold 25 = .ok (.aload_n 0, 1) := dk_42 (dk_at dksX5_askedTold_1 3 rfl rfl)
theorem dX5_askedTold_26 : decode cX5_askedTold 26 = .ok (.getfield 183, 3) := dk_180 0 183 (dk_at dksX5_askedTold_1 4 rfl rfl)
theorem dX5_askedTold_29 : decode cX5_askedTold 29 = .ok (.goto 9, 3) := dk_167 0 9 (dk_at dksX5_askedTold_1 7 rfl rfl)
theorem dX5_askedTold_32 : decode cX5_askedTold 32 = .ok (.aload_n 0, 1) := dk_42 (dk_at dksX5_askedTold_1 10 rfl rfl)
theorem dX5_askedTold_33 : decode cX5_askedTold 33 = .ok (.getfield 56, 3) := dk_180 0 56 (dk_at dksX5_askedTold_1 11 rfl rfl)
theorem dX5_askedTold_36 : decode cX5_askedTold 36 = .ok (.iload_n 2, 1) := dk_28 (dk_at dksX5_askedTold_1 14 rfl rfl)
theorem dX5_askedTold_37 : decode cX5_askedTold 37 = .ok (.iaload, 1) := dk_46 (dk_at dksX5_askedTold_1 15 rfl rfl)
theorem dX5_askedTold_38 : decode cX5_askedTold 38 = .ok (.iastore, 1) := dk_79 (dk_at dksX5_askedTold_1 16 rfl rfl)
theorem dX5_askedTold_39 : decode cX5_askedTold 39 = .ok (.iload_n 3, 1) := dk_29 (dk_at dksX5_askedTold_1 17 rfl rfl)
theorem dX5_askedTold_40 : decode cX5_askedTold 40 = .ok (.ireturn, 1) := dk_172 (dk_at dksX5_askedTold_1 18 rfl rfl)
abbrev cX5_stepOf : ByteArray := prog_18_method_38_code
def yX5_stepOf : MethodName := ⟨RX5, "stepOf", "(II)I"⟩
def dkwX5_stepOf_3 : List UInt8 := [167, 0, 12, 42, 180, 0, 44, 27, 51, 153, 0, 7, 4, 167, 0, 4, 3, 172]
abbrev dktX5_stepOf_3 : List UInt8 := dkwX5_stepOf_3 ++ []
def dkwX5_stepOf_2 : List UInt8 := [27, 51, 153, 0, 36, 167, 0, 29, 28, 5, 160, 0, 15, 42, 180, 0, 40, 27, 51, 153, 0, 19]
abbrev dktX5_stepOf_2 : List UInt8 := dkwX5_stepOf_2 ++ dktX5_stepOf_3
def dkwX5_stepOf_1 : List UInt8 := [182, 0, 93, 172, 28, 154, 0, 10, 42, 180, 0, 37, 27, 46, 172, 28, 4, 160, 0, 15, 42, 180, 0, 47]
abbrev dktX5_stepOf_1 : List UInt8 := dkwX5_stepOf_1 ++ dktX5_stepOf_2
def dkwX5_stepOf_0 : List UInt8 := [42, 27, 182, 0, 136, 153, 0, 15, 28, 133, 9, 20, 0, 249, 184, 0, 80, 154, 0, 10, 42, 16, 254]
abbrev dktX5_stepOf_0 : List UInt8 := dkwX5_stepOf_0 ++ dktX5_stepOf_1
theorem dksX5_stepOf_0 : cX5_stepOf.data.toList.drop 0 = dktX5_stepOf_0 := by decide +kernel
theorem dksX5_stepOf_1 : cX5_stepOf.data.toList.drop 23 = dktX5_stepOf_1 := dk_seg dksX5_stepOf_0 23 rfl rfl
theorem dksX5_stepOf_2 : cX5_stepOf.data.toList.drop 47 = dktX5_stepOf_2 := dk_seg dksX5_stepOf_1 24 rfl rfl
theorem dksX5_stepOf_3 : cX5_stepOf.data.toList.drop 69 = dktX5_stepOf_3 := dk_seg dksX5_stepOf_2 22 rfl rfl
theorem dX5_stepOf_0 : decode cX5_stepOf 0 = .ok (.aload_n 0, 1) := dk_42 (dk_at dksX5_stepOf_0 0 rfl rfl)
theorem dX5_stepOf_1 : decode cX5_stepOf 1 = .ok (.iload_n 1, 1) := dk_27 (dk_at dksX5_stepOf_0 1 rfl rfl)
theorem dX5_stepOf_2 : decode cX5_stepOf 2 = .ok (.invokevirtual 136, 3) := dk_182 0 136 (dk_at dksX5_stepOf_0 2 rfl rfl)
theorem dX5_stepOf_5 : decode cX5_stepOf 5 = .ok (.ifCond .eq 15, 3) := dk_153 0 15 (dk_at dksX5_stepOf_0 5 rfl rfl)
theorem dX5_stepOf_8 : decode cX5_stepOf 8 = .ok (.iload_n 2, 1) := dk_28 (dk_at dksX5_stepOf_0 8 rfl rfl)
theorem dX5_stepOf_9 : decode cX5_stepOf 9 = .ok (.i2l, 1) := dk_133 (dk_at dksX5_stepOf_0 9 rfl rfl)
theorem dX5_stepOf_10 : decode cX5_stepOf 10 = .ok (.lconst 0, 1) := dk_9 (dk_at dksX5_stepOf_0 10 rfl rfl)
theorem dX5_stepOf_11 : decode cX5_stepOf 11 = .ok (.ldc2_w 249, 3) := dk_20 0 249 (dk_at dksX5_stepOf_0 11 rfl rfl)
theorem dX5_stepOf_14 : decode cX5_stepOf 14 = .ok (.invokestatic 80, 3) := dk_184 0 80 (dk_at dksX5_stepOf_0 14 rfl rfl)
theorem dX5_stepOf_17 : decode cX5_stepOf 17 = .ok (.ifCond .ne 10, 3) := dk_154 0 10 (dk_at dksX5_stepOf_0 17 rfl rfl)
theorem dX5_stepOf_20 : decode cX5_stepOf 20 = .ok (.aload_n 0, 1) := dk_42 (dk_at dksX5_stepOf_0 20 rfl rfl)
theorem dX5_stepOf_21 : decode cX5_stepOf 21 = .ok (.bipush (-2), 2) := dk_16 254 (dk_at dksX5_stepOf_0 21 rfl rfl)
theorem dX5_stepOf_23 : decode cX5_stepOf 23 = .ok (.invokevirtual 93, 3) := dk_182 0 93 (dk_at dksX5_stepOf_1 0 rfl rfl)
theorem dX5_stepOf_26 : decode cX5_stepOf 26 = .ok (.ireturn, 1) := dk_172 (dk_at dksX5_stepOf_1 3 rfl rfl)
theorem dX5_stepOf_27 : decode cX5_stepOf 27 = .ok (.iload_n 2, 1) := dk_28 (dk_at dksX5_stepOf_1 4 rfl rfl)
theorem dX5_stepOf_28 : decode cX5_stepOf 28 = .ok (.ifCond .ne 10, 3) := dk_154 0 10 (dk_at dksX5_stepOf_1 5 rfl rfl)
theorem dX5_stepOf_31 : decode cX5_stepOf 31 = .ok (.aload_n 0, 1) := dk_42 (dk_at dksX5_stepOf_1 8 rfl rfl)
theorem dX5_stepOf_32 : decode cX5_stepOf 32 = .ok (.getfield 37, 3) := dk_180 0 37 (dk_at dksX5_stepOf_1 9 rfl rfl)
theorem dX5_stepOf_35 : decode cX5_stepOf 35 = .ok (.iload_n 1, 1) := dk_27 (dk_at dksX5_stepOf_1 12 rfl rfl)
theorem dX5_stepOf_36 : decode cX5_stepOf 36 = .ok (.iaload, 1) := dk_46 (dk_at dksX5_stepOf_1 13 rfl rfl)
theorem dX5_stepOf_37 : decode cX5_stepOf 37 = .ok (.ireturn, 1) := dk_172 (dk_at dksX5_stepOf_1 14 rfl rfl)
theorem dX5_stepOf_38 : decode cX5_stepOf 38 = .ok (.iload_n 2, 1) := dk_28 (dk_at dksX5_stepOf_1 15 rfl rfl)
theorem dX5_stepOf_39 : decode cX5_stepOf 39 = .ok (.iconst 1, 1) := dk_4 (dk_at dksX5_stepOf_1 16 rfl rfl)
theorem dX5_stepOf_40 : decode cX5_stepOf 40 = .ok (.if_icmp .ne 15, 3) := dk_160 0 15 (dk_at dksX5_stepOf_1 17 rfl rfl)
theorem dX5_stepOf_43 : decode cX5_stepOf 43 = .ok (.aload_n 0, 1) := dk_42 (dk_at dksX5_stepOf_1 20 rfl rfl)
theorem dX5_stepOf_44 : decode cX5_stepOf 44 = .ok (.getfield 47, 3) := dk_180 0 47 (dk_at dksX5_stepOf_1 21 rfl rfl)
theorem dX5_stepOf_47 : decode cX5_stepOf 47 = .ok (.iload_n 1, 1) := dk_27 (dk_at dksX5_stepOf_2 0 rfl rfl)
theorem dX5_stepOf_48 : decode cX5_stepOf 48 = .ok (.baload, 1) := dk_51 (dk_at dksX5_stepOf_2 1 rfl rfl)
theorem dX5_stepOf_49 : decode cX5_stepOf 49 = .ok (.ifCond .eq 36, 3) := dk_153 0 36 (dk_at dksX5_stepOf_2 2 rfl rfl)
theorem dX5_stepOf_52 : decode cX5_stepOf 52 = .ok (.goto 29, 3) := dk_167 0 29 (dk_at dksX5_stepOf_2 5 rfl rfl)
theorem dX5_stepOf_55 : decode cX5_stepOf 55 = .ok (.iload_n 2, 1) := dk_28 (dk_at dksX5_stepOf_2 8 rfl rfl)
theorem dX5_stepOf_56 : decode cX5_stepOf 56 = .ok (.iconst 2, 1) := dk_5 (dk_at dksX5_stepOf_2 9 rfl rfl)
theorem dX5_stepOf_57 : decode cX5_stepOf 57 = .ok (.if_icmp .ne 15, 3) := dk_160 0 15 (dk_at dksX5_stepOf_2 10 rfl rfl)
theorem dX5_stepOf_60 : decode cX5_stepOf 60 = .ok (.aload_n 0, 1) := dk_42 (dk_at dksX5_stepOf_2 13 rfl rfl)
theorem dX5_stepOf_61 : decode cX5_stepOf 61 = .ok (.getfield 40, 3) := dk_180 0 40 (dk_at dksX5_stepOf_2 14 rfl rfl)
theorem dX5_stepOf_64 : decode cX5_stepOf 64 = .ok (.iload_n 1, 1) := dk_27 (dk_at dksX5_stepOf_2 17 rfl rfl)
theorem dX5_stepOf_65 : decode cX5_stepOf 65 = .ok (.baload, 1) := dk_51 (dk_at dksX5_stepOf_2 18 rfl rfl)
theorem dX5_stepOf_66 : decode cX5_stepOf 66 = .ok (.ifCond .eq 19, 3) := dk_153 0 19 (dk_at dksX5_stepOf_2 19 rfl rfl)
theorem dX5_stepOf_69 : decode cX5_stepOf 69 = .ok (.goto 12, 3) := dk_167 0 12 (dk_at dksX5_stepOf_3 0 rfl rfl)
theorem dX5_stepOf_72 : decode cX5_stepOf 72 = .ok (.aload_n 0, 1) := dk_42 (dk_at dksX5_stepOf_3 3 rfl rfl)
theorem dX5_stepOf_73 : decode cX5_stepOf 73 = .ok (.getfield 44, 3) := dk_180 0 44 (dk_at dksX5_stepOf_3 4 rfl rfl)
theorem dX5_stepOf_76 : decode cX5_stepOf 76 = .ok (.iload_n 1, 1) := dk_27 (dk_at dksX5_stepOf_3 7 rfl rfl)
theorem dX5_stepOf_77 : decode cX5_stepOf 77 = .ok (.baload, 1) := dk_51 (dk_at dksX5_stepOf_3 8 rfl rfl)
theorem dX5_stepOf_78 : decode cX5_stepOf 78 = .ok (.ifCond .eq 7, 3) := dk_153 0 7 (dk_at dksX5_stepOf_3 9 rfl rfl)
theorem dX5_stepOf_81 : decode cX5_stepOf 81 = .ok (.iconst 1, 1) := dk_4 (dk_at dksX5_stepOf_3 12 rfl rfl)
theorem dX5_stepOf_82 : decode cX5_stepOf 82 = .ok (.goto 4, 3) := dk_167 0 4 (dk_at dksX5_stepOf_3 13 rfl rfl)
theorem dX5_stepOf_85 : decode cX5_stepOf 85 = .ok (.iconst 0, 1) := dk_3 (dk_at dksX5_stepOf_3 16 rfl rfl)
theorem dX5_stepOf_86 : decode cX5_stepOf 86 = .ok (.ireturn, 1) := dk_172 (dk_at dksX5_stepOf_3 17 rfl rfl)
abbrev cX5_wayOf : ByteArray := prog_18_method_39_code
def yX5_wayOf : MethodName := ⟨RX5, "wayOf", "(II)I"⟩
def dkwX5_wayOf_1 : List UInt8 := [182, 0, 93, 172, 28, 154, 0, 12, 42, 180, 0, 50, 27, 46, 167, 0, 9, 42, 180, 0, 53, 27, 46, 172]
abbrev dktX5_wayOf_1 : List UInt8 := dkwX5_wayOf_1 ++ []
def dkwX5_wayOf_0 : List UInt8 := [42, 27, 133, 182, 0, 104, 153, 0, 13, 28, 133, 9, 10, 184, 0, 80, 154, 0, 10, 42, 16, 254]
abbrev dktX5_wayOf_0 : List UInt8 := dkwX5_wayOf_0 ++ dktX5_wayOf_1
theorem dksX5_wayOf_0 : cX5_wayOf.data.toList.drop 0 = dktX5_wayOf_0 := by decide +kernel
theorem dksX5_wayOf_1 : cX5_wayOf.data.toList.drop 22 = dktX5_wayOf_1 := dk_seg dksX5_wayOf_0 22 rfl rfl
theorem dX5_wayOf_0 : decode cX5_wayOf 0 = .ok (.aload_n 0, 1) := dk_42 (dk_at dksX5_wayOf_0 0 rfl rfl)
theorem dX5_wayOf_1 : decode cX5_wayOf 1 = .ok (.iload_n 1, 1) := dk_27 (dk_at dksX5_wayOf_0 1 rfl rfl)
theorem dX5_wayOf_2 : decode cX5_wayOf 2 = .ok (.i2l, 1) := dk_133 (dk_at dksX5_wayOf_0 2 rfl rfl)
theorem dX5_wayOf_3 : decode cX5_wayOf 3 = .ok (.invokevirtual 104, 3) := dk_182 0 104 (dk_at dksX5_wayOf_0 3 rfl rfl)
theorem dX5_wayOf_6 : decode cX5_wayOf 6 = .ok (.ifCond .eq 13, 3) := dk_153 0 13 (dk_at dksX5_wayOf_0 6 rfl rfl)
theorem dX5_wayOf_9 : decode cX5_wayOf 9 = .ok (.iload_n 2, 1) := dk_28 (dk_at dksX5_wayOf_0 9 rfl rfl)
theorem dX5_wayOf_10 : decode cX5_wayOf 10 = .ok (.i2l, 1) := dk_133 (dk_at dksX5_wayOf_0 10 rfl rfl)
theorem dX5_wayOf_11 : decode cX5_wayOf 11 = .ok (.lconst 0, 1) := dk_9 (dk_at dksX5_wayOf_0 11 rfl rfl)
theorem dX5_wayOf_12 : decode cX5_wayOf 12 = .ok (.lconst 1, 1) := dk_10 (dk_at dksX5_wayOf_0 12 rfl rfl)
theorem dX5_wayOf_13 : decode cX5_wayOf 13 = .ok (.invokestatic 80, 3) := dk_184 0 80 (dk_at dksX5_wayOf_0 13 rfl rfl)
theorem dX5_wayOf_16 : decode cX5_wayOf 16 = .ok (.ifCond .ne 10, 3) := dk_154 0 10 (dk_at dksX5_wayOf_0 16 rfl rfl)
theorem dX5_wayOf_19 : decode cX5_wayOf 19 = .ok (.aload_n 0, 1) := dk_42 (dk_at dksX5_wayOf_0 19 rfl rfl)
theorem dX5_wayOf_20 : decode cX5_wayOf 20 = .ok (.bipush (-2), 2) := dk_16 254 (dk_at dksX5_wayOf_0 20 rfl rfl)
theorem dX5_wayOf_22 : decode cX5_wayOf 22 = .ok (.invokevirtual 93, 3) := dk_182 0 93 (dk_at dksX5_wayOf_1 0 rfl rfl)
theorem dX5_wayOf_25 : decode cX5_wayOf 25 = .ok (.ireturn, 1) := dk_172 (dk_at dksX5_wayOf_1 3 rfl rfl)
theorem dX5_wayOf_26 : decode cX5_wayOf 26 = .ok (.iload_n 2, 1) := dk_28 (dk_at dksX5_wayOf_1 4 rfl rfl)
theorem dX5_wayOf_27 : decode cX5_wayOf 27 = .ok (.ifCond .ne 12, 3) := dk_154 0 12 (dk_at dksX5_wayOf_1 5 rfl rfl)
theorem dX5_wayOf_30 : decode cX5_wayOf 30 = .ok (.aload_n 0, 1) := dk_42 (dk_at dksX5_wayOf_1 8 rfl rfl)
theorem dX5_wayOf_31 : decode cX5_wayOf 31 = .ok (.getfield 50, 3) := dk_180 0 50 (dk_at dksX5_wayOf_1 9 rfl rfl)
theorem dX5_wayOf_34 : decode cX5_wayOf 34 = .ok (.iload_n 1, 1) := dk_27 (dk_at dksX5_wayOf_1 12 rfl rfl)
theorem dX5_wayOf_35 : decode cX5_wayOf 35 = .ok (.iaload, 1) := dk_46 (dk_at dksX5_wayOf_1 13 rfl rfl)
theorem dX5_wayOf_36 : decode cX5_wayOf 36 = .ok (.goto 9, 3) := dk_167 0 9 (dk_at dksX5_wayOf_1 14 rfl rfl)
theorem dX5_wayOf_39 : decode cX5_wayOf 39 = .ok (.aload_n 0, 1) := dk_42 (dk_at dksX5_wayOf_1 17 rfl rfl)
theorem dX5_wayOf_40 : decode cX5_wayOf 40 = .ok (.getfield 53, 3) := dk_180 0 53 (dk_at dksX5_wayOf_1 18 rfl rfl)
theorem dX5_wayOf_43 : decode cX5_wayOf 43 = .ok (.iload_n 1, 1) := dk_27 (dk_at dksX5_wayOf_1 21 rfl rfl)
theorem dX5_wayOf_44 : decode cX5_wayOf 44 = .ok (.iaload, 1) := dk_46 (dk_at dksX5_wayOf_1 22 rfl rfl)
theorem dX5_wayOf_45 : decode cX5_wayOf 45 = .ok (.ireturn, 1) := dk_172 (dk_at dksX5_wayOf_1 23 rfl rfl)
abbrev cX5_asked : ByteArray := prog_18_method_40_code
def yX5_asked : MethodName := ⟨RX5, "asked", "(I)I"⟩
def dkwX5_asked_1 : List UInt8 := [182, 0, 93, 172]
abbrev dktX5_asked_1 : List UInt8 := dkwX5_asked_1 ++ []
def dkwX5_asked_0 : List UInt8 := [27, 133, 9, 20, 0, 128, 184, 0, 80, 153, 0, 12, 42, 180, 0, 56, 27, 46, 167, 0, 9, 42, 16, 254]
abbrev dktX5_asked_0 : List UInt8 := dkwX5_asked_0 ++ dktX5_asked_1
theorem dksX5_asked_0 : cX5_asked.data.toList.drop 0 = dktX5_asked_0 := by decide +kernel
theorem dksX5_asked_1 : cX5_asked.data.toList.drop 24 = dktX5_asked_1 := dk_seg dksX5_asked_0 24 rfl rfl
theorem dX5_asked_0 : decode cX5_asked 0 = .ok (.iload_n 1, 1) := dk_27 (dk_at dksX5_asked_0 0 rfl rfl)
theorem dX5_asked_1 : decode cX5_asked 1 = .ok (.i2l, 1) := dk_133 (dk_at dksX5_asked_0 1 rfl rfl)
theorem dX5_asked_2 : decode cX5_asked 2 = .ok (.lconst 0, 1) := dk_9 (dk_at dksX5_asked_0 2 rfl rfl)
theorem dX5_asked_3 : decode cX5_asked 3 = .ok (.ldc2_w 128, 3) := dk_20 0 128 (dk_at dksX5_asked_0 3 rfl rfl)
theorem dX5_asked_6 : decode cX5_asked 6 = .ok (.invokestatic 80, 3) := dk_184 0 80 (dk_at dksX5_asked_0 6 rfl rfl)
theorem dX5_asked_9 : decode cX5_asked 9 = .ok (.ifCond .eq 12, 3) := dk_153 0 12 (dk_at dksX5_asked_0 9 rfl rfl)
theorem dX5_asked_12 : decode cX5_asked 12 = .ok (.aload_n 0, 1) := dk_42 (dk_at dksX5_asked_0 12 rfl rfl)
theorem dX5_asked_13 : decode cX5_asked 13 = .ok (.getfield 56, 3) := dk_180 0 56 (dk_at dksX5_asked_0 13 rfl rfl)
theorem dX5_asked_16 : decode cX5_asked 16 = .ok (.iload_n 1, 1) := dk_27 (dk_at dksX5_asked_0 16 rfl rfl)
theorem dX5_asked_17 : decode cX5_asked 17 = .ok (.iaload, 1) := dk_46 (dk_at dksX5_asked_0 17 rfl rfl)
theorem dX5_asked_18 : decode cX5_asked 18 = .ok (.goto 9, 3) := dk_167 0 9 (dk_at dksX5_asked_0 18 rfl rfl)
theorem dX5_asked_21 : decode cX5_asked 21 = .ok (.aload_n 0, 1) := dk_42 (dk_at dksX5_asked_0 21 rfl rfl)
theorem dX5_asked_22 : decode cX5_asked 22 = .ok (.bipush (-2), 2) := dk_16 254 (dk_at dksX5_asked_0 22 rfl rfl)
theorem dX5_asked_24 : decode cX5_asked 24 = .ok (.invokevirtual 93, 3) := dk_182 0 93 (dk_at dksX5_asked_1 0 rfl rfl)
theorem dX5_asked_27 : decode cX5_asked 27 = .ok (.ireturn, 1) := dk_172 (dk_at dksX5_asked_1 3 rfl rfl)
abbrev cX5_move : ByteArray := prog_18_method_46_code
def yX5_move : MethodName := ⟨RX5, "move", "(III)I"⟩
def dkwX5_move_4 : List UInt8 := [182, 0, 118, 172]
abbrev dktX5_move_4 : List UInt8 := dkwX5_move_4 ++ []
def dkwX5_move_3 : List UInt8 := [182, 0, 121, 167, 0, 22, 29, 4, 160, 0, 11, 42, 27, 182, 0, 254, 167, 0, 9, 42, 27, 28]
abbrev dktX5_move_3 : List UInt8 := dkwX5_move_3 ++ dktX5_move_4
def dkwX5_move_2 : List UInt8 := [16, 100, 164, 0, 8, 16, 100, 167, 0, 9, 42, 27, 28, 182, 0, 114, 172, 29, 154, 0, 12, 42, 27, 28]
abbrev dktX5_move_2 : List UInt8 := dkwX5_move_2 ++ dktX5_move_3
def dkwX5_move_1 : List UInt8 := [184, 0, 80, 154, 0, 10, 42, 16, 254, 182, 0, 93, 172, 29, 6, 160, 0, 26, 42, 27, 28, 182, 0, 114]
abbrev dktX5_move_1 : List UInt8 := dkwX5_move_1 ++ dktX5_move_2
def dkwX5_move_0 : List UInt8 := [42, 27, 133, 182, 0, 104, 153, 0, 23, 42, 28, 182, 0, 136, 153, 0, 15, 29, 133, 9, 20, 0, 249]
abbrev dktX5_move_0 : List UInt8 := dkwX5_move_0 ++ dktX5_move_1
theorem dksX5_move_0 : cX5_move.data.toList.drop 0 = dktX5_move_0 := by decide +kernel
theorem dksX5_move_1 : cX5_move.data.toList.drop 23 = dktX5_move_1 := dk_seg dksX5_move_0 23 rfl rfl
theorem dksX5_move_2 : cX5_move.data.toList.drop 47 = dktX5_move_2 := dk_seg dksX5_move_1 24 rfl rfl
theorem dksX5_move_3 : cX5_move.data.toList.drop 71 = dktX5_move_3 := dk_seg dksX5_move_2 24 rfl rfl
theorem dksX5_move_4 : cX5_move.data.toList.drop 93 = dktX5_move_4 := dk_seg dksX5_move_3 22 rfl rfl
theorem dX5_move_0 : decode cX5_move 0 = .ok (.aload_n 0, 1) := dk_42 (dk_at dksX5_move_0 0 rfl rfl)
theorem dX5_move_1 : decode cX5_move 1 = .ok (.iload_n 1, 1) := dk_27 (dk_at dksX5_move_0 1 rfl rfl)
theorem dX5_move_2 : decode cX5_move 2 = .ok (.i2l, 1) := dk_133 (dk_at dksX5_move_0 2 rfl rfl)
theorem dX5_move_3 : decode cX5_move 3 = .ok (.invokevirtual 104, 3) := dk_182 0 104 (dk_at dksX5_move_0 3 rfl rfl)
theorem dX5_move_6 : decode cX5_move 6 = .ok (.ifCond .eq 23, 3) := dk_153 0 23 (dk_at dksX5_move_0 6 rfl rfl)
theorem dX5_move_9 : decode cX5_move 9 = .ok (.aload_n 0, 1) := dk_42 (dk_at dksX5_move_0 9 rfl rfl)
theorem dX5_move_10 : decode cX5_move 10 = .ok (.iload_n 2, 1) := dk_28 (dk_at dksX5_move_0 10 rfl rfl)
theorem dX5_move_11 : decode cX5_move 11 = .ok (.invokevirtual 136, 3) := dk_182 0 136 (dk_at dksX5_move_0 11 rfl rfl)
theorem dX5_move_14 : decode cX5_move 14 = .ok (.ifCond .eq 15, 3) := dk_153 0 15 (dk_at dksX5_move_0 14 rfl rfl)
theorem dX5_move_17 : decode cX5_move 17 = .ok (.iload_n 3, 1) := dk_29 (dk_at dksX5_move_0 17 rfl rfl)
theorem dX5_move_18 : decode cX5_move 18 = .ok (.i2l, 1) := dk_133 (dk_at dksX5_move_0 18 rfl rfl)
theorem dX5_move_19 : decode cX5_move 19 = .ok (.lconst 0, 1) := dk_9 (dk_at dksX5_move_0 19 rfl rfl)
theorem dX5_move_20 : decode cX5_move 20 = .ok (.ldc2_w 249, 3) := dk_20 0 249 (dk_at dksX5_move_0 20 rfl rfl)
theorem dX5_move_23 : decode cX5_move 23 = .ok (.invokestatic 80, 3) := dk_184 0 80 (dk_at dksX5_move_1 0 rfl rfl)
theorem dX5_move_26 : decode cX5_move 26 = .ok (.ifCond .ne 10, 3) := dk_154 0 10 (dk_at dksX5_move_1 3 rfl rfl)
theorem dX5_move_29 : decode cX5_move 29 = .ok (.aload_n 0, 1) := dk_42 (dk_at dksX5_move_1 6 rfl rfl)
theorem dX5_move_30 : decode cX5_move 30 = .ok (.bipush (-2), 2) := dk_16 254 (dk_at dksX5_move_1 7 rfl rfl)
theorem dX5_move_32 : decode cX5_move 32 = .ok (.invokevirtual 93, 3) := dk_182 0 93 (dk_at dksX5_move_1 9 rfl rfl)
theorem dX5_move_35 : decode cX5_move 35 = .ok (.ireturn, 1) := dk_172 (dk_at dksX5_move_1 12 rfl rfl)
theorem dX5_move_36 : decode cX5_move 36 = .ok (.iload_n 3, 1) := dk_29 (dk_at dksX5_move_1 13 rfl rfl)
theorem dX5_move_37 : decode cX5_move 37 = .ok (.iconst 3, 1) := dk_6 (dk_at dksX5_move_1 14 rfl rfl)
theorem dX5_move_38 : decode cX5_move 38 = .ok (.if_icmp .ne 26, 3) := dk_160 0 26 (dk_at dksX5_move_1 15 rfl rfl)
theorem dX5_move_41 : decode cX5_move 41 = .ok (.aload_n 0, 1) := dk_42 (dk_at dksX5_move_1 18 rfl rfl)
theorem dX5_move_42 : decode cX5_move 42 = .ok (.iload_n 1, 1) := dk_27 (dk_at dksX5_move_1 19 rfl rfl)
theorem dX5_move_43 : decode cX5_move 43 = .ok (.iload_n 2, 1) := dk_28 (dk_at dksX5_move_1 20 rfl rfl)
theorem dX5_move_44 : decode cX5_move 44 = .ok (.invokevirtual 114, 3) := dk_182 0 114 (dk_at dksX5_move_1 21 rfl rfl)
theorem dX5_move_47 : decode cX5_move 47 = .ok (.bipush 100, 2) := dk_16 100 (dk_at dksX5_move_2 0 rfl rfl)
theorem dX5_move_49 : decode cX5_move 49 = .ok (.if_icmp .le 8, 3) := dk_164 0 8 (dk_at dksX5_move_2 2 rfl rfl)
theorem dX5_move_52 : decode cX5_move 52 = .ok (.bipush 100, 2) := dk_16 100 (dk_at dksX5_move_2 5 rfl rfl)
theorem dX5_move_54 : decode cX5_move 54 = .ok (.goto 9, 3) := dk_167 0 9 (dk_at dksX5_move_2 7 rfl rfl)
theorem dX5_move_57 : decode cX5_move 57 = .ok (.aload_n 0, 1) := dk_42 (dk_at dksX5_move_2 10 rfl rfl)
theorem dX5_move_58 : decode cX5_move 58 = .ok (.iload_n 1, 1) := dk_27 (dk_at dksX5_move_2 11 rfl rfl)
theorem dX5_move_59 : decode cX5_move 59 = .ok (.iload_n 2, 1) := dk_28 (dk_at dksX5_move_2 12 rfl rfl)
theorem dX5_move_60 : decode cX5_move 60 = .ok (.invokevirtual 114, 3) := dk_182 0 114 (dk_at dksX5_move_2 13 rfl rfl)
theorem dX5_move_63 : decode cX5_move 63 = .ok (.ireturn, 1) := dk_172 (dk_at dksX5_move_2 16 rfl rfl)
theorem dX5_move_64 : decode cX5_move 64 = .ok (.iload_n 3, 1) := dk_29 (dk_at dksX5_move_2 17 rfl rfl)
theorem dX5_move_65 : decode cX5_move 65 = .ok (.ifCond .ne 12, 3) := dk_154 0 12 (dk_at dksX5_move_2 18 rfl rfl)
theorem dX5_move_68 : decode cX5_move 68 = .ok (.aload_n 0, 1) := dk_42 (dk_at dksX5_move_2 21 rfl rfl)
theorem dX5_move_69 : decode cX5_move 69 = .ok (.iload_n 1, 1) := dk_27 (dk_at dksX5_move_2 22 rfl rfl)
theorem dX5_move_70 : decode cX5_move 70 = .ok (.iload_n 2, 1) := dk_28 (dk_at dksX5_move_2 23 rfl rfl)
theorem dX5_move_71 : decode cX5_move 71 = .ok (.invokevirtual 121, 3) := dk_182 0 121 (dk_at dksX5_move_3 0 rfl rfl)
theorem dX5_move_74 : decode cX5_move 74 = .ok (.goto 22, 3) := dk_167 0 22 (dk_at dksX5_move_3 3 rfl rfl)
theorem dX5_move_77 : decode cX5_move 77 = .ok (.iload_n 3, 1) := dk_29 (dk_at dksX5_move_3 6 rfl rfl)
theorem dX5_move_78 : decode cX5_move 78 = .ok (.iconst 1, 1) := dk_4 (dk_at dksX5_move_3 7 rfl rfl)
theorem dX5_move_79 : decode cX5_move 79 = .ok (.if_icmp .ne 11, 3) := dk_160 0 11 (dk_at dksX5_move_3 8 rfl rfl)
theorem dX5_move_82 : decode cX5_move 82 = .ok (.aload_n 0, 1) := dk_42 (dk_at dksX5_move_3 11 rfl rfl)
theorem dX5_move_83 : decode cX5_move 83 = .ok (.iload_n 1, 1) := dk_27 (dk_at dksX5_move_3 12 rfl rfl)
theorem dX5_move_84 : decode cX5_move 84 = .ok (.invokevirtual 254, 3) := dk_182 0 254 (dk_at dksX5_move_3 13 rfl rfl)
theorem dX5_move_87 : decode cX5_move 87 = .ok (.goto 9, 3) := dk_167 0 9 (dk_at dksX5_move_3 16 rfl rfl)
theorem dX5_move_90 : decode cX5_move 90 = .ok (.aload_n 0, 1) := dk_42 (dk_at dksX5_move_3 19 rfl rfl)
theorem dX5_move_91 : decode cX5_move 91 = .ok (.iload_n 1, 1) := dk_27 (dk_at dksX5_move_3 20 rfl rfl)
theorem dX5_move_92 : decode cX5_move 92 = .ok (.iload_n 2, 1) := dk_28 (dk_at dksX5_move_3 21 rfl rfl)
theorem dX5_move_93 : decode cX5_move 93 = .ok (.invokevirtual 118, 3) := dk_182 0 118 (dk_at dksX5_move_4 0 rfl rfl)
theorem dX5_move_96 : decode cX5_move 96 = .ok (.ireturn, 1) := dk_172 (dk_at dksX5_move_4 3 rfl rfl)
abbrev cX5_hands : ByteArray := prog_18_method_43_code
def yX5_hands : MethodName := ⟨RX5, "hands", "(I)I"⟩
def dkwX5_hands_3 : List UInt8 := [42, 180, 0, 56, 3, 46, 5, 108, 172, 3, 172]
abbrev dktX5_hands_3 : List UInt8 := dkwX5_hands_3 ++ []
def dkwX5_hands_2 : List UInt8 := [42, 180, 0, 56, 3, 46, 42, 180, 0, 53, 27, 46, 104, 16, 10, 108, 172, 42, 180, 0, 56, 3, 46, 172]
abbrev dktX5_hands_2 : List UInt8 := dkwX5_hands_2 ++ dktX5_hands_3
def dkwX5_hands_1 : List UInt8 := [170, 0, 0, 0, 0, 63, 0, 0, 0, 1, 0, 0, 0, 4, 0, 0, 0, 30, 0, 0, 0, 47, 0, 0, 0, 30, 0, 0, 0, 54]
abbrev dktX5_hands_1 : List UInt8 := dkwX5_hands_1 ++ dktX5_hands_2
def dkwX5_hands_0 : List UInt8 := [42, 180, 0, 50, 27, 46]
abbrev dktX5_hands_0 : List UInt8 := dkwX5_hands_0 ++ dktX5_hands_1
theorem dksX5_hands_0 : cX5_hands.data.toList.drop 0 = dktX5_hands_0 := by decide +kernel
theorem dksX5_hands_1 : cX5_hands.data.toList.drop 6 = dktX5_hands_1 := dk_seg dksX5_hands_0 6 rfl rfl
theorem dksX5_hands_2 : cX5_hands.data.toList.drop 36 = dktX5_hands_2 := dk_seg dksX5_hands_1 30 rfl rfl
theorem dksX5_hands_3 : cX5_hands.data.toList.drop 60 = dktX5_hands_3 := dk_seg dksX5_hands_2 24 rfl rfl
theorem dX5_hands_0 : decode cX5_hands 0 = .ok (.aload_n 0, 1) := dk_42 (dk_at dksX5_hands_0 0 rfl rfl)
theorem dX5_hands_1 : decode cX5_hands 1 = .ok (.getfield 50, 3) := dk_180 0 50 (dk_at dksX5_hands_0 1 rfl rfl)
theorem dX5_hands_4 : decode cX5_hands 4 = .ok (.iload_n 1, 1) := dk_27 (dk_at dksX5_hands_0 4 rfl rfl)
theorem dX5_hands_5 : decode cX5_hands 5 = .ok (.iaload, 1) := dk_46 (dk_at dksX5_hands_0 5 rfl rfl)
theorem dX5_hands_6 : decode cX5_hands 6 = .ok (.tableswitch 63 1 4 #[30, 47, 30, 54], 30) := by decide +kernel
theorem dX5_hands_36 : decode cX5_hands 36 = .ok (.aload_n 0, 1) := dk_42 (dk_at dksX5_hands_2 0 rfl rfl)
theorem dX5_hands_37 : decode cX5_hands 37 = .ok (.getfield 56, 3) := dk_180 0 56 (dk_at dksX5_hands_2 1 rfl rfl)
theorem dX5_hands_40 : decode cX5_hands 40 = .ok (.iconst 0, 1) := dk_3 (dk_at dksX5_hands_2 4 rfl rfl)
theorem dX5_hands_41 : decode cX5_hands 41 = .ok (.iaload, 1) := dk_46 (dk_at dksX5_hands_2 5 rfl rfl)
theorem dX5_hands_42 : decode cX5_hands 42 = .ok (.aload_n 0, 1) := dk_42 (dk_at dksX5_hands_2 6 rfl rfl)
theorem dX5_hands_43 : decode cX5_hands 43 = .ok (.getfield 53, 3) := dk_180 0 53 (dk_at dksX5_hands_2 7 rfl rfl)
theorem dX5_hands_46 : decode cX5_hands 46 = .ok (.iload_n 1, 1) := dk_27 (dk_at dksX5_hands_2 10 rfl rfl)
theorem dX5_hands_47 : decode cX5_hands 47 = .ok (.iaload, 1) := dk_46 (dk_at dksX5_hands_2 11 rfl rfl)
theorem dX5_hands_48 : decode cX5_hands 48 = .ok (.imul, 1) := dk_104 (dk_at dksX5_hands_2 12 rfl rfl)
theorem dX5_hands_49 : decode cX5_hands 49 = .ok (.bipush 10, 2) := dk_16 10 (dk_at dksX5_hands_2 13 rfl rfl)
theorem dX5_hands_51 : decode cX5_hands 51 = .ok (.idiv, 1) := dk_108 (dk_at dksX5_hands_2 15 rfl rfl)
theorem dX5_hands_52 : decode cX5_hands 52 = .ok (.ireturn, 1) := dk_172 (dk_at dksX5_hands_2 16 rfl rfl)
theorem dX5_hands_53 : decode cX5_hands 53 = .ok (.aload_n 0, 1) := dk_42 (dk_at dksX5_hands_2 17 rfl rfl)
theorem dX5_hands_54 : decode cX5_hands 54 = .ok (.getfield 56, 3) := dk_180 0 56 (dk_at dksX5_hands_2 18 rfl rfl)
theorem dX5_hands_57 : decode cX5_hands 57 = .ok (.iconst 0, 1) := dk_3 (dk_at dksX5_hands_2 21 rfl rfl)
theorem dX5_hands_58 : decode cX5_hands 58 = .ok (.iaload, 1) := dk_46 (dk_at dksX5_hands_2 22 rfl rfl)
theorem dX5_hands_59 : decode cX5_hands 59 = .ok (.ireturn, 1) := dk_172 (dk_at dksX5_hands_2 23 rfl rfl)
theorem dX5_hands_60 : decode cX5_hands 60 = .ok (.aload_n 0, 1) := dk_42 (dk_at dksX5_hands_3 0 rfl rfl)
theorem dX5_hands_61 : decode cX5_hands 61 = .ok (.getfield 56, 3) := dk_180 0 56 (dk_at dksX5_hands_3 1 rfl rfl)
theorem dX5_hands_64 : decode cX5_hands 64 = .ok (.iconst 0, 1) := dk_3 (dk_at dksX5_hands_3 4 rfl rfl)
theorem dX5_hands_65 : decode cX5_hands 65 = .ok (.iaload, 1) := dk_46 (dk_at dksX5_hands_3 5 rfl rfl)
theorem dX5_hands_66 : decode cX5_hands 66 = .ok (.iconst 2, 1) := dk_5 (dk_at dksX5_hands_3 6 rfl rfl)
theorem dX5_hands_67 : decode cX5_hands 67 = .ok (.idiv, 1) := dk_108 (dk_at dksX5_hands_3 7 rfl rfl)
theorem dX5_hands_68 : decode cX5_hands 68 = .ok (.ireturn, 1) := dk_172 (dk_at dksX5_hands_3 8 rfl rfl)
theorem dX5_hands_69 : decode cX5_hands 69 = .ok (.iconst 0, 1) := dk_3 (dk_at dksX5_hands_3 9 rfl rfl)
theorem dX5_hands_70 : decode cX5_hands 70 = .ok (.ireturn, 1) := dk_172 (dk_at dksX5_hands_3 10 rfl rfl)
abbrev cX5_may : ByteArray := prog_18_method_49_code
def yX5_may : MethodName := ⟨RX5, "may", "(II)I"⟩
def dkwX5_may_2 : List UInt8 := [182, 1, 3, 153, 0, 10, 4, 21, 4, 120, 167, 0, 4, 3, 128, 62, 132, 4, 1, 167, 255, 222, 29, 172]
abbrev dktX5_may_2 : List UInt8 := dkwX5_may_2 ++ []
def dkwX5_may_1 : List UInt8 := [182, 0, 93, 172, 3, 62, 3, 54, 4, 21, 4, 42, 180, 0, 84, 162, 0, 31, 29, 42, 21, 4, 27, 28]
abbrev dktX5_may_1 : List UInt8 := dkwX5_may_1 ++ dktX5_may_2
def dkwX5_may_0 : List UInt8 := [42, 27, 182, 0, 136, 153, 0, 15, 28, 133, 9, 20, 1, 1, 184, 0, 80, 154, 0, 10, 42, 16, 254]
abbrev dktX5_may_0 : List UInt8 := dkwX5_may_0 ++ dktX5_may_1
theorem dksX5_may_0 : cX5_may.data.toList.drop 0 = dktX5_may_0 := by decide +kernel
theorem dksX5_may_1 : cX5_may.data.toList.drop 23 = dktX5_may_1 := dk_seg dksX5_may_0 23 rfl rfl
theorem dksX5_may_2 : cX5_may.data.toList.drop 47 = dktX5_may_2 := dk_seg dksX5_may_1 24 rfl rfl
theorem dX5_may_0 : decode cX5_may 0 = .ok (.aload_n 0, 1) := dk_42 (dk_at dksX5_may_0 0 rfl rfl)
theorem dX5_may_1 : decode cX5_may 1 = .ok (.iload_n 1, 1) := dk_27 (dk_at dksX5_may_0 1 rfl rfl)
theorem dX5_may_2 : decode cX5_may 2 = .ok (.invokevirtual 136, 3) := dk_182 0 136 (dk_at dksX5_may_0 2 rfl rfl)
theorem dX5_may_5 : decode cX5_may 5 = .ok (.ifCond .eq 15, 3) := dk_153 0 15 (dk_at dksX5_may_0 5 rfl rfl)
theorem dX5_may_8 : decode cX5_may 8 = .ok (.iload_n 2, 1) := dk_28 (dk_at dksX5_may_0 8 rfl rfl)
theorem dX5_may_9 : decode cX5_may 9 = .ok (.i2l, 1) := dk_133 (dk_at dksX5_may_0 9 rfl rfl)
theorem dX5_may_10 : decode cX5_may 10 = .ok (.lconst 0, 1) := dk_9 (dk_at dksX5_may_0 10 rfl rfl)
theorem dX5_may_11 : decode cX5_may 11 = .ok (.ldc2_w 257, 3) := dk_20 1 1 (dk_at dksX5_may_0 11 rfl rfl)
theorem dX5_may_14 : decode cX5_may 14 = .ok (.invokestatic 80, 3) := dk_184 0 80 (dk_at dksX5_may_0 14 rfl rfl)
theorem dX5_may_17 : decode cX5_may 17 = .ok (.ifCond .ne 10, 3) := dk_154 0 10 (dk_at dksX5_may_0 17 rfl rfl)
theorem dX5_may_20 : decode cX5_may 20 = .ok (.aload_n 0, 1) := dk_42 (dk_at dksX5_may_0 20 rfl rfl)
theorem dX5_may_21 : decode cX5_may 21 = .ok (.bipush (-2), 2) := dk_16 254 (dk_at dksX5_may_0 21 rfl rfl)
theorem dX5_may_23 : decode cX5_may 23 = .ok (.invokevirtual 93, 3) := dk_182 0 93 (dk_at dksX5_may_1 0 rfl rfl)
theorem dX5_may_26 : decode cX5_may 26 = .ok (.ireturn, 1) := dk_172 (dk_at dksX5_may_1 3 rfl rfl)
theorem dX5_may_27 : decode cX5_may 27 = .ok (.iconst 0, 1) := dk_3 (dk_at dksX5_may_1 4 rfl rfl)
theorem dX5_may_28 : decode cX5_may 28 = .ok (.istore_n 3, 1) := dk_62 (dk_at dksX5_may_1 5 rfl rfl)
theorem dX5_may_29 : decode cX5_may 29 = .ok (.iconst 0, 1) := dk_3 (dk_at dksX5_may_1 6 rfl rfl)
theorem dX5_may_30 : decode cX5_may 30 = .ok (.istore 4, 2) := dk_54 4 (dk_at dksX5_may_1 7 rfl rfl)
theorem dX5_may_32 : decode cX5_may 32 = .ok (.iload 4, 2) := dk_21 4 (dk_at dksX5_may_1 9 rfl rfl)
theorem dX5_may_34 : decode cX5_may 34 = .ok (.aload_n 0, 1) := dk_42 (dk_at dksX5_may_1 11 rfl rfl)
theorem dX5_may_35 : decode cX5_may 35 = .ok (.getfield 84, 3) := dk_180 0 84 (dk_at dksX5_may_1 12 rfl rfl)
theorem dX5_may_38 : decode cX5_may 38 = .ok (.if_icmp .ge 31, 3) := dk_162 0 31 (dk_at dksX5_may_1 15 rfl rfl)
theorem dX5_may_41 : decode cX5_may 41 = .ok (.iload_n 3, 1) := dk_29 (dk_at dksX5_may_1 18 rfl rfl)
theorem dX5_may_42 : decode cX5_may 42 = .ok (.aload_n 0, 1) := dk_42 (dk_at dksX5_may_1 19 rfl rfl)
theorem dX5_may_43 : decode cX5_may 43 = .ok (.iload 4, 2) := dk_21 4 (dk_at dksX5_may_1 20 rfl rfl)
theorem dX5_may_45 : decode cX5_may 45 = .ok (.iload_n 1, 1) := dk_27 (dk_at dksX5_may_1 22 rfl rfl)
theorem dX5_may_46 : decode cX5_may 46 = .ok (.iload_n 2, 1) := dk_28 (dk_at dksX5_may_1 23 rfl rfl)
theorem dX5_may_47 : decode cX5_may 47 = .ok (.invokevirtual 259, 3) := dk_182 1 3 (dk_at dksX5_may_2 0 rfl rfl)
theorem dX5_may_50 : decode cX5_may 50 = .ok (.ifCond .eq 10, 3) := dk_153 0 10 (dk_at dksX5_may_2 3 rfl rfl)
theorem dX5_may_53 : decode cX5_may 53 = .ok (.iconst 1, 1) := dk_4 (dk_at dksX5_may_2 6 rfl rfl)
theorem dX5_may_54 : decode cX5_may 54 = .ok (.iload 4, 2) := dk_21 4 (dk_at dksX5_may_2 7 rfl rfl)
theorem dX5_may_56 : decode cX5_may 56 = .ok (.ishl, 1) := dk_120 (dk_at dksX5_may_2 9 rfl rfl)
theorem dX5_may_57 : decode cX5_may 57 = .ok (.goto 4, 3) := dk_167 0 4 (dk_at dksX5_may_2 10 rfl rfl)
theorem dX5_may_60 : decode cX5_may 60 = .ok (.iconst 0, 1) := dk_3 (dk_at dksX5_may_2 13 rfl rfl)
theorem dX5_may_61 : decode cX5_may 61 = .ok (.ior, 1) := dk_128 (dk_at dksX5_may_2 14 rfl rfl)
theorem dX5_may_62 : decode cX5_may 62 = .ok (.istore_n 3, 1) := dk_62 (dk_at dksX5_may_2 15 rfl rfl)
theorem dX5_may_63 : decode cX5_may 63 = .ok (.iinc 4 1, 3) := dk_132 4 1 (dk_at dksX5_may_2 16 rfl rfl)
theorem dX5_may_66 : decode cX5_may 66 = .ok (.goto (-34), 3) := dk_167 255 222 (dk_at dksX5_may_2 19 rfl rfl)
theorem dX5_may_69 : decode cX5_may 69 = .ok (.iload_n 3, 1) := dk_29 (dk_at dksX5_may_2 22 rfl rfl)
theorem dX5_may_70 : decode cX5_may 70 = .ok (.ireturn, 1) := dk_172 (dk_at dksX5_may_2 23 rfl rfl)
abbrev cX5_canBe : ByteArray := prog_18_method_47_code
def yX5_canBe : MethodName := ⟨RX5, "canBe", "(III)Z"⟩
def dkwX5_canBe_1 : List UInt8 := [163, 0, 7, 4, 167, 0, 4, 3, 172]
abbrev dktX5_canBe_1 : List UInt8 := dkwX5_canBe_1 ++ []
def dkwX5_canBe_0 : List UInt8 := [42, 27, 28, 182, 0, 121, 42, 180, 0, 56, 4, 46, 163, 0, 17, 42, 27, 28, 182, 0, 118, 29]
abbrev dktX5_canBe_0 : List UInt8 := dkwX5_canBe_0 ++ dktX5_canBe_1
theorem dksX5_canBe_0 : cX5_canBe.data.toList.drop 0 = dktX5_canBe_0 := by decide +kernel
theorem dksX5_canBe_1 : cX5_canBe.data.toList.drop 22 = dktX5_canBe_1 := dk_seg dksX5_canBe_0 22 rfl rfl
theorem dX5_canBe_0 : decode cX5_canBe 0 = .ok (.aload_n 0, 1) := dk_42 (dk_at dksX5_canBe_0 0 rfl rfl)
theorem dX5_canBe_1 : decode cX5_canBe 1 = .ok (.iload_n 1, 1) := dk_27 (dk_at dksX5_canBe_0 1 rfl rfl)
theorem dX5_canBe_2 : decode cX5_canBe 2 = .ok (.iload_n 2, 1) := dk_28 (dk_at dksX5_canBe_0 2 rfl rfl)
theorem dX5_canBe_3 : decode cX5_canBe 3 = .ok (.invokevirtual 121, 3) := dk_182 0 121 (dk_at dksX5_canBe_0 3 rfl rfl)
theorem dX5_canBe_6 : decode cX5_canBe 6 = .ok (.aload_n 0, 1) := dk_42 (dk_at dksX5_canBe_0 6 rfl rfl)
theorem dX5_canBe_7 : decode cX5_canBe 7 = .ok (.getfield 56, 3) := dk_180 0 56 (dk_at dksX5_canBe_0 7 rfl rfl)
theorem dX5_canBe_10 : decode cX5_canBe 10 = .ok (.iconst 1, 1) := dk_4 (dk_at dksX5_canBe_0 10 rfl rfl)
theorem dX5_canBe_11 : decode cX5_canBe 11 = .ok (.iaload, 1) := dk_46 (dk_at dksX5_canBe_0 11 rfl rfl)
theorem dX5_canBe_12 : decode cX5_canBe 12 = .ok (.if_icmp .gt 17, 3) := dk_163 0 17 (dk_at dksX5_canBe_0 12 rfl rfl)
theorem dX5_canBe_15 : decode cX5_canBe 15 = .ok (.aload_n 0, 1) := dk_42 (dk_at dksX5_canBe_0 15 rfl rfl)
theorem dX5_canBe_16 : decode cX5_canBe 16 = .ok (.iload_n 1, 1) := dk_27 (dk_at dksX5_canBe_0 16 rfl rfl)
theorem dX5_canBe_17 : decode cX5_canBe 17 = .ok (.iload_n 2, 1) := dk_28 (dk_at dksX5_canBe_0 17 rfl rfl)
theorem dX5_canBe_18 : decode cX5_canBe 18 = .ok (.invokevirtual 118, 3) := dk_182 0 118 (dk_at dksX5_canBe_0 18 rfl rfl)
theorem dX5_canBe_21 : decode cX5_canBe 21 = .ok (.iload_n 3, 1) := dk_29 (dk_at dksX5_canBe_0 21 rfl rfl)
theorem dX5_canBe_22 : decode cX5_canBe 22 = .ok (.if_icmp .gt 7, 3) := dk_163 0 7 (dk_at dksX5_canBe_1 0 rfl rfl)
theorem dX5_canBe_25 : decode cX5_canBe 25 = .ok (.iconst 1, 1) := dk_4 (dk_at dksX5_canBe_1 3 rfl rfl)
theorem dX5_canBe_26 : decode cX5_canBe 26 = .ok (.goto 4, 3) := dk_167 0 4 (dk_at dksX5_canBe_1 4 rfl rfl)
theorem dX5_canBe_29 : decode cX5_canBe 29 = .ok (.iconst 0, 1) := dk_3 (dk_at dksX5_canBe_1 7 rfl rfl)
theorem dX5_canBe_30 : decode cX5_canBe 30 = .ok (.ireturn, 1) := dk_172 (dk_at dksX5_canBe_1 8 rfl rfl)
abbrev cX5_hardest : ByteArray := prog_18_method_50_code
def yX5_hardest : MethodName := ⟨RX5, "hardest", "()I"⟩
def dkwX5_hardest_2 : List UInt8 := [160, 0, 12, 42, 16, 251, 182, 0, 93, 167, 0, 4, 27, 172]
abbrev dktX5_hardest_2 : List UInt8 := dkwX5_hardest_2 ++ []
def dkwX5_hardest_1 : List UInt8 := [180, 0, 37, 27, 46, 164, 0, 7, 28, 167, 0, 4, 27, 60, 132, 2, 1, 167, 255, 219, 27, 2]
abbrev dktX5_hardest_1 : List UInt8 := dkwX5_hardest_1 ++ dktX5_hardest_2
def dkwX5_hardest_0 : List UInt8 := [2, 60, 3, 61, 28, 42, 180, 0, 77, 162, 0, 35, 27, 2, 159, 0, 18, 42, 180, 0, 37, 28, 46, 42]
abbrev dktX5_hardest_0 : List UInt8 := dkwX5_hardest_0 ++ dktX5_hardest_1
theorem dksX5_hardest_0 : cX5_hardest.data.toList.drop 0 = dktX5_hardest_0 := by decide +kernel
theorem dksX5_hardest_1 : cX5_hardest.data.toList.drop 24 = dktX5_hardest_1 := dk_seg dksX5_hardest_0 24 rfl rfl
theorem dksX5_hardest_2 : cX5_hardest.data.toList.drop 46 = dktX5_hardest_2 := dk_seg dksX5_hardest_1 22 rfl rfl
theorem dX5_hardest_0 : decode cX5_hardest 0 = .ok (.iconst (-1), 1) := dk_2 (dk_at dksX5_hardest_0 0 rfl rfl)
theorem dX5_hardest_1 : decode cX5_hardest 1 = .ok (.istore_n 1, 1) := dk_60 (dk_at dksX5_hardest_0 1 rfl rfl)
theorem dX5_hardest_2 : decode cX5_hardest 2 = .ok (.iconst 0, 1) := dk_3 (dk_at dksX5_hardest_0 2 rfl rfl)
theorem dX5_hardest_3 : decode cX5_hardest 3 = .ok (.istore_n 2, 1) := dk_61 (dk_at dksX5_hardest_0 3 rfl rfl)
theorem dX5_hardest_4 : decode cX5_hardest 4 = .ok (.iload_n 2, 1) := dk_28 (dk_at dksX5_hardest_0 4 rfl rfl)
theorem dX5_hardest_5 : decode cX5_hardest 5 = .ok (.aload_n 0, 1) := dk_42 (dk_at dksX5_hardest_0 5 rfl rfl)
theorem dX5_hardest_6 : decode cX5_hardest 6 = .ok (.getfield 77, 3) := dk_180 0 77 (dk_at dksX5_hardest_0 6 rfl rfl)
theorem dX5_hardest_9 : decode cX5_hardest 9 = .ok (.if_icmp .ge 35, 3) := dk_162 0 35 (dk_at dksX5_hardest_0 9 rfl rfl)
theorem dX5_hardest_12 : decode cX5_hardest 12 = .ok (.iload_n 1, 1) := dk_27 (dk_at dksX5_hardest_0 12 rfl rfl)
theorem dX5_hardest_13 : decode cX5_hardest 13 = .ok (.iconst (-1), 1) := dk_2 (dk_at dksX5_hardest_0 13 rfl rfl)
theorem dX5_hardest_14 : decode cX5_hardest 14 = .ok (.if_icmp .eq 18, 3) := dk_159 0 18 (dk_at dksX5_hardest_0 14 rfl rfl)
theorem dX5_hardest_17 : decode cX5_hardest 17 = .ok (.aload_n 0, 1) := dk_42 (dk_at dksX5_hardest_0 17 rfl rfl)
theorem dX5_hardest_18 : decode cX5_hardest 18 = .ok (.getfield 37, 3) := dk_180 0 37 (dk_at dksX5_hardest_0 18 rfl rfl)
theorem dX5_hardest_21 : decode cX5_hardest 21 = .ok (.iload_n 2, 1) := dk_28 (dk_at dksX5_hardest_0 21 rfl rfl)
theorem dX5_hardest_22 : decode cX5_hardest 22 = .ok (.iaload, 1) := dk_46 (dk_at dksX5_hardest_0 22 rfl rfl)
theorem dX5_hardest_23 : decode cX5_hardest 23 = .ok (.aload_n 0, 1) := dk_42 (dk_at dksX5_hardest_0 23 rfl rfl)
theorem dX5_hardest_24 : decode cX5_hardest 24 = .ok (.getfield 37, 3) := dk_180 0 37 (dk_at dksX5_hardest_1 0 rfl rfl)
theorem dX5_hardest_27 : decode cX5_hardest 27 = .ok (.iload_n 1, 1) := dk_27 (dk_at dksX5_hardest_1 3 rfl rfl)
theorem dX5_hardest_28 : decode cX5_hardest 28 = .ok (.iaload, 1) := dk_46 (dk_at dksX5_hardest_1 4 rfl rfl)
theorem dX5_hardest_29 : decode cX5_hardest 29 = .ok (.if_icmp .le 7, 3) := dk_164 0 7 (dk_at dksX5_hardest_1 5 rfl rfl)
theorem dX5_hardest_32 : decode cX5_hardest 32 = .ok (.iload_n 2, 1) := dk_28 (dk_at dksX5_hardest_1 8 rfl rfl)
theorem dX5_hardest_33 : decode cX5_hardest 33 = .ok (.goto 4, 3) := dk_167 0 4 (dk_at dksX5_hardest_1 9 rfl rfl)
theorem dX5_hardest_36 : decode cX5_hardest 36 = .ok (.iload_n 1, 1) := dk_27 (dk_at dksX5_hardest_1 12 rfl rfl)
theorem dX5_hardest_37 : decode cX5_hardest 37 = .ok (.istore_n 1, 1) := dk_60 (dk_at dksX5_hardest_1 13 rfl rfl)
theorem dX5_hardest_38 : decode cX5_hardest 38 = .ok (.iinc 2 1, 3) := dk_132 2 1 (dk_at dksX5_hardest_1 14 rfl rfl)
theorem dX5_hardest_41 : decode cX5_hardest 41 = .ok (.goto (-37), 3) := dk_167 255 219 (dk_at dksX5_hardest_1 17 rfl rfl)
theorem dX5_hardest_44 : decode cX5_hardest 44 = .ok (.iload_n 1, 1) := dk_27 (dk_at dksX5_hardest_1 20 rfl rfl)
theorem dX5_hardest_45 : decode cX5_hardest 45 = .ok (.iconst (-1), 1) := dk_2 (dk_at dksX5_hardest_1 21 rfl rfl)
theorem dX5_hardest_46 : decode cX5_hardest 46 = .ok (.if_icmp .ne 12, 3) := dk_160 0 12 (dk_at dksX5_hardest_2 0 rfl rfl)
theorem dX5_hardest_49 : decode cX5_hardest 49 = .ok (.aload_n 0, 1) := dk_42 (dk_at dksX5_hardest_2 3 rfl rfl)
theorem dX5_hardest_50 : decode cX5_hardest 50 = .ok (.bipush (-5), 2) := dk_16 251 (dk_at dksX5_hardest_2 4 rfl rfl)
theorem dX5_hardest_52 : decode cX5_hardest 52 = .ok (.invokevirtual 93, 3) := dk_182 0 93 (dk_at dksX5_hardest_2 6 rfl rfl)
theorem dX5_hardest_55 : decode cX5_hardest 55 = .ok (.goto 4, 3) := dk_167 0 4 (dk_at dksX5_hardest_2 9 rfl rfl)
theorem dX5_hardest_58 : decode cX5_hardest 58 = .ok (.iload_n 1, 1) := dk_27 (dk_at dksX5_hardest_2 12 rfl rfl)
theorem dX5_hardest_59 : decode cX5_hardest 59 = .ok (.ireturn, 1) := dk_172 (dk_at dksX5_hardest_2 13 rfl rfl)
abbrev cX5_lightest : ByteArray := prog_18_method_51_code
def yX5_lightest : MethodName := ⟨RX5, "lightest", "(I)I"⟩
def dkwX5_lightest_3 : List UInt8 := [167, 0, 4, 28, 172]
abbrev dktX5_lightest_3 : List UInt8 := dkwX5_lightest_3 ++ []
def dkwX5_lightest_2 : List UInt8 := [167, 0, 4, 28, 61, 132, 3, 1, 167, 255, 219, 28, 2, 160, 0, 12, 42, 16, 251, 182, 0, 93]
abbrev dktX5_lightest_2 : List UInt8 := dkwX5_lightest_2 ++ dktX5_lightest_3
def dkwX5_lightest_1 : List UInt8 := [162, 0, 35, 28, 2, 159, 0, 18, 42, 29, 27, 182, 0, 121, 42, 28, 27, 182, 0, 121, 162, 0, 7, 29]
abbrev dktX5_lightest_1 : List UInt8 := dkwX5_lightest_1 ++ dktX5_lightest_2
def dkwX5_lightest_0 : List UInt8 := [42, 27, 182, 0, 136, 154, 0, 10, 42, 16, 254, 182, 0, 93, 172, 2, 61, 3, 62, 29, 42, 180, 0, 84]
abbrev dktX5_lightest_0 : List UInt8 := dkwX5_lightest_0 ++ dktX5_lightest_1
theorem dksX5_lightest_0 : cX5_lightest.data.toList.drop 0 = dktX5_lightest_0 := by decide +kernel
theorem dksX5_lightest_1 : cX5_lightest.data.toList.drop 24 = dktX5_lightest_1 := dk_seg dksX5_lightest_0 24 rfl rfl
theorem dksX5_lightest_2 : cX5_lightest.data.toList.drop 48 = dktX5_lightest_2 := dk_seg dksX5_lightest_1 24 rfl rfl
theorem dksX5_lightest_3 : cX5_lightest.data.toList.drop 70 = dktX5_lightest_3 := dk_seg dksX5_lightest_2 22 rfl rfl
theorem dX5_lightest_0 : decode cX5_lightest 0 = .ok (.aload_n 0, 1) := dk_42 (dk_at dksX5_lightest_0 0 rfl rfl)
theorem dX5_lightest_1 : decode cX5_lightest 1 = .ok (.iload_n 1, 1) := dk_27 (dk_at dksX5_lightest_0 1 rfl rfl)
theorem dX5_lightest_2 : decode cX5_lightest 2 = .ok (.invokevirtual 136, 3) := dk_182 0 136 (dk_at dksX5_lightest_0 2 rfl rfl)
theorem dX5_lightest_5 : decode cX5_lightest 5 = .ok (.ifCond .ne 10, 3) := dk_154 0 10 (dk_at dksX5_lightest_0 5 rfl rfl)
theorem dX5_lightest_8 : decode cX5_lightest 8 = .ok (.aload_n 0, 1) := dk_42 (dk_at dksX5_lightest_0 8 rfl rfl)
theorem dX5_lightest_9 : decode cX5_lightest 9 = .ok (.bipush (-2), 2) := dk_16 254 (dk_at dksX5_lightest_0 9 rfl rfl)
theorem dX5_lightest_11 : decode cX5_lightest 11 = .ok (.invokevirtual 93, 3) := dk_182 0 93 (dk_at dksX5_lightest_0 11 rfl rfl)
theorem dX5_lightest_14 : decode cX5_lightest 14 = .ok (.ireturn, 1) := dk_172 (dk_at dksX5_lightest_0 14 rfl rfl)
theorem dX5_lightest_15 : decode cX5_lightest 15 = .ok (.iconst (-1), 1) := dk_2 (dk_at dksX5_lightest_0 15 rfl rfl)
theorem dX5_lightest_16 : decode cX5_lightest 16 = .ok (.istore_n 2, 1) := dk_61 (dk_at dksX5_lightest_0 16 rfl rfl)
theorem dX5_lightest_17 : decode cX5_lightest 17 = .ok (.iconst 0, 1) := dk_3 (dk_at dksX5_lightest_0 17 rfl rfl)
theorem dX5_lightest_18 : decode cX5_lightest 18 = .ok (.istore_n 3, 1) := dk_62 (dk_at dksX5_lightest_0 18 rfl rfl)
theorem dX5_lightest_19 : decode cX5_lightest 19 = .ok (.iload_n 3, 1) := dk_29 (dk_at dksX5_lightest_0 19 rfl rfl)
theorem dX5_lightest_20 : decode cX5_lightest 20 = .ok (.aload_n 0, 1) := dk_42 (dk_at dksX5_lightest_0 20 rfl rfl)
theorem dX5_lightest_21 : decode cX5_lightest 21 = .ok (.getfield 84, 3) := dk_180 0 84 (dk_at dksX5_lightest_0 21 rfl rfl)
theorem dX5_lightest_24 : decode cX5_lightest 24 = .ok (.if_icmp .ge 35, 3) := dk_162 0 35 (dk_at dksX5_lightest_1 0 rfl rfl)
theorem dX5_lightest_27 : decode cX5_lightest 27 = .ok (.iload_n 2, 1) := dk_28 (dk_at dksX5_lightest_1 3 rfl rfl)
theorem dX5_lightest_28 : decode cX5_lightest 28 = .ok (.iconst (-1), 1) := dk_2 (dk_at dksX5_lightest_1 4 rfl rfl)
theorem dX5_lightest_29 : decode cX5_lightest 29 = .ok (.if_icmp .eq 18, 3) := dk_159 0 18 (dk_at dksX5_lightest_1 5 rfl rfl)
theorem dX5_lightest_32 : decode cX5_lightest 32 = .ok (.aload_n 0, 1) := dk_42 (dk_at dksX5_lightest_1 8 rfl rfl)
theorem dX5_lightest_33 : decode cX5_lightest 33 = .ok (.iload_n 3, 1) := dk_29 (dk_at dksX5_lightest_1 9 rfl rfl)
theorem dX5_lightest_34 : decode cX5_lightest 34 = .ok (.iload_n 1, 1) := dk_27 (dk_at dksX5_lightest_1 10 rfl rfl)
theorem dX5_lightest_35 : decode cX5_lightest 35 = .ok (.invokevirtual 121, 3) := dk_182 0 121 (dk_at dksX5_lightest_1 11 rfl rfl)
theorem dX5_lightest_38 : decode cX5_lightest 38 = .ok (.aload_n 0, 1) := dk_42 (dk_at dksX5_lightest_1 14 rfl rfl)
theorem dX5_lightest_39 : decode cX5_lightest 39 = .ok (.iload_n 2, 1) := dk_28 (dk_at dksX5_lightest_1 15 rfl rfl)
theorem dX5_lightest_40 : decode cX5_lightest 40 = .ok (.iload_n 1, 1) := dk_27 (dk_at dksX5_lightest_1 16 rfl rfl)
theorem dX5_lightest_41 : decode cX5_lightest 41 = .ok (.invokevirtual 121, 3) := dk_182 0 121 (dk_at dksX5_lightest_1 17 rfl rfl)
theorem dX5_lightest_44 : decode cX5_lightest 44 = .ok (.if_icmp .ge 7, 3) := dk_162 0 7 (dk_at dksX5_lightest_1 20 rfl rfl)
theorem dX5_lightest_47 : decode cX5_lightest 47 = .ok (.iload_n 3, 1) := dk_29 (dk_at dksX5_lightest_1 23 rfl rfl)
theorem dX5_lightest_48 : decode cX5_lightest 48 = .ok (.goto 4, 3) := dk_167 0 4 (dk_at dksX5_lightest_2 0 rfl rfl)
theorem dX5_lightest_51 : decode cX5_lightest 51 = .ok (.iload_n 2, 1) := dk_28 (dk_at dksX5_lightest_2 3 rfl rfl)
theorem dX5_lightest_52 : decode cX5_lightest 52 = .ok (.istore_n 2, 1) := dk_61 (dk_at dksX5_lightest_2 4 rfl rfl)
theorem dX5_lightest_53 : decode cX5_lightest 53 = .ok (.iinc 3 1, 3) := dk_132 3 1 (dk_at dksX5_lightest_2 5 rfl rfl)
theorem dX5_lightest_56 : decode cX5_lightest 56 = .ok (.goto (-37), 3) := dk_167 255 219 (dk_at dksX5_lightest_2 8 rfl rfl)
theorem dX5_lightest_59 : decode cX5_lightest 59 = .ok (.iload_n 2, 1) := dk_28 (dk_at dksX5_lightest_2 11 rfl rfl)
theorem dX5_lightest_60 : decode cX5_lightest 60 = .ok (.iconst (-1), 1) := dk_2 (dk_at dksX5_lightest_2 12 rfl rfl)
theorem dX5_lightest_61 : decode cX5_lightest 61 = .ok (.if_icmp .ne 12, 3) := dk_160 0 12 (dk_at dksX5_lightest_2 13 rfl rfl)
theorem dX5_lightest_64 : decode cX5_lightest 64 = .ok (.aload_n 0, 1) := dk_42 (dk_at dksX5_lightest_2 16 rfl rfl)
theorem dX5_lightest_65 : decode cX5_lightest 65 = .ok (.bipush (-5), 2) := dk_16 251 (dk_at dksX5_lightest_2 17 rfl rfl)
theorem dX5_lightest_67 : decode cX5_lightest 67 = .ok (.invokevirtual 93, 3) := dk_182 0 93 (dk_at dksX5_lightest_2 19 rfl rfl)
theorem dX5_lightest_70 : decode cX5_lightest 70 = .ok (.goto 4, 3) := dk_167 0 4 (dk_at dksX5_lightest_3 0 rfl rfl)
theorem dX5_lightest_73 : decode cX5_lightest 73 = .ok (.iload_n 2, 1) := dk_28 (dk_at dksX5_lightest_3 3 rfl rfl)
theorem dX5_lightest_74 : decode cX5_lightest 74 = .ok (.ireturn, 1) := dk_172 (dk_at dksX5_lightest_3 4 rfl rfl)
abbrev cX5_judge : ByteArray := prog_18_method_54_code
def yX5_judge : MethodName := ⟨RX5, "judge", "(I)I"⟩
def dkwX5_judge_0 : List UInt8 := [42, 27, 182, 1, 14, 61, 28, 153, 0, 7, 28, 167, 0, 8, 42, 27, 182, 1, 17, 172]
abbrev dktX5_judge_0 : List UInt8 := dkwX5_judge_0 ++ []
theorem dksX5_judge_0 : cX5_judge.data.toList.drop 0 = dktX5_judge_0 := by decide +kernel
theorem dX5_judge_0 : decode cX5_judge 0 = .ok (.aload_n 0, 1) := dk_42 (dk_at dksX5_judge_0 0 rfl rfl)
theorem dX5_judge_1 : decode cX5_judge 1 = .ok (.iload_n 1, 1) := dk_27 (dk_at dksX5_judge_0 1 rfl rfl)
theorem dX5_judge_2 : decode cX5_judge 2 = .ok (.invokevirtual 270, 3) := dk_182 1 14 (dk_at dksX5_judge_0 2 rfl rfl)
theorem dX5_judge_5 : decode cX5_judge 5 = .ok (.istore_n 2, 1) := dk_61 (dk_at dksX5_judge_0 5 rfl rfl)
theorem dX5_judge_6 : decode cX5_judge 6 = .ok (.iload_n 2, 1) := dk_28 (dk_at dksX5_judge_0 6 rfl rfl)
theorem dX5_judge_7 : decode cX5_judge 7 = .ok (.ifCond .eq 7, 3) := dk_153 0 7 (dk_at dksX5_judge_0 7 rfl rfl)
theorem dX5_judge_10 : decode cX5_judge 10 = .ok (.iload_n 2, 1) := dk_28 (dk_at dksX5_judge_0 10 rfl rfl)
theorem dX5_judge_11 : decode cX5_judge 11 = .ok (.goto 8, 3) := dk_167 0 8 (dk_at dksX5_judge_0 11 rfl rfl)
theorem dX5_judge_14 : decode cX5_judge 14 = .ok (.aload_n 0, 1) := dk_42 (dk_at dksX5_judge_0 14 rfl rfl)
theorem dX5_judge_15 : decode cX5_judge 15 = .ok (.iload_n 1, 1) := dk_27 (dk_at dksX5_judge_0 15 rfl rfl)
theorem dX5_judge_16 : decode cX5_judge 16 = .ok (.invokevirtual 273, 3) := dk_182 1 17 (dk_at dksX5_judge_0 16 rfl rfl)
theorem dX5_judge_19 : decode cX5_judge 19 = .ok (.ireturn, 1) := dk_172 (dk_at dksX5_judge_0 19 rfl rfl)
abbrev cX5_noClimb : ByteArray := prog_18_method_52_code
def yX5_noClimb : MethodName := ⟨RX5, "noClimb", "(I)I"⟩
def dkwX5_noClimb_1 : List UInt8 := [162, 0, 12, 42, 16, 254, 182, 0, 93, 167, 0, 4, 3, 172]
abbrev dktX5_noClimb_1 : List UInt8 := dkwX5_noClimb_1 ++ []
def dkwX5_noClimb_0 : List UInt8 := [42, 27, 182, 0, 97, 61, 28, 153, 0, 5, 28, 172, 42, 180, 0, 16, 27, 46, 42, 180, 0, 77]
abbrev dktX5_noClimb_0 : List UInt8 := dkwX5_noClimb_0 ++ dktX5_noClimb_1
theorem dksX5_noClimb_0 : cX5_noClimb.data.toList.drop 0 = dktX5_noClimb_0 := by decide +kernel
theorem dksX5_noClimb_1 : cX5_noClimb.data.toList.drop 22 = dktX5_noClimb_1 := dk_seg dksX5_noClimb_0 22 rfl rfl
theorem dX5_noClimb_0 : decode cX5_noClimb 0 = .ok (.aload_n 0, 1) := dk_42 (dk_at dksX5_noClimb_0 0 rfl rfl)
theorem dX5_noClimb_1 : decode cX5_noClimb 1 = .ok (.iload_n 1, 1) := dk_27 (dk_at dksX5_noClimb_0 1 rfl rfl)
theorem dX5_noClimb_2 : decode cX5_noClimb 2 = .ok (.invokevirtual 97, 3) := dk_182 0 97 (dk_at dksX5_noClimb_0 2 rfl rfl)
theorem dX5_noClimb_5 : decode cX5_noClimb 5 = .ok (.istore_n 2, 1) := dk_61 (dk_at dksX5_noClimb_0 5 rfl rfl)
theorem dX5_noClimb_6 : decode cX5_noClimb 6 = .ok (.iload_n 2, 1) := dk_28 (dk_at dksX5_noClimb_0 6 rfl rfl)
theorem dX5_noClimb_7 : decode cX5_noClimb 7 = .ok (.ifCond .eq 5, 3) := dk_153 0 5 (dk_at dksX5_noClimb_0 7 rfl rfl)
theorem dX5_noClimb_10 : decode cX5_noClimb 10 = .ok (.iload_n 2, 1) := dk_28 (dk_at dksX5_noClimb_0 10 rfl rfl)
theorem dX5_noClimb_11 : decode cX5_noClimb 11 = .ok (.ireturn, 1) := dk_172 (dk_at dksX5_noClimb_0 11 rfl rfl)
theorem dX5_noClimb_12 : decode cX5_noClimb 12 = .ok (.aload_n 0, 1) := dk_42 (dk_at dksX5_noClimb_0 12 rfl rfl)
theorem dX5_noClimb_13 : decode cX5_noClimb 13 = .ok (.getfield 16, 3) := dk_180 0 16 (dk_at dksX5_noClimb_0 13 rfl rfl)
theorem dX5_noClimb_16 : decode cX5_noClimb 16 = .ok (.iload_n 1, 1) := dk_27 (dk_at dksX5_noClimb_0 16 rfl rfl)
theorem dX5_noClimb_17 : decode cX5_noClimb 17 = .ok (.iaload, 1) := dk_46 (dk_at dksX5_noClimb_0 17 rfl rfl)
theorem dX5_noClimb_18 : decode cX5_noClimb 18 = .ok (.aload_n 0, 1) := dk_42 (dk_at dksX5_noClimb_0 18 rfl rfl)
theorem dX5_noClimb_19 : decode cX5_noClimb 19 = .ok (.getfield 77, 3) := dk_180 0 77 (dk_at dksX5_noClimb_0 19 rfl rfl)
theorem dX5_noClimb_22 : decode cX5_noClimb 22 = .ok (.if_icmp .ge 12, 3) := dk_162 0 12 (dk_at dksX5_noClimb_1 0 rfl rfl)
theorem dX5_noClimb_25 : decode cX5_noClimb 25 = .ok (.aload_n 0, 1) := dk_42 (dk_at dksX5_noClimb_1 3 rfl rfl)
theorem dX5_noClimb_26 : decode cX5_noClimb 26 = .ok (.bipush (-2), 2) := dk_16 254 (dk_at dksX5_noClimb_1 4 rfl rfl)
theorem dX5_noClimb_28 : decode cX5_noClimb 28 = .ok (.invokevirtual 93, 3) := dk_182 0 93 (dk_at dksX5_noClimb_1 6 rfl rfl)
theorem dX5_noClimb_31 : decode cX5_noClimb 31 = .ok (.goto 4, 3) := dk_167 0 4 (dk_at dksX5_noClimb_1 9 rfl rfl)
theorem dX5_noClimb_34 : decode cX5_noClimb 34 = .ok (.iconst 0, 1) := dk_3 (dk_at dksX5_noClimb_1 12 rfl rfl)
theorem dX5_noClimb_35 : decode cX5_noClimb 35 = .ok (.ireturn, 1) := dk_172 (dk_at dksX5_noClimb_1 13 rfl rfl)
abbrev cX5_goThrough : ByteArray := prog_18_method_53_code
def yX5_goThrough : MethodName := ⟨RX5, "goThrough", "(I)I"⟩
def dkwX5_goThrough_3 : List UInt8 := [42, 180, 1, 7, 182, 1, 10, 181, 1, 7, 132, 2, 1, 167, 255, 185, 2, 172]
abbrev dktX5_goThrough_3 : List UInt8 := dkwX5_goThrough_3 ++ []
def dkwX5_goThrough_2 : List UInt8 := [42, 180, 1, 7, 182, 1, 3, 154, 0, 5, 28, 172, 42, 42, 42, 180, 0, 21, 27, 50, 28, 47, 136, 28]
abbrev dktX5_goThrough_2 : List UInt8 := dkwX5_goThrough_2 ++ dktX5_goThrough_3
def dkwX5_goThrough_1 : List UInt8 := [180, 0, 21, 27, 50, 28, 47, 182, 0, 104, 153, 0, 24, 42, 42, 180, 0, 21, 27, 50, 28, 47, 136, 28]
abbrev dktX5_goThrough_1 : List UInt8 := dkwX5_goThrough_1 ++ dktX5_goThrough_2
def dkwX5_goThrough_0 : List UInt8 := [42, 42, 180, 0, 56, 5, 46, 181, 1, 7, 3, 61, 28, 42, 180, 0, 77, 162, 0, 69, 42, 42]
abbrev dktX5_goThrough_0 : List UInt8 := dkwX5_goThrough_0 ++ dktX5_goThrough_1
theorem dksX5_goThrough_0 : cX5_goThrough.data.toList.drop 0 = dktX5_goThrough_0 := by decide +kernel
theorem dksX5_goThrough_1 : cX5_goThrough.data.toList.drop 22 = dktX5_goThrough_1 := dk_seg dksX5_goThrough_0 22 rfl rfl
theorem dksX5_goThrough_2 : cX5_goThrough.data.toList.drop 46 = dktX5_goThrough_2 := dk_seg dksX5_goThrough_1 24 rfl rfl
theorem dksX5_goThrough_3 : cX5_goThrough.data.toList.drop 70 = dktX5_goThrough_3 := dk_seg dksX5_goThrough_2 24 rfl rfl
theorem dX5_goThrough_0 : decode cX5_goThrough 0 = .ok (.aload_n 0, 1) := dk_42 (dk_at dksX5_goThrough_0 0 rfl rfl)
theorem dX5_goThrough_1 : decode cX5_goThrough 1 = .ok (.aload_n 0, 1) := dk_42 (dk_at dksX5_goThrough_0 1 rfl rfl)
theorem dX5_goThrough_2 : decode cX5_goThrough 2 = .ok (.getfield 56, 3) := dk_180 0 56 (dk_at dksX5_goThrough_0 2 rfl rfl)
theorem dX5_goThrough_5 : decode cX5_goThrough 5 = .ok (.iconst 2, 1) := dk_5 (dk_at dksX5_goThrough_0 5 rfl rfl)
theorem dX5_goThrough_6 : decode cX5_goThrough 6 = .ok (.iaload, 1) := dk_46 (dk_at dksX5_goThrough_0 6 rfl rfl)
theorem dX5_goThrough_7 : decode cX5_goThrough 7 = .ok (.putfield 263, 3) := dk_181 1 7 (dk_at dksX5_goThrough_0 7 rfl rfl)
theorem dX5_goThrough_10 : decode cX5_goThrough 10 = .ok (.iconst 0, 1) := dk_3 (dk_at dksX5_goThrough_0 10 rfl rfl)
theorem dX5_goThrough_11 : decode cX5_goThrough 11 = .ok (.istore_n 2, 1) := dk_61 (dk_at dksX5_goThrough_0 11 rfl rfl)
theorem dX5_goThrough_12 : decode cX5_goThrough 12 = .ok (.iload_n 2, 1) := dk_28 (dk_at dksX5_goThrough_0 12 rfl rfl)
theorem dX5_goThrough_13 : decode cX5_goThrough 13 = .ok (.aload_n 0, 1) := dk_42 (dk_at dksX5_goThrough_0 13 rfl rfl)
theorem dX5_goThrough_14 : decode cX5_goThrough 14 = .ok (.getfield 77, 3) := dk_180 0 77 (dk_at dksX5_goThrough_0 14 rfl rfl)
theorem dX5_goThrough_17 : decode cX5_goThrough 17 = .ok (.if_icmp .ge 69, 3) := dk_162 0 69 (dk_at dksX5_goThrough_0 17 rfl rfl)
theorem dX5_goThrough_20 : decode cX5_goThrough 20 = .ok (.aload_n 0, 1) := dk_42 (dk_at dksX5_goThrough_0 20 rfl rfl)
theorem dX5_goThrough_21 : decode cX5_goThrough 21 = .ok (.aload_n 0, 1) := dk_42 (dk_at dksX5_goThrough_0 21 rfl rfl)
theorem dX5_goThrough_22 : decode cX5_goThrough 22 = .ok (.getfield 21, 3) := dk_180 0 21 (dk_at dksX5_goThrough_1 0 rfl rfl)
theorem dX5_goThrough_25 : decode cX5_goThrough 25 = .ok (.iload_n 1, 1) := dk_27 (dk_at dksX5_goThrough_1 3 rfl rfl)
theorem dX5_goThrough_26 : decode cX5_goThrough 26 = .ok (.aaload, 1) := dk_50 (dk_at dksX5_goThrough_1 4 rfl rfl)
theorem dX5_goThrough_27 : decode cX5_goThrough 27 = .ok (.iload_n 2, 1) := dk_28 (dk_at dksX5_goThrough_1 5 rfl rfl)
theorem dX5_goThrough_28 : decode cX5_goThrough 28 = .ok (.laload, 1) := dk_47 (dk_at dksX5_goThrough_1 6 rfl rfl)
theorem dX5_goThrough_29 : decode cX5_goThrough 29 = .ok (.invokevirtual 104, 3) := dk_182 0 104 (dk_at dksX5_goThrough_1 7 rfl rfl)
theorem dX5_goThrough_32 : decode cX5_goThrough 32 = .ok (.ifCond .eq 24, 3) := dk_153 0 24 (dk_at dksX5_goThrough_1 10 rfl rfl)
theorem dX5_goThrough_35 : decode cX5_goThrough 35 = .ok (.aload_n 0, 1) := dk_42 (dk_at dksX5_goThrough_1 13 rfl rfl)
theorem dX5_goThrough_36 : decode cX5_goThrough 36 = .ok (.aload_n 0, 1) := dk_42 (dk_at dksX5_goThrough_1 14 rfl rfl)
theorem dX5_goThrough_37 : decode cX5_goThrough 37 = .ok (.getfield 21, 3) := dk_180 0 21 (dk_at dksX5_goThrough_1 15 rfl rfl)
theorem dX5_goThrough_40 : decode cX5_goThrough 40 = .ok (.iload_n 1, 1) := dk_27 (dk_at dksX5_goThrough_1 18 rfl rfl)
theorem dX5_goThrough_41 : decode cX5_goThrough 41 = .ok (.aaload, 1) := dk_50 (dk_at dksX5_goThrough_1 19 rfl rfl)
theorem dX5_goThrough_42 : decode cX5_goThrough 42 = .ok (.iload_n 2, 1) := dk_28 (dk_at dksX5_goThrough_1 20 rfl rfl)
theorem dX5_goThrough_43 : decode cX5_goThrough 43 = .ok (.laload, 1) := dk_47 (dk_at dksX5_goThrough_1 21 rfl rfl)
theorem dX5_goThrough_44 : decode cX5_goThrough 44 = .ok (.l2i, 1) := dk_136 (dk_at dksX5_goThrough_1 22 rfl rfl)
theorem dX5_goThrough_45 : decode cX5_goThrough 45 = .ok (.iload_n 2, 1) := dk_28 (dk_at dksX5_goThrough_1 23 rfl rfl)
theorem dX5_goThrough_46 : decode cX5_goThrough 46 = .ok (.aload_n 0, 1) := dk_42 (dk_at dksX5_goThrough_2 0 rfl rfl)
theorem dX5_goThrough_47 : decode cX5_goThrough 47 = .ok (.getfield 263, 3) := dk_180 1 7 (dk_at dksX5_goThrough_2 1 rfl rfl)
theorem dX5_goThrough_50 : decode cX5_goThrough 50 = .ok (.invokevirtual 259, 3) := dk_182 1 3 (dk_at dksX5_goThrough_2 4 rfl rfl)
theorem dX5_goThrough_53 : decode cX5_goThrough 53 = .ok (.ifCond .ne 5, 3) := dk_154 0 5 (dk_at dksX5_goThrough_2 7 rfl rfl)
theorem dX5_goThrough_56 : decode cX5_goThrough 56 = .ok (.iload_n 2, 1) := dk_28 (dk_at dksX5_goThrough_2 10 rfl rfl)
theorem dX5_goThrough_57 : decode cX5_goThrough 57 = .ok (.ireturn, 1) := dk_172 (dk_at dksX5_goThrough_2 11 rfl rfl)
theorem dX5_goThrough_58 : decode cX5_goThrough 58 = .ok (.aload_n 0, 1) := dk_42 (dk_at dksX5_goThrough_2 12 rfl rfl)
theorem dX5_goThrough_59 : decode cX5_goThrough 59 = .ok (.aload_n 0, 1) := dk_42 (dk_at dksX5_goThrough_2 13 rfl rfl)
theorem dX5_goThrough_60 : decode cX5_goThrough 60 = .ok (.aload_n 0, 1) := dk_42 (dk_at dksX5_goThrough_2 14 rfl rfl)
theorem dX5_goThrough_61 : decode cX5_goThrough 61 = .ok (.getfield 21, 3) := dk_180 0 21 (dk_at dksX5_goThrough_2 15 rfl rfl)
theorem dX5_goThrough_64 : decode cX5_goThrough 64 = .ok (.iload_n 1, 1) := dk_27 (dk_at dksX5_goThrough_2 18 rfl rfl)
theorem dX5_goThrough_65 : decode cX5_goThrough 65 = .ok (.aaload, 1) := dk_50 (dk_at dksX5_goThrough_2 19 rfl rfl)
theorem dX5_goThrough_66 : decode cX5_goThrough 66 = .ok (.iload_n 2, 1) := dk_28 (dk_at dksX5_goThrough_2 20 rfl rfl)
theorem dX5_goThrough_67 : decode cX5_goThrough 67 = .ok (.laload, 1) := dk_47 (dk_at dksX5_goThrough_2 21 rfl rfl)
theorem dX5_goThrough_68 : decode cX5_goThrough 68 = .ok (.l2i, 1) := dk_136 (dk_at dksX5_goThrough_2 22 rfl rfl)
theorem dX5_goThrough_69 : decode cX5_goThrough 69 = .ok (.iload_n 2, 1) := dk_28 (dk_at dksX5_goThrough_2 23 rfl rfl)
theorem dX5_goThrough_70 : decode cX5_goThrough 70 = .ok (.aload_n 0, 1) := dk_42 (dk_at dksX5_goThrough_3 0 rfl rfl)
theorem dX5_goThrough_71 : decode cX5_goThrough 71 = .ok (.getfield 263, 3) := dk_180 1 7 (dk_at dksX5_goThrough_3 1 rfl rfl)
theorem dX5_goThrough_74 : decode cX5_goThrough 74 = .ok (.invokevirtual 266, 3) := dk_182 1 10 (dk_at dksX5_goThrough_3 4 rfl rfl)
theorem dX5_goThrough_77 : decode cX5_goThrough 77 = .ok (.putfield 263, 3) := dk_181 1 7 (dk_at dksX5_goThrough_3 7 rfl rfl)
theorem dX5_goThrough_80 : decode cX5_goThrough 80 = .ok (.iinc 2 1, 3) := dk_132 2 1 (dk_at dksX5_goThrough_3 10 rfl rfl)
theorem dX5_goThrough_83 : decode cX5_goThrough 83 = .ok (.goto (-71), 3) := dk_167 255 185 (dk_at dksX5_goThrough_3 13 rfl rfl)
theorem dX5_goThrough_86 : decode cX5_goThrough 86 = .ok (.iconst (-1), 1) := dk_2 (dk_at dksX5_goThrough_3 16 rfl rfl)
theorem dX5_goThrough_87 : decode cX5_goThrough 87 = .ok (.ireturn, 1) := dk_172 (dk_at dksX5_goThrough_3 17 rfl rfl)
abbrev cX5_armsBehind : ByteArray := prog_18_method_48_code
def yX5_armsBehind : MethodName := ⟨RX5, "armsBehind", "(III)I"⟩
def dkwX5_armsBehind_1 : List UInt8 := [182, 0, 118, 100, 172]
abbrev dktX5_armsBehind_1 : List UInt8 := dkwX5_armsBehind_1 ++ []
def dkwX5_armsBehind_0 : List UInt8 := [42, 180, 0, 44, 28, 51, 153, 0, 12, 42, 180, 0, 56, 5, 46, 167, 0, 11, 29, 42, 27, 28]
abbrev dktX5_armsBehind_0 : List UInt8 := dkwX5_armsBehind_0 ++ dktX5_armsBehind_1
theorem dksX5_armsBehind_0 : cX5_armsBehind.data.toList.drop 0 = dktX5_armsBehind_0 := by decide +kernel
theorem dksX5_armsBehind_1 : cX5_armsBehind.data.toList.drop 22 = dktX5_armsBehind_1 := dk_seg dksX5_armsBehind_0 22 rfl rfl
theorem dX5_armsBehind_0 : decode cX5_armsBehind 0 = .ok (.aload_n 0, 1) := dk_42 (dk_at dksX5_armsBehind_0 0 rfl rfl)
theorem dX5_armsBehind_1 : decode cX5_armsBehind 1 = .ok (.getfield 44, 3) := dk_180 0 44 (dk_at dksX5_armsBehind_0 1 rfl rfl)
theorem dX5_armsBehind_4 : decode cX5_armsBehind 4 = .ok (.iload_n 2, 1) := dk_28 (dk_at dksX5_armsBehind_0 4 rfl rfl)
theorem dX5_armsBehind_5 : decode cX5_armsBehind 5 = .ok (.baload, 1) := dk_51 (dk_at dksX5_armsBehind_0 5 rfl rfl)
theorem dX5_armsBehind_6 : decode cX5_armsBehind 6 = .ok (.ifCond .eq 12, 3) := dk_153 0 12 (dk_at dksX5_armsBehind_0 6 rfl rfl)
theorem dX5_armsBehind_9 : decode cX5_armsBehind 9 = .ok (.aload_n 0, 1) := dk_42 (dk_at dksX5_armsBehind_0 9 rfl rfl)
theorem dX5_armsBehind_10 : decode cX5_armsBehind 10 = .ok (.getfield 56, 3) := dk_180 0 56 (dk_at dksX5_armsBehind_0 10 rfl rfl)
theorem dX5_armsBehind_13 : decode cX5_armsBehind 13 = .ok (.iconst 2, 1) := dk_5 (dk_at dksX5_armsBehind_0 13 rfl rfl)
theorem dX5_armsBehind_14 : decode cX5_armsBehind 14 = .ok (.iaload, 1) := dk_46 (dk_at dksX5_armsBehind_0 14 rfl rfl)
theorem dX5_armsBehind_15 : decode cX5_armsBehind 15 = .ok (.goto 11, 3) := dk_167 0 11 (dk_at dksX5_armsBehind_0 15 rfl rfl)
theorem dX5_armsBehind_18 : decode cX5_armsBehind 18 = .ok (.iload_n 3, 1) := dk_29 (dk_at dksX5_armsBehind_0 18 rfl rfl)
theorem dX5_armsBehind_19 : decode cX5_armsBehind 19 = .ok (.aload_n 0, 1) := dk_42 (dk_at dksX5_armsBehind_0 19 rfl rfl)
theorem dX5_armsBehind_20 : decode cX5_armsBehind 20 = .ok (.iload_n 1, 1) := dk_27 (dk_at dksX5_armsBehind_0 20 rfl rfl)
theorem dX5_armsBehind_21 : decode cX5_armsBehind 21 = .ok (.iload_n 2, 1) := dk_28 (dk_at dksX5_armsBehind_0 21 rfl rfl)
theorem dX5_armsBehind_22 : decode cX5_armsBehind 22 = .ok (.invokevirtual 118, 3) := dk_182 0 118 (dk_at dksX5_armsBehind_1 0 rfl rfl)
theorem dX5_armsBehind_25 : decode cX5_armsBehind 25 = .ok (.isub, 1) := dk_100 (dk_at dksX5_armsBehind_1 3 rfl rfl)
theorem dX5_armsBehind_26 : decode cX5_armsBehind 26 = .ok (.ireturn, 1) := dk_172 (dk_at dksX5_armsBehind_1 4 rfl rfl)
abbrev cX5_told : ByteArray := prog_18_method_55_code
def yX5_told : MethodName := ⟨RX5, "told", "(II)I"⟩
def dkwX5_told_7 : List UInt8 := [162, 0, 8, 21, 5, 167, 0, 7, 42, 180, 1, 7, 172]
abbrev dktX5_told_7 : List UInt8 := dkwX5_told_7 ++ []
def dkwX5_told_6 : List UInt8 := [21, 5, 54, 5, 132, 6, 1, 167, 255, 164, 28, 5, 162, 0, 8, 21, 4, 167, 0, 17, 28, 7]
abbrev dktX5_told_6 : List UInt8 := dkwX5_told_6 ++ dktX5_told_7
def dkwX5_told_5 : List UInt8 := [167, 0, 9, 42, 21, 7, 182, 0, 254, 54, 8, 21, 8, 21, 5, 164, 0, 8, 21, 8, 167, 0, 5]
abbrev dktX5_told_5 : List UInt8 := dkwX5_told_5 ++ dktX5_told_6
def dkwX5_told_4 : List UInt8 := [21, 7, 21, 6, 182, 0, 118, 96, 54, 4, 28, 5, 160, 0, 14, 42, 21, 7, 21, 6, 182, 0, 121]
abbrev dktX5_told_4 : List UInt8 := dkwX5_told_4 ++ dktX5_told_5
def dkwX5_told_3 : List UInt8 := [21, 6, 47, 136, 54, 7, 21, 4, 28, 154, 0, 14, 42, 21, 7, 21, 6, 182, 0, 114, 167, 0, 11, 42]
abbrev dktX5_told_3 : List UInt8 := dkwX5_told_3 ++ dktX5_told_4
def dkwX5_told_2 : List UInt8 := [54, 4, 3, 54, 5, 3, 54, 6, 21, 6, 42, 180, 0, 77, 162, 0, 89, 42, 180, 0, 21, 27, 50]
abbrev dktX5_told_2 : List UInt8 := dkwX5_told_2 ++ dktX5_told_3
def dkwX5_told_1 : List UInt8 := [62, 29, 153, 0, 5, 29, 172, 42, 27, 182, 1, 17, 2, 159, 0, 10, 42, 16, 251, 182, 0, 93, 172, 3]
abbrev dktX5_told_1 : List UInt8 := dkwX5_told_1 ++ dktX5_told_2
def dkwX5_told_0 : List UInt8 := [28, 133, 9, 20, 0, 89, 184, 0, 80, 154, 0, 10, 42, 16, 254, 182, 0, 93, 172, 42, 27, 182, 1, 14]
abbrev dktX5_told_0 : List UInt8 := dkwX5_told_0 ++ dktX5_told_1
theorem dksX5_told_0 : cX5_told.data.toList.drop 0 = dktX5_told_0 := by decide +kernel
theorem dksX5_told_1 : cX5_told.data.toList.drop 24 = dktX5_told_1 := dk_seg dksX5_told_0 24 rfl rfl
theorem dksX5_told_2 : cX5_told.data.toList.drop 48 = dktX5_told_2 := dk_seg dksX5_told_1 24 rfl rfl
theorem dksX5_told_3 : cX5_told.data.toList.drop 71 = dktX5_told_3 := dk_seg dksX5_told_2 23 rfl rfl
theorem dksX5_told_4 : cX5_told.data.toList.drop 95 = dktX5_told_4 := dk_seg dksX5_told_3 24 rfl rfl
theorem dksX5_told_5 : cX5_told.data.toList.drop 118 = dktX5_told_5 := dk_seg dksX5_told_4 23 rfl rfl
theorem dksX5_told_6 : cX5_told.data.toList.drop 141 = dktX5_told_6 := dk_seg dksX5_told_5 23 rfl rfl
theorem dksX5_told_7 : cX5_told.data.toList.drop 163 = dktX5_told_7 := dk_seg dksX5_told_6 22 rfl rfl
theorem dX5_told_0 : decode cX5_told 0 = .ok (.iload_n 2, 1) := dk_28 (dk_at dksX5_told_0 0 rfl rfl)
theorem dX5_told_1 : decode cX5_told 1 = .ok (.i2l, 1) := dk_133 (dk_at dksX5_told_0 1 rfl rfl)
theorem dX5_told_2 : decode cX5_told 2 = .ok (.lconst 0, 1) := dk_9 (dk_at dksX5_told_0 2 rfl rfl)
theorem dX5_told_3 : decode cX5_told 3 = .ok (.ldc2_w 89, 3) := dk_20 0 89 (dk_at dksX5_told_0 3 rfl rfl)
theorem dX5_told_6 : decode cX5_told 6 = .ok (.invokestatic 80, 3) := dk_184 0 80 (dk_at dksX5_told_0 6 rfl rfl)
theorem dX5_told_9 : decode cX5_told 9 = .ok (.ifCond .ne 10, 3) := dk_154 0 10 (dk_at dksX5_told_0 9 rfl rfl)
theorem dX5_told_12 : decode cX5_told 12 = .ok (.aload_n 0, 1) := dk_42 (dk_at dksX5_told_0 12 rfl rfl)
theorem dX5_told_13 : decode cX5_told 13 = .ok (.bipush (-2), 2) := dk_16 254 (dk_at dksX5_told_0 13 rfl rfl)
theorem dX5_told_15 : decode cX5_told 15 = .ok (.invokevirtual 93, 3) := dk_182 0 93 (dk_at dksX5_told_0 15 rfl rfl)
theorem dX5_told_18 : decode cX5_told 18 = .ok (.ireturn, 1) := dk_172 (dk_at dksX5_told_0 18 rfl rfl)
theorem dX5_told_19 : decode cX5_told 19 = .ok (.aload_n 0, 1) := dk_42 (dk_at dksX5_told_0 19 rfl rfl)
theorem dX5_told_20 : decode cX5_told 20 = .ok (.iload_n 1, 1) := dk_27 (dk_at dksX5_told_0 20 rfl rfl)
theorem dX5_told_21 : decode cX5_told 21 = .ok (.invokevirtual 270, 3) := dk_182 1 14 (dk_at dksX5_told_0 21 rfl rfl)
theorem dX5_told_24 : decode cX5_told 24 = .ok (.istore_n 3, 1) := dk_62 (dk_at dksX5_told_1 0 rfl rfl)
theorem dX5_told_25 : decode cX5_told 25 = .ok (.iload_n 3, 1) := dk_29 (dk_at dksX5_told_1 1 rfl rfl)
theorem dX5_told_26 : decode cX5_told 26 = .ok (.ifCond .eq 5, 3) := dk_153 0 5 (dk_at dksX5_told_1 2 rfl rfl)
theorem dX5_told_29 : decode cX5_told 29 = .ok (.iload_n 3, 1) := dk_29 (dk_at dksX5_told_1 5 rfl rfl)
theorem dX5_told_30 : decode cX5_told 30 = .ok (.ireturn, 1) := dk_172 (dk_at dksX5_told_1 6 rfl rfl)
theorem dX5_told_31 : decode cX5_told 31 = .ok (.aload_n 0, 1) := dk_42 (dk_at dksX5_told_1 7 rfl rfl)
theorem dX5_told_32 : decode cX5_told 32 = .ok (.iload_n 1, 1) := dk_27 (dk_at dksX5_told_1 8 rfl rfl)
theorem dX5_told_33 : decode cX5_told 33 = .ok (.invokevirtual 273, 3) := dk_182 1 17 (dk_at dksX5_told_1 9 rfl rfl)
theorem dX5_told_36 : decode cX5_told 36 = .ok (.iconst (-1), 1) := dk_2 (dk_at dksX5_told_1 12 rfl rfl)
theorem dX5_told_37 : decode cX5_told 37 = .ok (.if_icmp .eq 10, 3) := dk_159 0 10 (dk_at dksX5_told_1 13 rfl rfl)
theorem dX5_told_40 : decode cX5_told 40 = .ok (.aload_n 0, 1) := dk_42 (dk_at dksX5_told_1 16 rfl rfl)
theorem dX5_told_41 : decode cX5_told 41 = .ok (.bipush (-5), 2) := dk_16 251 (dk_at dksX5_told_1 17 rfl rfl)
theorem dX5_told_43 : decode cX5_told 43 = .ok (.invokevirtual 93, 3) := dk_182 0 93 (dk_at dksX5_told_1 19 rfl rfl)
theorem dX5_told_46 : decode cX5_told 46 = .ok (.ireturn, 1) := dk_172 (dk_at dksX5_told_1 22 rfl rfl)
theorem dX5_told_47 : decode cX5_told 47 = .ok (.iconst 0, 1) := dk_3 (dk_at dksX5_told_1 23 rfl rfl)
theorem dX5_told_48 : decode cX5_told 48 = .ok (.istore 4, 2) := dk_54 4 (dk_at dksX5_told_2 0 rfl rfl)
theorem dX5_told_50 : decode cX5_told 50 = .ok (.iconst 0, 1) := dk_3 (dk_at dksX5_told_2 2 rfl rfl)
theorem dX5_told_51 : decode cX5_told 51 = .ok (.istore 5, 2) := dk_54 5 (dk_at dksX5_told_2 3 rfl rfl)
theorem dX5_told_53 : decode cX5_told 53 = .ok (.iconst 0, 1) := dk_3 (dk_at dksX5_told_2 5 rfl rfl)
theorem dX5_told_54 : decode cX5_told 54 = .ok (.istore 6, 2) := dk_54 6 (dk_at dksX5_told_2 6 rfl rfl)
theorem dX5_told_56 : decode cX5_told 56 = .ok (.iload 6, 2) := dk_21 6 (dk_at dksX5_told_2 8 rfl rfl)
theorem dX5_told_58 : decode cX5_told 58 = .ok (.aload_n 0, 1) := dk_42 (dk_at dksX5_told_2 10 rfl rfl)
theorem dX5_told_59 : decode cX5_told 59 = .ok (.getfield 77, 3) := dk_180 0 77 (dk_at dksX5_told_2 11 rfl rfl)
theorem dX5_told_62 : decode cX5_told 62 = .ok (.if_icmp .ge 89, 3) := dk_162 0 89 (dk_at dksX5_told_2 14 rfl rfl)
theorem dX5_told_65 : decode cX5_told 65 = .ok (.aload_n 0, 1) := dk_42 (dk_at dksX5_told_2 17 rfl rfl)
theorem dX5_told_66 : decode cX5_told 66 = .ok (.getfield 21, 3) := dk_180 0 21 (dk_at dksX5_told_2 18 rfl rfl)
theorem dX5_told_69 : decode cX5_told 69 = .ok (.iload_n 1, 1) := dk_27 (dk_at dksX5_told_2 21 rfl rfl)
theorem dX5_told_70 : decode cX5_told 70 = .ok (.aaload, 1) := dk_50 (dk_at dksX5_told_2 22 rfl rfl)
theorem dX5_told_71 : decode cX5_told 71 = .ok (.iload 6, 2) := dk_21 6 (dk_at dksX5_told_3 0 rfl rfl)
theorem dX5_told_73 : decode cX5_told 73 = .ok (.laload, 1) := dk_47 (dk_at dksX5_told_3 2 rfl rfl)
theorem dX5_told_74 : decode cX5_told 74 = .ok (.l2i, 1) := dk_136 (dk_at dksX5_told_3 3 rfl rfl)
theorem dX5_told_75 : decode cX5_told 75 = .ok (.istore 7, 2) := dk_54 7 (dk_at dksX5_told_3 4 rfl rfl)
theorem dX5_told_77 : decode cX5_told 77 = .ok (.iload 4, 2) := dk_21 4 (dk_at dksX5_told_3 6 rfl rfl)
theorem dX5_told_79 : decode cX5_told 79 = .ok (.iload_n 2, 1) := dk_28 (dk_at dksX5_told_3 8 rfl rfl)
theorem dX5_told_80 : decode cX5_told 80 = .ok (.ifCond .ne 14, 3) := dk_154 0 14 (dk_at dksX5_told_3 9 rfl rfl)
theorem dX5_told_83 : decode cX5_told 83 = .ok (.aload_n 0, 1) := dk_42 (dk_at dksX5_told_3 12 rfl rfl)
theorem dX5_told_84 : decode cX5_told 84 = .ok (.iload 7, 2) := dk_21 7 (dk_at dksX5_told_3 13 rfl rfl)
theorem dX5_told_86 : decode cX5_told 86 = .ok (.iload 6, 2) := dk_21 6 (dk_at dksX5_told_3 15 rfl rfl)
theorem dX5_told_88 : decode cX5_told 88 = .ok (.invokevirtual 114, 3) := dk_182 0 114 (dk_at dksX5_told_3 17 rfl rfl)
theorem dX5_told_91 : decode cX5_told 91 = .ok (.goto 11, 3) := dk_167 0 11 (dk_at dksX5_told_3 20 rfl rfl)
theorem dX5_told_94 : decode cX5_told 94 = .ok (.aload_n 0, 1) := dk_42 (dk_at dksX5_told_3 23 rfl rfl)
theorem dX5_told_95 : decode cX5_told 95 = .ok (.iload 7, 2) := dk_21 7 (dk_at dksX5_told_4 0 rfl rfl)
theorem dX5_told_97 : decode cX5_told 97 = .ok (.iload 6, 2) := dk_21 6 (dk_at dksX5_told_4 2 rfl rfl)
theorem dX5_told_99 : decode cX5_told 99 = .ok (.invokevirtual 118, 3) := dk_182 0 118 (dk_at dksX5_told_4 4 rfl rfl)
theorem dX5_told_102 : decode cX5_told 102 = .ok (.iadd, 1) := dk_96 (dk_at dksX5_told_4 7 rfl rfl)
theorem dX5_told_103 : decode cX5_told 103 = .ok (.istore 4, 2) := dk_54 4 (dk_at dksX5_told_4 8 rfl rfl)
theorem dX5_told_105 : decode cX5_told 105 = .ok (.iload_n 2, 1) := dk_28 (dk_at dksX5_told_4 10 rfl rfl)
theorem dX5_told_106 : decode cX5_told 106 = .ok (.iconst 2, 1) := dk_5 (dk_at dksX5_told_4 11 rfl rfl)
theorem dX5_told_107 : decode cX5_told 107 = .ok (.if_icmp .ne 14, 3) := dk_160 0 14 (dk_at dksX5_told_4 12 rfl rfl)
theorem dX5_told_110 : decode cX5_told 110 = .ok (.aload_n 0, 1) := dk_42 (dk_at dksX5_told_4 15 rfl rfl)
theorem dX5_told_111 : decode cX5_told 111 = .ok (.iload 7, 2) := dk_21 7 (dk_at dksX5_told_4 16 rfl rfl)
theorem dX5_told_113 : decode cX5_told 113 = .ok (.iload 6, 2) := dk_21 6 (dk_at dksX5_told_4 18 rfl rfl)
theorem dX5_told_115 : decode cX5_told 115 = .ok (.invokevirtual 121, 3) := dk_182 0 121 (dk_at dksX5_told_4 20 rfl rfl)
theorem dX5_told_118 : decode cX5_told 118 = .ok (.goto 9, 3) := dk_167 0 9 (dk_at dksX5_told_5 0 rfl rfl)
theorem dX5_told_121 : decode cX5_told 121 = .ok (.aload_n 0, 1) := dk_42 (dk_at dksX5_told_5 3 rfl rfl)
theorem dX5_told_122 : decode cX5_told 122 = .ok (.iload 7, 2) := dk_21 7 (dk_at dksX5_told_5 4 rfl rfl)
theorem dX5_told_124 : decode cX5_told 124 = .ok (.invokevirtual 254, 3) := dk_182 0 254 (dk_at dksX5_told_5 6 rfl rfl)
theorem dX5_told_127 : decode cX5_told 127 = .ok (.istore 8, 2) := dk_54 8 (dk_at dksX5_told_5 9 rfl rfl)
theorem dX5_told_129 : decode cX5_told 129 = .ok (.iload 8, 2) := dk_21 8 (dk_at dksX5_told_5 11 rfl rfl)
theorem dX5_told_131 : decode cX5_told 131 = .ok (.iload 5, 2) := dk_21 5 (dk_at dksX5_told_5 13 rfl rfl)
theorem dX5_told_133 : decode cX5_told 133 = .ok (.if_icmp .le 8, 3) := dk_164 0 8 (dk_at dksX5_told_5 15 rfl rfl)
theorem dX5_told_136 : decode cX5_told 136 = .ok (.iload 8, 2) := dk_21 8 (dk_at dksX5_told_5 18 rfl rfl)
theorem dX5_told_138 : decode cX5_told 138 = .ok (.goto 5, 3) := dk_167 0 5 (dk_at dksX5_told_5 20 rfl rfl)
theorem dX5_told_141 : decode cX5_told 141 = .ok (.iload 5, 2) := dk_21 5 (dk_at dksX5_told_6 0 rfl rfl)
theorem dX5_told_143 : decode cX5_told 143 = .ok (.istore 5, 2) := dk_54 5 (dk_at dksX5_told_6 2 rfl rfl)
theorem dX5_told_145 : decode cX5_told 145 = .ok (.iinc 6 1, 3) := dk_132 6 1 (dk_at dksX5_told_6 4 rfl rfl)
theorem dX5_told_148 : decode cX5_told 148 = .ok (.goto (-92), 3) := dk_167 255 164 (dk_at dksX5_told_6 7 rfl rfl)
theorem dX5_told_151 : decode cX5_told 151 = .ok (.iload_n 2, 1) := dk_28 (dk_at dksX5_told_6 10 rfl rfl)
theorem dX5_told_152 : decode cX5_told 152 = .ok (.iconst 2, 1) := dk_5 (dk_at dksX5_told_6 11 rfl rfl)
theorem dX5_told_153 : decode cX5_told 153 = .ok (.if_icmp .ge 8, 3) := dk_162 0 8 (dk_at dksX5_told_6 12 rfl rfl)
theorem dX5_told_156 : decode cX5_told 156 = .ok (.iload 4, 2) := dk_21 4 (dk_at dksX5_told_6 15 rfl rfl)
theorem dX5_told_158 : decode cX5_told 158 = .ok (.goto 17, 3) := dk_167 0 17 (dk_at dksX5_told_6 17 rfl rfl)
theorem dX5_told_161 : decode cX5_told 161 = .ok (.iload_n 2, 1) := dk_28 (dk_at dksX5_told_6 20 rfl rfl)
theorem dX5_told_162 : decode cX5_told 162 = .ok (.iconst 4, 1) := dk_7 (dk_at dksX5_told_6 21 rfl rfl)
theorem dX5_told_163 : decode cX5_told 163 = .ok (.if_icmp .ge 8, 3) := dk_162 0 8 (dk_at dksX5_told_7 0 rfl rfl)
theorem dX5_told_166 : decode cX5_told 166 = .ok (.iload 5, 2) := dk_21 5 (dk_at dksX5_told_7 3 rfl rfl)
theorem dX5_told_168 : decode cX5_told 168 = .ok (.goto 7, 3) := dk_167 0 7 (dk_at dksX5_told_7 5 rfl rfl)
theorem dX5_told_171 : decode cX5_told 171 = .ok (.aload_n 0, 1) := dk_42 (dk_at dksX5_told_7 8 rfl rfl)
theorem dX5_told_172 : decode cX5_told 172 = .ok (.getfield 263, 3) := dk_180 1 7 (dk_at dksX5_told_7 9 rfl rfl)
theorem dX5_told_175 : decode cX5_told 175 = .ok (.ireturn, 1) := dk_172 (dk_at dksX5_told_7 12 rfl rfl)
abbrev cX5_odds : ByteArray := prog_18_method_56_code
def yX5_odds : MethodName := ⟨RX5, "odds", "(I)J"⟩
def dkwX5_odds_3 : List UInt8 := [167, 255, 221, 33, 173]
abbrev dktX5_odds_3 : List UInt8 := dkwX5_odds_3 ++ []
def dkwX5_odds_2 : List UInt8 := [42, 42, 180, 0, 21, 27, 50, 21, 5, 47, 136, 21, 5, 182, 0, 114, 100, 133, 105, 66, 132, 5, 1]
abbrev dktX5_odds_2 : List UInt8 := dkwX5_odds_2 ++ dktX5_odds_3
def dkwX5_odds_1 : List UInt8 := [16, 251, 182, 0, 93, 133, 173, 10, 66, 3, 54, 5, 21, 5, 42, 180, 0, 77, 162, 0, 32, 33, 16, 100]
abbrev dktX5_odds_1 : List UInt8 := dkwX5_odds_1 ++ dktX5_odds_2
def dkwX5_odds_0 : List UInt8 := [42, 27, 182, 1, 14, 61, 28, 153, 0, 6, 28, 133, 173, 42, 27, 182, 1, 17, 2, 159, 0, 11, 42]
abbrev dktX5_odds_0 : List UInt8 := dkwX5_odds_0 ++ dktX5_odds_1
theorem dksX5_odds_0 : cX5_odds.data.toList.drop 0 = dktX5_odds_0 := by decide +kernel
theorem dksX5_odds_1 : cX5_odds.data.toList.drop 23 = dktX5_odds_1 := dk_seg dksX5_odds_0 23 rfl rfl
theorem dksX5_odds_2 : cX5_odds.data.toList.drop 47 = dktX5_odds_2 := dk_seg dksX5_odds_1 24 rfl rfl
theorem dksX5_odds_3 : cX5_odds.data.toList.drop 70 = dktX5_odds_3 := dk_seg dksX5_odds_2 23 rfl rfl
theorem dX5_odds_0 : decode cX5_odds 0 = .ok (.aload_n 0, 1) := dk_42 (dk_at dksX5_odds_0 0 rfl rfl)
theorem dX5_odds_1 : decode cX5_odds 1 = .ok (.iload_n 1, 1) := dk_27 (dk_at dksX5_odds_0 1 rfl rfl)
theorem dX5_odds_2 : decode cX5_odds 2 = .ok (.invokevirtual 270, 3) := dk_182 1 14 (dk_at dksX5_odds_0 2 rfl rfl)
theorem dX5_odds_5 : decode cX5_odds 5 = .ok (.istore_n 2, 1) := dk_61 (dk_at dksX5_odds_0 5 rfl rfl)
theorem dX5_odds_6 : decode cX5_odds 6 = .ok (.iload_n 2, 1) := dk_28 (dk_at dksX5_odds_0 6 rfl rfl)
theorem dX5_odds_7 : decode cX5_odds 7 = .ok (.ifCond .eq 6, 3) := dk_153 0 6 (dk_at dksX5_odds_0 7 rfl rfl)
theorem dX5_odds_10 : decode cX5_odds 10 = .ok (.iload_n 2, 1) := dk_28 (dk_at dksX5_odds_0 10 rfl rfl)
theorem dX5_odds_11 : decode cX5_odds 11 = .ok (.i2l, 1) := dk_133 (dk_at dksX5_odds_0 11 rfl rfl)
theorem dX5_odds_12 : decode cX5_odds 12 = .ok (.lreturn, 1) := dk_173 (dk_at dksX5_odds_0 12 rfl rfl)
theorem dX5_odds_13 : decode cX5_odds 13 = .ok (.aload_n 0, 1) := dk_42 (dk_at dksX5_odds_0 13 rfl rfl)
theorem dX5_odds_14 : decode cX5_odds 14 = .ok (.iload_n 1, 1) := dk_27 (dk_at dksX5_odds_0 14 rfl rfl)
theorem dX5_odds_15 : decode cX5_odds 15 = .ok (.invokevirtual 273, 3) := dk_182 1 17 (dk_at dksX5_odds_0 15 rfl rfl)
theorem dX5_odds_18 : decode cX5_odds 18 = .ok (.iconst (-1), 1) := dk_2 (dk_at dksX5_odds_0 18 rfl rfl)
theorem dX5_odds_19 : decode cX5_odds 19 = .ok (.if_icmp .eq 11, 3) := dk_159 0 11 (dk_at dksX5_odds_0 19 rfl rfl)
theorem dX5_odds_22 : decode cX5_odds 22 = .ok (.aload_n 0, 1) := dk_42 (dk_at dksX5_odds_0 22 rfl rfl)
theorem dX5_odds_23 : decode cX5_odds 23 = .ok (.bipush (-5), 2) := dk_16 251 (dk_at dksX5_odds_1 0 rfl rfl)
theorem dX5_odds_25 : decode cX5_odds 25 = .ok (.invokevirtual 93, 3) := dk_182 0 93 (dk_at dksX5_odds_1 2 rfl rfl)
theorem dX5_odds_28 : decode cX5_odds 28 = .ok (.i2l, 1) := dk_133 (dk_at dksX5_odds_1 5 rfl rfl)
theorem dX5_odds_29 : decode cX5_odds 29 = .ok (.lreturn, 1) := dk_173 (dk_at dksX5_odds_1 6 rfl rfl)
theorem dX5_odds_30 : decode cX5_odds 30 = .ok (.lconst 1, 1) := dk_10 (dk_at dksX5_odds_1 7 rfl rfl)
theorem dX5_odds_31 : decode cX5_odds 31 = .ok (.lstore_n 3, 1) := dk_66 (dk_at dksX5_odds_1 8 rfl rfl)
theorem dX5_odds_32 : decode cX5_odds 32 = .ok (.iconst 0, 1) := dk_3 (dk_at dksX5_odds_1 9 rfl rfl)
theorem dX5_odds_33 : decode cX5_odds 33 = .ok (.istore 5, 2) := dk_54 5 (dk_at dksX5_odds_1 10 rfl rfl)
theorem dX5_odds_35 : decode cX5_odds 35 = .ok (.iload 5, 2) := dk_21 5 (dk_at dksX5_odds_1 12 rfl rfl)
theorem dX5_odds_37 : decode cX5_odds 37 = .ok (.aload_n 0, 1) := dk_42 (dk_at dksX5_odds_1 14 rfl rfl)
theorem dX5_odds_38 : decode cX5_odds 38 = .ok (.getfield 77, 3) := dk_180 0 77 (dk_at dksX5_odds_1 15 rfl rfl)
theorem dX5_odds_41 : decode cX5_odds 41 = .ok (.if_icmp .ge 32, 3) := dk_162 0 32 (dk_at dksX5_odds_1 18 rfl rfl)
theorem dX5_odds_44 : decode cX5_odds 44 = .ok (.lload_n 3, 1) := dk_33 (dk_at dksX5_odds_1 21 rfl rfl)
theorem dX5_odds_45 : decode cX5_odds 45 = .ok (.bipush 100, 2) := dk_16 100 (dk_at dksX5_odds_1 22 rfl rfl)
theorem dX5_odds_47 : decode cX5_odds 47 = .ok (.aload_n 0, 1) := dk_42 (dk_at dksX5_odds_2 0 rfl rfl)
theorem dX5_odds_48 : decode cX5_odds 48 = .ok (.aload_n 0, 1) := dk_42 (dk_at dksX5_odds_2 1 rfl rfl)
theorem dX5_odds_49 : decode cX5_odds 49 = .ok (.getfield 21, 3) := dk_180 0 21 (dk_at dksX5_odds_2 2 rfl rfl)
theorem dX5_odds_52 : decode cX5_odds 52 = .ok (.iload_n 1, 1) := dk_27 (dk_at dksX5_odds_2 5 rfl rfl)
theorem dX5_odds_53 : decode cX5_odds 53 = .ok (.aaload, 1) := dk_50 (dk_at dksX5_odds_2 6 rfl rfl)
theorem dX5_odds_54 : decode cX5_odds 54 = .ok (.iload 5, 2) := dk_21 5 (dk_at dksX5_odds_2 7 rfl rfl)
theorem dX5_odds_56 : decode cX5_odds 56 = .ok (.laload, 1) := dk_47 (dk_at dksX5_odds_2 9 rfl rfl)
theorem dX5_odds_57 : decode cX5_odds 57 = .ok (.l2i, 1) := dk_136 (dk_at dksX5_odds_2 10 rfl rfl)
theorem dX5_odds_58 : decode cX5_odds 58 = .ok (.iload 5, 2) := dk_21 5 (dk_at dksX5_odds_2 11 rfl rfl)
theorem dX5_odds_60 : decode cX5_odds 60 = .ok (.invokevirtual 114, 3) := dk_182 0 114 (dk_at dksX5_odds_2 13 rfl rfl)
theorem dX5_odds_63 : decode cX5_odds 63 = .ok (.isub, 1) := dk_100 (dk_at dksX5_odds_2 16 rfl rfl)
theorem dX5_odds_64 : decode cX5_odds 64 = .ok (.i2l, 1) := dk_133 (dk_at dksX5_odds_2 17 rfl rfl)
theorem dX5_odds_65 : decode cX5_odds 65 = .ok (.lmul, 1) := dk_105 (dk_at dksX5_odds_2 18 rfl rfl)
theorem dX5_odds_66 : decode cX5_odds 66 = .ok (.lstore_n 3, 1) := dk_66 (dk_at dksX5_odds_2 19 rfl rfl)
theorem dX5_odds_67 : decode cX5_odds 67 = .ok (.iinc 5 1, 3) := dk_132 5 1 (dk_at dksX5_odds_2 20 rfl rfl)
theorem dX5_odds_70 : decode cX5_odds 70 = .ok (.goto (-35), 3) := dk_167 255 221 (dk_at dksX5_odds_3 0 rfl rfl)
theorem dX5_odds_73 : decode cX5_odds 73 = .ok (.lload_n 3, 1) := dk_33 (dk_at dksX5_odds_3 3 rfl rfl)
theorem dX5_odds_74 : decode cX5_odds 74 = .ok (.lreturn, 1) := dk_173 (dk_at dksX5_odds_3 4 rfl rfl)
abbrev cX5_safest : ByteArray := prog_18_method_63_code
def yX5_safest : MethodName := ⟨RX5, "safest", "(I)I"⟩
def dkwX5_safest_1 : List UInt8 := [182, 1, 38, 172]
abbrev dktX5_safest_1 : List UInt8 := dkwX5_safest_1 ++ []
def dkwX5_safest_0 : List UInt8 := [42, 27, 182, 1, 31, 154, 0, 10, 42, 16, 254, 182, 0, 93, 172, 42, 16, 100, 4, 182, 1, 34, 42, 27]
abbrev dktX5_safest_0 : List UInt8 := dkwX5_safest_0 ++ dktX5_safest_1
theorem dksX5_safest_0 : cX5_safest.data.toList.drop 0 = dktX5_safest_0 := by decide +kernel
theorem dksX5_safest_1 : cX5_safest.data.toList.drop 24 = dktX5_safest_1 := dk_seg dksX5_safest_0 24 rfl rfl
theorem dX5_safest_0 : decode cX5_safest 0 = .ok (.aload_n 0, 1) := dk_42 (dk_at dksX5_safest_0 0 rfl rfl)
theorem dX5_safest_1 : decode cX5_safest 1 = .ok (.iload_n 1, 1) := dk_27 (dk_at dksX5_safest_0 1 rfl rfl)
theorem dX5_safest_2 : decode cX5_safest 2 = .ok (.invokevirtual 287, 3) := dk_182 1 31 (dk_at dksX5_safest_0 2 rfl rfl)
theorem dX5_safest_5 : decode cX5_safest 5 = .ok (.ifCond .ne 10, 3) := dk_154 0 10 (dk_at dksX5_safest_0 5 rfl rfl)
theorem dX5_safest_8 : decode cX5_safest 8 = .ok (.aload_n 0, 1) := dk_42 (dk_at dksX5_safest_0 8 rfl rfl)
theorem dX5_safest_9 : decode cX5_safest 9 = .ok (.bipush (-2), 2) := dk_16 254 (dk_at dksX5_safest_0 9 rfl rfl)
theorem dX5_safest_11 : decode cX5_safest 11 = .ok (.invokevirtual 93, 3) := dk_182 0 93 (dk_at dksX5_safest_0 11 rfl rfl)
theorem dX5_safest_14 : decode cX5_safest 14 = .ok (.ireturn, 1) := dk_172 (dk_at dksX5_safest_0 14 rfl rfl)
theorem dX5_safest_15 : decode cX5_safest 15 = .ok (.aload_n 0, 1) := dk_42 (dk_at dksX5_safest_0 15 rfl rfl)
theorem dX5_safest_16 : decode cX5_safest 16 = .ok (.bipush 100, 2) := dk_16 100 (dk_at dksX5_safest_0 16 rfl rfl)
theorem dX5_safest_18 : decode cX5_safest 18 = .ok (.iconst 1, 1) := dk_4 (dk_at dksX5_safest_0 18 rfl rfl)
theorem dX5_safest_19 : decode cX5_safest 19 = .ok (.invokevirtual 290, 3) := dk_182 1 34 (dk_at dksX5_safest_0 19 rfl rfl)
theorem dX5_safest_22 : decode cX5_safest 22 = .ok (.aload_n 0, 1) := dk_42 (dk_at dksX5_safest_0 22 rfl rfl)
theorem dX5_safest_23 : decode cX5_safest 23 = .ok (.iload_n 1, 1) := dk_27 (dk_at dksX5_safest_0 23 rfl rfl)
theorem dX5_safest_24 : decode cX5_safest 24 = .ok (.invokevirtual 294, 3) := dk_182 1 38 (dk_at dksX5_safest_1 0 rfl rfl)
theorem dX5_safest_27 : decode cX5_safest 27 = .ok (.ireturn, 1) := dk_172 (dk_at dksX5_safest_1 3 rfl rfl)
abbrev cX5_isTold : ByteArray := prog_18_method_62_code
def yX5_isTold : MethodName := ⟨RX5, "isTold", "(I)Z"⟩
def dkwX5_isTold_1 : List UInt8 := [184, 0, 80, 153, 0, 7, 4, 167, 0, 4, 3, 172]
abbrev dktX5_isTold_1 : List UInt8 := dkwX5_isTold_1 ++ []
def dkwX5_isTold_0 : List UInt8 := [27, 133, 9, 10, 184, 0, 80, 154, 0, 22, 27, 133, 20, 0, 126, 16, 9, 42, 180, 0, 77, 96, 133]
abbrev dktX5_isTold_0 : List UInt8 := dkwX5_isTold_0 ++ dktX5_isTold_1
theorem dksX5_isTold_0 : cX5_isTold.data.toList.drop 0 = dktX5_isTold_0 := by decide +kernel
theorem dksX5_isTold_1 : cX5_isTold.data.toList.drop 23 = dktX5_isTold_1 := dk_seg dksX5_isTold_0 23 rfl rfl
theorem dX5_isTold_0 : decode cX5_isTold 0 = .ok (.iload_n 1, 1) := dk_27 (dk_at dksX5_isTold_0 0 rfl rfl)
theorem dX5_isTold_1 : decode cX5_isTold 1 = .ok (.i2l, 1) := dk_133 (dk_at dksX5_isTold_0 1 rfl rfl)
theorem dX5_isTold_2 : decode cX5_isTold 2 = .ok (.lconst 0, 1) := dk_9 (dk_at dksX5_isTold_0 2 rfl rfl)
theorem dX5_isTold_3 : decode cX5_isTold 3 = .ok (.lconst 1, 1) := dk_10 (dk_at dksX5_isTold_0 3 rfl rfl)
theorem dX5_isTold_4 : decode cX5_isTold 4 = .ok (.invokestatic 80, 3) := dk_184 0 80 (dk_at dksX5_isTold_0 4 rfl rfl)
theorem dX5_isTold_7 : decode cX5_isTold 7 = .ok (.ifCond .ne 22, 3) := dk_154 0 22 (dk_at dksX5_isTold_0 7 rfl rfl)
theorem dX5_isTold_10 : decode cX5_isTold 10 = .ok (.iload_n 1, 1) := dk_27 (dk_at dksX5_isTold_0 10 rfl rfl)
theorem dX5_isTold_11 : decode cX5_isTold 11 = .ok (.i2l, 1) := dk_133 (dk_at dksX5_isTold_0 11 rfl rfl)
theorem dX5_isTold_12 : decode cX5_isTold 12 = .ok (.ldc2_w 126, 3) := dk_20 0 126 (dk_at dksX5_isTold_0 12 rfl rfl)
theorem dX5_isTold_15 : decode cX5_isTold 15 = .ok (.bipush 9, 2) := dk_16 9 (dk_at dksX5_isTold_0 15 rfl rfl)
theorem dX5_isTold_17 : decode cX5_isTold 17 = .ok (.aload_n 0, 1) := dk_42 (dk_at dksX5_isTold_0 17 rfl rfl)
theorem dX5_isTold_18 : decode cX5_isTold 18 = .ok (.getfield 77, 3) := dk_180 0 77 (dk_at dksX5_isTold_0 18 rfl rfl)
theorem dX5_isTold_21 : decode cX5_isTold 21 = .ok (.iadd, 1) := dk_96 (dk_at dksX5_isTold_0 21 rfl rfl)
theorem dX5_isTold_22 : decode cX5_isTold 22 = .ok (.i2l, 1) := dk_133 (dk_at dksX5_isTold_0 22 rfl rfl)
theorem dX5_isTold_23 : decode cX5_isTold 23 = .ok (.invokestatic 80, 3) := dk_184 0 80 (dk_at dksX5_isTold_1 0 rfl rfl)
theorem dX5_isTold_26 : decode cX5_isTold 26 = .ok (.ifCond .eq 7, 3) := dk_153 0 7 (dk_at dksX5_isTold_1 3 rfl rfl)
theorem dX5_isTold_29 : decode cX5_isTold 29 = .ok (.iconst 1, 1) := dk_4 (dk_at dksX5_isTold_1 6 rfl rfl)
theorem dX5_isTold_30 : decode cX5_isTold 30 = .ok (.goto 4, 3) := dk_167 0 4 (dk_at dksX5_isTold_1 7 rfl rfl)
theorem dX5_isTold_33 : decode cX5_isTold 33 = .ok (.iconst 0, 1) := dk_3 (dk_at dksX5_isTold_1 10 rfl rfl)
theorem dX5_isTold_34 : decode cX5_isTold 34 = .ok (.ireturn, 1) := dk_172 (dk_at dksX5_isTold_1 11 rfl rfl)
abbrev cX5_findBest : ByteArray := prog_18_method_58_code
def yX5_findBest : MethodName := ⟨RX5, "findBest", "(IZ)V"⟩
def dkwX5_findBest_6 : List UInt8 := [132, 4, 1, 167, 255, 184, 132, 3, 255, 167, 255, 171, 177]
abbrev dktX5_findBest_6 : List UInt8 := dkwX5_findBest_6 ++ []
def dkwX5_findBest_5 : List UInt8 := [182, 0, 114, 27, 163, 0, 13, 42, 21, 5, 29, 21, 4, 28, 182, 1, 20, 132, 5, 1, 167, 255, 211]
abbrev dktX5_findBest_5 : List UInt8 := dkwX5_findBest_5 ++ dktX5_findBest_6
def dkwX5_findBest_4 : List UInt8 := [180, 0, 84, 162, 0, 42, 42, 21, 5, 29, 21, 4, 182, 1, 3, 153, 0, 24, 42, 21, 5, 29]
abbrev dktX5_findBest_4 : List UInt8 := dkwX5_findBest_4 ++ dktX5_findBest_5
def dkwX5_findBest_3 : List UInt8 := [17, 0, 200, 163, 0, 70, 42, 180, 0, 65, 29, 50, 21, 4, 2, 79, 3, 54, 5, 21, 5, 42]
abbrev dktX5_findBest_3 : List UInt8 := dkwX5_findBest_3 ++ dktX5_findBest_4
def dkwX5_findBest_2 : List UInt8 := [132, 3, 1, 167, 255, 210, 42, 180, 0, 77, 4, 100, 62, 29, 155, 0, 87, 3, 54, 4, 21, 4]
abbrev dktX5_findBest_2 : List UInt8 := dkwX5_findBest_2 ++ dktX5_findBest_3
def dkwX5_findBest_1 : List UInt8 := [180, 0, 68, 42, 180, 0, 77, 50, 29, 3, 79, 42, 180, 0, 71, 42, 180, 0, 77, 50, 29, 3, 79]
abbrev dktX5_findBest_1 : List UInt8 := dkwX5_findBest_1 ++ dktX5_findBest_2
def dkwX5_findBest_0 : List UInt8 := [3, 62, 29, 17, 0, 200, 163, 0, 45, 42, 180, 0, 65, 42, 180, 0, 77, 50, 29, 3, 79, 42]
abbrev dktX5_findBest_0 : List UInt8 := dkwX5_findBest_0 ++ dktX5_findBest_1
theorem dksX5_findBest_0 : cX5_findBest.data.toList.drop 0 = dktX5_findBest_0 := by decide +kernel
theorem dksX5_findBest_1 : cX5_findBest.data.toList.drop 22 = dktX5_findBest_1 := dk_seg dksX5_findBest_0 22 rfl rfl
theorem dksX5_findBest_2 : cX5_findBest.data.toList.drop 45 = dktX5_findBest_2 := dk_seg dksX5_findBest_1 23 rfl rfl
theorem dksX5_findBest_3 : cX5_findBest.data.toList.drop 67 = dktX5_findBest_3 := dk_seg dksX5_findBest_2 22 rfl rfl
theorem dksX5_findBest_4 : cX5_findBest.data.toList.drop 89 = dktX5_findBest_4 := dk_seg dksX5_findBest_3 22 rfl rfl
theorem dksX5_findBest_5 : cX5_findBest.data.toList.drop 111 = dktX5_findBest_5 := dk_seg dksX5_findBest_4 22 rfl rfl
theorem dksX5_findBest_6 : cX5_findBest.data.toList.drop 134 = dktX5_findBest_6 := dk_seg dksX5_findBest_5 23 rfl rfl
theorem dX5_findBest_0 : decode cX5_findBest 0 = .ok (.iconst 0, 1) := dk_3 (dk_at dksX5_findBest_0 0 rfl rfl)
theorem dX5_findBest_1 : decode cX5_findBest 1 = .ok (.istore_n 3, 1) := dk_62 (dk_at dksX5_findBest_0 1 rfl rfl)
theorem dX5_findBest_2 : decode cX5_findBest 2 = .ok (.iload_n 3, 1) := dk_29 (dk_at dksX5_findBest_0 2 rfl rfl)
theorem dX5_findBest_3 : decode cX5_findBest 3 = .ok (.sipush 200, 3) := dk_17 0 200 (dk_at dksX5_findBest_0 3 rfl rfl)
theorem dX5_findBest_6 : decode cX5_findBest 6 = .ok (.if_icmp .gt 45, 3) := dk_163 0 45 (dk_at dksX5_findBest_0 6 rfl rfl)
theorem dX5_findBest_9 : decode cX5_findBest 9 = .ok (.aload_n 0, 1) := dk_42 (dk_at dksX5_findBest_0 9 rfl rfl)
theorem dX5_findBest_10 : decode cX5_findBest 10 = .ok (.getfield 65, 3) := dk_180 0 65 (dk_at dksX5_findBest_0 10 rfl rfl)
theorem dX5_findBest_13 : decode cX5_findBest 13 = .ok (.aload_n 0, 1) := dk_42 (dk_at dksX5_findBest_0 13 rfl rfl)
theorem dX5_findBest_14 : decode cX5_findBest 14 = .ok (.getfield 77, 3) := dk_180 0 77 (dk_at dksX5_findBest_0 14 rfl rfl)
theorem dX5_findBest_17 : decode cX5_findBest 17 = .ok (.aaload, 1) := dk_50 (dk_at dksX5_findBest_0 17 rfl rfl)
theorem dX5_findBest_18 : decode cX5_findBest 18 = .ok (.iload_n 3, 1) := dk_29 (dk_at dksX5_findBest_0 18 rfl rfl)
theorem dX5_findBest_19 : decode cX5_findBest 19 = .ok (.iconst 0, 1) := dk_3 (dk_at dksX5_findBest_0 19 rfl rfl)
theorem dX5_findBest_20 : decode cX5_findBest 20 = .ok (.iastore, 1) := dk_79 (dk_at dksX5_findBest_0 20 rfl rfl)
theorem dX5_findBest_21 : decode cX5_findBest 21 = .ok (.aload_n 0, 1) := dk_42 (dk_at dksX5_findBest_0 21 rfl rfl)
theorem dX5_findBest_22 : decode cX5_findBest 22 = .ok (.getfield 68, 3) := dk_180 0 68 (dk_at dksX5_findBest_1 0 rfl rfl)
theorem dX5_findBest_25 : decode cX5_findBest 25 = .ok (.aload_n 0, 1) := dk_42 (dk_at dksX5_findBest_1 3 rfl rfl)
theorem dX5_findBest_26 : decode cX5_findBest 26 = .ok (.getfield 77, 3) := dk_180 0 77 (dk_at dksX5_findBest_1 4 rfl rfl)
theorem dX5_findBest_29 : decode cX5_findBest 29 = .ok (.aaload, 1) := dk_50 (dk_at dksX5_findBest_1 7 rfl rfl)
theorem dX5_findBest_30 : decode cX5_findBest 30 = .ok (.iload_n 3, 1) := dk_29 (dk_at dksX5_findBest_1 8 rfl rfl)
theorem dX5_findBest_31 : decode cX5_findBest 31 = .ok (.iconst 0, 1) := dk_3 (dk_at dksX5_findBest_1 9 rfl rfl)
theorem dX5_findBest_32 : decode cX5_findBest 32 = .ok (.iastore, 1) := dk_79 (dk_at dksX5_findBest_1 10 rfl rfl)
theorem dX5_findBest_33 : decode cX5_findBest 33 = .ok (.aload_n 0, 1) := dk_42 (dk_at dksX5_findBest_1 11 rfl rfl)
theorem dX5_findBest_34 : decode cX5_findBest 34 = .ok (.getfield 71, 3) := dk_180 0 71 (dk_at dksX5_findBest_1 12 rfl rfl)
theorem dX5_findBest_37 : decode cX5_findBest 37 = .ok (.aload_n 0, 1) := dk_42 (dk_at dksX5_findBest_1 15 rfl rfl)
theorem dX5_findBest_38 : decode cX5_findBest 38 = .ok (.getfield 77, 3) := dk_180 0 77 (dk_at dksX5_findBest_1 16 rfl rfl)
theorem dX5_findBest_41 : decode cX5_findBest 41 = .ok (.aaload, 1) := dk_50 (dk_at dksX5_findBest_1 19 rfl rfl)
theorem dX5_findBest_42 : decode cX5_findBest 42 = .ok (.iload_n 3, 1) := dk_29 (dk_at dksX5_findBest_1 20 rfl rfl)
theorem dX5_findBest_43 : decode cX5_findBest 43 = .ok (.iconst 0, 1) := dk_3 (dk_at dksX5_findBest_1 21 rfl rfl)
theorem dX5_findBest_44 : decode cX5_findBest 44 = .ok (.iastore, 1) := dk_79 (dk_at dksX5_findBest_1 22 rfl rfl)
theorem dX5_findBest_45 : decode cX5_findBest 45 = .ok (.iinc 3 1, 3) := dk_132 3 1 (dk_at dksX5_findBest_2 0 rfl rfl)
theorem dX5_findBest_48 : decode cX5_findBest 48 = .ok (.goto (-46), 3) := dk_167 255 210 (dk_at dksX5_findBest_2 3 rfl rfl)
theorem dX5_findBest_51 : decode cX5_findBest 51 = .ok (.aload_n 0, 1) := dk_42 (dk_at dksX5_findBest_2 6 rfl rfl)
theorem dX5_findBest_52 : decode cX5_findBest 52 = .ok (.getfield 77, 3) := dk_180 0 77 (dk_at dksX5_findBest_2 7 rfl rfl)
theorem dX5_findBest_55 : decode cX5_findBest 55 = .ok (.iconst 1, 1) := dk_4 (dk_at dksX5_findBest_2 10 rfl rfl)
theorem dX5_findBest_56 : decode cX5_findBest 56 = .ok (.isub, 1) := dk_100 (dk_at dksX5_findBest_2 11 rfl rfl)
theorem dX5_findBest_57 : decode cX5_findBest 57 = .ok (.istore_n 3, 1) := dk_62 (dk_at dksX5_findBest_2 12 rfl rfl)
theorem dX5_findBest_58 : decode cX5_findBest 58 = .ok (.iload_n 3, 1) := dk_29 (dk_at dksX5_findBest_2 13 rfl rfl)
theorem dX5_findBest_59 : decode cX5_findBest 59 = .ok (.ifCond .lt 87, 3) := dk_155 0 87 (dk_at dksX5_findBest_2 14 rfl rfl)
theorem dX5_findBest_62 : decode cX5_findBest 62 = .ok (.iconst 0, 1) := dk_3 (dk_at dksX5_findBest_2 17 rfl rfl)
theorem dX5_findBest_63 : decode cX5_findBest 63 = .ok (.istore 4, 2) := dk_54 4 (dk_at dksX5_findBest_2 18 rfl rfl)
theorem dX5_findBest_65 : decode cX5_findBest 65 = .ok (.iload 4, 2) := dk_21 4 (dk_at dksX5_findBest_2 20 rfl rfl)
theorem dX5_findBest_67 : decode cX5_findBest 67 = .ok (.sipush 200, 3) := dk_17 0 200 (dk_at dksX5_findBest_3 0 rfl rfl)
theorem dX5_findBest_70 : decode cX5_findBest 70 = .ok (.if_icmp .gt 70, 3) := dk_163 0 70 (dk_at dksX5_findBest_3 3 rfl rfl)
theorem dX5_findBest_73 : decode cX5_findBest 73 = .ok (.aload_n 0, 1) := dk_42 (dk_at dksX5_findBest_3 6 rfl rfl)
theorem dX5_findBest_74 : decode cX5_findBest 74 = .ok (.getfield 65, 3) := dk_180 0 65 (dk_at dksX5_findBest_3 7 rfl rfl)
theorem dX5_findBest_77 : decode cX5_findBest 77 = .ok (.iload_n 3, 1) := dk_29 (dk_at dksX5_findBest_3 10 rfl rfl)
theorem dX5_findBest_78 : decode cX5_findBest 78 = .ok (.aaload, 1) := dk_50 (dk_at dksX5_findBest_3 11 rfl rfl)
theorem dX5_findBest_79 : decode cX5_findBest 79 = .ok (.iload 4, 2) := dk_21 4 (dk_at dksX5_findBest_3 12 rfl rfl)
theorem dX5_findBest_81 : decode cX5_findBest 81 = .ok (.iconst (-1), 1) := dk_2 (dk_at dksX5_findBest_3 14 rfl rfl)
theorem dX5_findBest_82 : decode cX5_findBest 82 = .ok (.iastore, 1) := dk_79 (dk_at dksX5_findBest_3 15 rfl rfl)
theorem dX5_findBest_83 : decode cX5_findBest 83 = .ok (.iconst 0, 1) := dk_3 (dk_at dksX5_findBest_3 16 rfl rfl)
theorem dX5_findBest_84 : decode cX5_findBest 84 = .ok (.istore 5, 2) := dk_54 5 (dk_at dksX5_findBest_3 17 rfl rfl)
theorem dX5_findBest_86 : decode cX5_findBest 86 = .ok (.iload 5, 2) := dk_21 5 (dk_at dksX5_findBest_3 19 rfl rfl)
theorem dX5_findBest_88 : decode cX5_findBest 88 = .ok (.aload_n 0, 1) := dk_42 (dk_at dksX5_findBest_3 21 rfl rfl)
theorem dX5_findBest_89 : decode cX5_findBest 89 = .ok (.getfield 84, 3) := dk_180 0 84 (dk_at dksX5_findBest_4 0 rfl rfl)
theorem dX5_findBest_92 : decode cX5_findBest 92 = .ok (.if_icmp .ge 42, 3) := dk_162 0 42 (dk_at dksX5_findBest_4 3 rfl rfl)
theorem dX5_findBest_95 : decode cX5_findBest 95 = .ok (.aload_n 0, 1) := dk_42 (dk_at dksX5_findBest_4 6 rfl rfl)
theorem dX5_findBest_96 : decode cX5_findBest 96 = .ok (.iload 5, 2) := dk_21 5 (dk_at dksX5_findBest_4 7 rfl rfl)
theorem dX5_findBest_98 : decode cX5_findBest 98 = .ok (.iload_n 3, 1) := dk_29 (dk_at dksX5_findBest_4 9 rfl rfl)
theorem dX5_findBest_99 : decode cX5_findBest 99 = .ok (.iload 4, 2) := dk_21 4 (dk_at dksX5_findBest_4 10 rfl rfl)
theorem dX5_findBest_101 : decode cX5_findBest 101 = .ok (.invokevirtual 259, 3) := dk_182 1 3 (dk_at dksX5_findBest_4 12 rfl rfl)
theorem dX5_findBest_104 : decode cX5_findBest 104 = .ok (.ifCond .eq 24, 3) := dk_153 0 24 (dk_at dksX5_findBest_4 15 rfl rfl)
theorem dX5_findBest_107 : decode cX5_findBest 107 = .ok (.aload_n 0, 1) := dk_42 (dk_at dksX5_findBest_4 18 rfl rfl)
theorem dX5_findBest_108 : decode cX5_findBest 108 = .ok (.iload 5, 2) := dk_21 5 (dk_at dksX5_findBest_4 19 rfl rfl)
theorem dX5_findBest_110 : decode cX5_findBest 110 = .ok (.iload_n 3, 1) := dk_29 (dk_at dksX5_findBest_4 21 rfl rfl)
theorem dX5_findBest_111 : decode cX5_findBest 111 = .ok (.invokevirtual 114, 3) := dk_182 0 114 (dk_at dksX5_findBest_5 0 rfl rfl)
theorem dX5_findBest_114 : decode cX5_findBest 114 = .ok (.iload_n 1, 1) := dk_27 (dk_at dksX5_findBest_5 3 rfl rfl)
theorem dX5_findBest_115 : decode cX5_findBest 115 = .ok (.if_icmp .gt 13, 3) := dk_163 0 13 (dk_at dksX5_findBest_5 4 rfl rfl)
theorem dX5_findBest_118 : decode cX5_findBest 118 = .ok (.aload_n 0, 1) := dk_42 (dk_at dksX5_findBest_5 7 rfl rfl)
theorem dX5_findBest_119 : decode cX5_findBest 119 = .ok (.iload 5, 2) := dk_21 5 (dk_at dksX5_findBest_5 8 rfl rfl)
theorem dX5_findBest_121 : decode cX5_findBest 121 = .ok (.iload_n 3, 1) := dk_29 (dk_at dksX5_findBest_5 10 rfl rfl)
theorem dX5_findBest_122 : decode cX5_findBest 122 = .ok (.iload 4, 2) := dk_21 4 (dk_at dksX5_findBest_5 11 rfl rfl)
theorem dX5_findBest_124 : decode cX5_findBest 124 = .ok (.iload_n 2, 1) := dk_28 (dk_at dksX5_findBest_5 13 rfl rfl)
theorem dX5_findBest_125 : decode cX5_findBest 125 = .ok (.invokevirtual 276, 3) := dk_182 1 20 (dk_at dksX5_findBest_5 14 rfl rfl)
theorem dX5_findBest_128 : decode cX5_findBest 128 = .ok (.iinc 5 1, 3) := dk_132 5 1 (dk_at dksX5_findBest_5 17 rfl rfl)
theorem dX5_findBest_131 : decode cX5_findBest 131 = .ok (.goto (-45), 3) := dk_167 255 211 (dk_at dksX5_findBest_5 20 rfl rfl)
theorem dX5_findBest_134 : decode cX5_findBest 134 = .ok (.iinc 4 1, 3) := dk_132 4 1 (dk_at dksX5_findBest_6 0 rfl rfl)
theorem dX5_findBest_137 : decode cX5_findBest 137 = .ok (.goto (-72), 3) := dk_167 255 184 (dk_at dksX5_findBest_6 3 rfl rfl)
theorem dX5_findBest_140 : decode cX5_findBest 140 = .ok (.iinc 3 (-1), 3) := dk_132 3 255 (dk_at dksX5_findBest_6 6 rfl rfl)
theorem dX5_findBest_143 : decode cX5_findBest 143 = .ok (.goto (-85), 3) := dk_167 255 171 (dk_at dksX5_findBest_6 9 rfl rfl)
theorem dX5_findBest_146 : decode cX5_findBest 146 = .ok (.return_, 1) := dk_177 (dk_at dksX5_findBest_6 12 rfl rfl)
abbrev cX5_tryWay : ByteArray := prog_18_method_59_code
def yX5_tryWay : MethodName := ⟨RX5, "tryWay", "(IIIZ)V"⟩
def dkwX5_tryWay_8 : List UInt8 := [29, 21, 7, 79, 177]
abbrev dktX5_tryWay_8 : List UInt8 := dkwX5_tryWay_8 ++ []
def dkwX5_tryWay_7 : List UInt8 := [180, 0, 65, 28, 50, 29, 27, 79, 42, 180, 0, 68, 28, 50, 29, 21, 6, 79, 42, 180, 0, 71, 28, 50]
abbrev dktX5_tryWay_7 : List UInt8 := dkwX5_tryWay_7 ++ dktX5_tryWay_8
def dkwX5_tryWay_6 : List UInt8 := [184, 1, 24, 153, 0, 7, 4, 167, 0, 4, 3, 54, 9, 21, 8, 154, 0, 8, 21, 9, 153, 0, 32, 42]
abbrev dktX5_tryWay_6 : List UInt8 := dkwX5_tryWay_6 ++ dktX5_tryWay_7
def dkwX5_tryWay_5 : List UInt8 := [167, 0, 29, 21, 7, 21, 6, 42, 180, 0, 71, 28, 50, 29, 46, 42, 180, 0, 68, 28, 50, 29, 46]
abbrev dktX5_tryWay_5 : List UInt8 := dkwX5_tryWay_5 ++ dktX5_tryWay_6
def dkwX5_tryWay_4 : List UInt8 := [21, 7, 42, 180, 0, 68, 28, 50, 29, 46, 42, 180, 0, 71, 28, 50, 29, 46, 184, 1, 24, 153, 0, 36]
abbrev dktX5_tryWay_4 : List UInt8 := dkwX5_tryWay_4 ++ dktX5_tryWay_5
def dkwX5_tryWay_3 : List UInt8 := [46, 2, 160, 0, 7, 4, 167, 0, 4, 3, 54, 8, 21, 8, 154, 0, 67, 21, 4, 153, 0, 32, 21, 6]
abbrev dktX5_tryWay_3 : List UInt8 := dkwX5_tryWay_3 ++ dktX5_tryWay_4
def dkwX5_tryWay_2 : List UInt8 := [182, 0, 118, 42, 180, 0, 71, 28, 4, 96, 50, 21, 5, 46, 96, 54, 7, 42, 180, 0, 65, 28, 50, 29]
abbrev dktX5_tryWay_2 : List UInt8 := dkwX5_tryWay_2 ++ dktX5_tryWay_3
def dkwX5_tryWay_1 : List UInt8 := [177, 42, 27, 28, 182, 0, 114, 42, 180, 0, 68, 28, 4, 96, 50, 21, 5, 46, 96, 54, 6, 42, 27, 28]
abbrev dktX5_tryWay_1 : List UInt8 := dkwX5_tryWay_1 ++ dktX5_tryWay_2
def dkwX5_tryWay_0 : List UInt8 := [42, 27, 28, 29, 182, 1, 10, 54, 5, 42, 180, 0, 65, 28, 4, 96, 50, 21, 5, 46, 2, 160, 0, 4]
abbrev dktX5_tryWay_0 : List UInt8 := dkwX5_tryWay_0 ++ dktX5_tryWay_1
theorem dksX5_tryWay_0 : cX5_tryWay.data.toList.drop 0 = dktX5_tryWay_0 := by decide +kernel
theorem dksX5_tryWay_1 : cX5_tryWay.data.toList.drop 24 = dktX5_tryWay_1 := dk_seg dksX5_tryWay_0 24 rfl rfl
theorem dksX5_tryWay_2 : cX5_tryWay.data.toList.drop 48 = dktX5_tryWay_2 := dk_seg dksX5_tryWay_1 24 rfl rfl
theorem dksX5_tryWay_3 : cX5_tryWay.data.toList.drop 72 = dktX5_tryWay_3 := dk_seg dksX5_tryWay_2 24 rfl rfl
theorem dksX5_tryWay_4 : cX5_tryWay.data.toList.drop 96 = dktX5_tryWay_4 := dk_seg dksX5_tryWay_3 24 rfl rfl
theorem dksX5_tryWay_5 : cX5_tryWay.data.toList.drop 120 = dktX5_tryWay_5 := dk_seg dksX5_tryWay_4 24 rfl rfl
theorem dksX5_tryWay_6 : cX5_tryWay.data.toList.drop 143 = dktX5_tryWay_6 := dk_seg dksX5_tryWay_5 23 rfl rfl
theorem dksX5_tryWay_7 : cX5_tryWay.data.toList.drop 167 = dktX5_tryWay_7 := dk_seg dksX5_tryWay_6 24 rfl rfl
theorem dksX5_tryWay_8 : cX5_tryWay.data.toList.drop 191 = dktX5_tryWay_8 := dk_seg dksX5_tryWay_7 24 rfl rfl
theorem dX5_tryWay_0 : decode cX5_tryWay 0 = .ok (.aload_n 0, 1) := dk_42 (dk_at dksX5_tryWay_0 0 rfl rfl)
theorem dX5_tryWay_1 : decode cX5_tryWay 1 = .ok (.iload_n 1, 1) := dk_27 (dk_at dksX5_tryWay_0 1 rfl rfl)
theorem dX5_tryWay_2 : decode cX5_tryWay 2 = .ok (.iload_n 2, 1) := dk_28 (dk_at dksX5_tryWay_0 2 rfl rfl)
theorem dX5_tryWay_3 : decode cX5_tryWay 3 = .ok (.iload_n 3, 1) := dk_29 (dk_at dksX5_tryWay_0 3 rfl rfl)
theorem dX5_tryWay_4 : decode cX5_tryWay 4 = .ok (.invokevirtual 266, 3) := dk_182 1 10 (dk_at dksX5_tryWay_0 4 rfl rfl)
theorem dX5_tryWay_7 : decode cX5_tryWay 7 = .ok (.istore 5, 2) := dk_54 5 (dk_at dksX5_tryWay_0 7 rfl rfl)
theorem dX5_tryWay_9 : decode cX5_tryWay 9 = .ok (.aload_n 0, 1) := dk_42 (dk_at dksX5_tryWay_0 9 rfl rfl)
theorem dX5_tryWay_10 : decode cX5_tryWay 10 = .ok (.getfield 65, 3) := dk_180 0 65 (dk_at dksX5_tryWay_0 10 rfl rfl)
theorem dX5_tryWay_13 : decode cX5_tryWay 13 = .ok (.iload_n 2, 1) := dk_28 (dk_at dksX5_tryWay_0 13 rfl rfl)
theorem dX5_tryWay_14 : decode cX5_tryWay 14 = .ok (.iconst 1, 1) := dk_4 (dk_at dksX5_tryWay_0 14 rfl rfl)
theorem dX5_tryWay_15 : decode cX5_tryWay 15 = .ok (.iadd, 1) := dk_96 (dk_at dksX5_tryWay_0 15 rfl rfl)
theorem dX5_tryWay_16 : decode cX5_tryWay 16 = .ok (.aaload, 1) := dk_50 (dk_at dksX5_tryWay_0 16 rfl rfl)
theorem dX5_tryWay_17 : decode cX5_tryWay 17 = .ok (.iload 5, 2) := dk_21 5 (dk_at dksX5_tryWay_0 17 rfl rfl)
theorem dX5_tryWay_19 : decode cX5_tryWay 19 = .ok (.iaload, 1) := dk_46 (dk_at dksX5_tryWay_0 19 rfl rfl)
theorem dX5_tryWay_20 : decode cX5_tryWay 20 = .ok (.iconst (-1), 1) := dk_2 (dk_at dksX5_tryWay_0 20 rfl rfl)
theorem dX5_tryWay_21 : decode cX5_tryWay 21 = .ok (.if_icmp .ne 4, 3) := dk_160 0 4 (dk_at dksX5_tryWay_0 21 rfl rfl)
theorem dX5_tryWay_24 : decode cX5_tryWay 24 = .ok (.return_, 1) := dk_177 (dk_at dksX5_tryWay_1 0 rfl rfl)
theorem dX5_tryWay_25 : decode cX5_tryWay 25 = .ok (.aload_n 0, 1) := dk_42 (dk_at dksX5_tryWay_1 1 rfl rfl)
theorem dX5_tryWay_26 : decode cX5_tryWay 26 = .ok (.iload_n 1, 1) := dk_27 (dk_at dksX5_tryWay_1 2 rfl rfl)
theorem dX5_tryWay_27 : decode cX5_tryWay 27 = .ok (.iload_n 2, 1) := dk_28 (dk_at dksX5_tryWay_1 3 rfl rfl)
theorem dX5_tryWay_28 : decode cX5_tryWay 28 = .ok (.invokevirtual 114, 3) := dk_182 0 114 (dk_at dksX5_tryWay_1 4 rfl rfl)
theorem dX5_tryWay_31 : decode cX5_tryWay 31 = .ok (.aload_n 0, 1) := dk_42 (dk_at dksX5_tryWay_1 7 rfl rfl)
theorem dX5_tryWay_32 : decode cX5_tryWay 32 = .ok (.getfield 68, 3) := dk_180 0 68 (dk_at dksX5_tryWay_1 8 rfl rfl)
theorem dX5_tryWay_35 : decode cX5_tryWay 35 = .ok (.iload_n 2, 1) := dk_28 (dk_at dksX5_tryWay_1 11 rfl rfl)
theorem dX5_tryWay_36 : decode cX5_tryWay 36 = .ok (.iconst 1, 1) := dk_4 (dk_at dksX5_tryWay_1 12 rfl rfl)
theorem dX5_tryWay_37 : decode cX5_tryWay 37 = .ok (.iadd, 1) := dk_96 (dk_at dksX5_tryWay_1 13 rfl rfl)
theorem dX5_tryWay_38 : decode cX5_tryWay 38 = .ok (.aaload, 1) := dk_50 (dk_at dksX5_tryWay_1 14 rfl rfl)
theorem dX5_tryWay_39 : decode cX5_tryWay 39 = .ok (.iload 5, 2) := dk_21 5 (dk_at dksX5_tryWay_1 15 rfl rfl)
theorem dX5_tryWay_41 : decode cX5_tryWay 41 = .ok (.iaload, 1) := dk_46 (dk_at dksX5_tryWay_1 17 rfl rfl)
theorem dX5_tryWay_42 : decode cX5_tryWay 42 = .ok (.iadd, 1) := dk_96 (dk_at dksX5_tryWay_1 18 rfl rfl)
theorem dX5_tryWay_43 : decode cX5_tryWay 43 = .ok (.istore 6, 2) := dk_54 6 (dk_at dksX5_tryWay_1 19 rfl rfl)
theorem dX5_tryWay_45 : decode cX5_tryWay 45 = .ok (.aload_n 0, 1) := dk_42 (dk_at dksX5_tryWay_1 21 rfl rfl)
theorem dX5_tryWay_46 : decode cX5_tryWay 46 = .ok (.iload_n 1, 1) := dk_27 (dk_at dksX5_tryWay_1 22 rfl rfl)
theorem dX5_tryWay_47 : decode cX5_tryWay 47 = .ok (.iload_n 2, 1) := dk_28 (dk_at dksX5_tryWay_1 23 rfl rfl)
theorem dX5_tryWay_48 : decode cX5_tryWay 48 = .ok (.invokevirtual 118, 3) := dk_182 0 118 (dk_at dksX5_tryWay_2 0 rfl rfl)
theorem dX5_tryWay_51 : decode cX5_tryWay 51 = .ok (.aload_n 0, 1) := dk_42 (dk_at dksX5_tryWay_2 3 rfl rfl)
theorem dX5_tryWay_52 : decode cX5_tryWay 52 = .ok (.getfield 71, 3) := dk_180 0 71 (dk_at dksX5_tryWay_2 4 rfl rfl)
theorem dX5_tryWay_55 : decode cX5_tryWay 55 = .ok (.iload_n 2, 1) := dk_28 (dk_at dksX5_tryWay_2 7 rfl rfl)
theorem dX5_tryWay_56 : decode cX5_tryWay 56 = .ok (.iconst 1, 1) := dk_4 (dk_at dksX5_tryWay_2 8 rfl rfl)
theorem dX5_tryWay_57 : decode cX5_tryWay 57 = .ok (.iadd, 1) := dk_96 (dk_at dksX5_tryWay_2 9 rfl rfl)
theorem dX5_tryWay_58 : decode cX5_tryWay 58 = .ok (.aaload, 1) := dk_50 (dk_at dksX5_tryWay_2 10 rfl rfl)
theorem dX5_tryWay_59 : decode cX5_tryWay 59 = .ok (.iload 5, 2) := dk_21 5 (dk_at dksX5_tryWay_2 11 rfl rfl)
theorem dX5_tryWay_61 : decode cX5_tryWay 61 = .ok (.iaload, 1) := dk_46 (dk_at dksX5_tryWay_2 13 rfl rfl)
theorem dX5_tryWay_62 : decode cX5_tryWay 62 = .ok (.iadd, 1) := dk_96 (dk_at dksX5_tryWay_2 14 rfl rfl)
theorem dX5_tryWay_63 : decode cX5_tryWay 63 = .ok (.istore 7, 2) := dk_54 7 (dk_at dksX5_tryWay_2 15 rfl rfl)
theorem dX5_tryWay_65 : decode cX5_tryWay 65 = .ok (.aload_n 0, 1) := dk_42 (dk_at dksX5_tryWay_2 17 rfl rfl)
theorem dX5_tryWay_66 : decode cX5_tryWay 66 = .ok (.getfield 65, 3) := dk_180 0 65 (dk_at dksX5_tryWay_2 18 rfl rfl)
theorem dX5_tryWay_69 : decode cX5_tryWay 69 = .ok (.iload_n 2, 1) := dk_28 (dk_at dksX5_tryWay_2 21 rfl rfl)
theorem dX5_tryWay_70 : decode cX5_tryWay 70 = .ok (.aaload, 1) := dk_50 (dk_at dksX5_tryWay_2 22 rfl rfl)
theorem dX5_tryWay_71 : decode cX5_tryWay 71 = .ok (.iload_n 3, 1) := dk_29 (dk_at dksX5_tryWay_2 23 rfl rfl)
theorem dX5_tryWay_72 : decode cX5_tryWay 72 = .ok (.iaload, 1) := dk_46 (dk_at dksX5_tryWay_3 0 rfl rfl)
theorem dX5_tryWay_73 : decode cX5_tryWay 73 = .ok (.iconst (-1), 1) := dk_2 (dk_at dksX5_tryWay_3 1 rfl rfl)
theorem dX5_tryWay_74 : decode cX5_tryWay 74 = .ok (.if_icmp .ne 7, 3) := dk_160 0 7 (dk_at dksX5_tryWay_3 2 rfl rfl)
theorem dX5_tryWay_77 : decode cX5_tryWay 77 = .ok (.iconst 1, 1) := dk_4 (dk_at dksX5_tryWay_3 5 rfl rfl)
theorem dX5_tryWay_78 : decode cX5_tryWay 78 = .ok (.goto 4, 3) := dk_167 0 4 (dk_at dksX5_tryWay_3 6 rfl rfl)
theorem dX5_tryWay_81 : decode cX5_tryWay 81 = .ok (.iconst 0, 1) := dk_3 (dk_at dksX5_tryWay_3 9 rfl rfl)
theorem dX5_tryWay_82 : decode cX5_tryWay 82 = .ok (.istore 8, 2) := dk_54 8 (dk_at dksX5_tryWay_3 10 rfl rfl)
theorem dX5_tryWay_84 : decode cX5_tryWay 84 = .ok (.iload 8, 2) := dk_21 8 (dk_at dksX5_tryWay_3 12 rfl rfl)
theorem dX5_tryWay_86 : decode cX5_tryWay 86 = .ok (.ifCond .ne 67, 3) := dk_154 0 67 (dk_at dksX5_tryWay_3 14 rfl rfl)
theorem dX5_tryWay_89 : decode cX5_tryWay 89 = .ok (.iload 4, 2) := dk_21 4 (dk_at dksX5_tryWay_3 17 rfl rfl)
theorem dX5_tryWay_91 : decode cX5_tryWay 91 = .ok (.ifCond .eq 32, 3) := dk_153 0 32 (dk_at dksX5_tryWay_3 19 rfl rfl)
theorem dX5_tryWay_94 : decode cX5_tryWay 94 = .ok (.iload 6, 2) := dk_21 6 (dk_at dksX5_tryWay_3 22 rfl rfl)
theorem dX5_tryWay_96 : decode cX5_tryWay 96 = .ok (.iload 7, 2) := dk_21 7 (dk_at dksX5_tryWay_4 0 rfl rfl)
theorem dX5_tryWay_98 : decode cX5_tryWay 98 = .ok (.aload_n 0, 1) := dk_42 (dk_at dksX5_tryWay_4 2 rfl rfl)
theorem dX5_tryWay_99 : decode cX5_tryWay 99 = .ok (.getfield 68, 3) := dk_180 0 68 (dk_at dksX5_tryWay_4 3 rfl rfl)
theorem dX5_tryWay_102 : decode cX5_tryWay 102 = .ok (.iload_n 2, 1) := dk_28 (dk_at dksX5_tryWay_4 6 rfl rfl)
theorem dX5_tryWay_103 : decode cX5_tryWay 103 = .ok (.aaload, 1) := dk_50 (dk_at dksX5_tryWay_4 7 rfl rfl)
theorem dX5_tryWay_104 : decode cX5_tryWay 104 = .ok (.iload_n 3, 1) := dk_29 (dk_at dksX5_tryWay_4 8 rfl rfl)
theorem dX5_tryWay_105 : decode cX5_tryWay 105 = .ok (.iaload, 1) := dk_46 (dk_at dksX5_tryWay_4 9 rfl rfl)
theorem dX5_tryWay_106 : decode cX5_tryWay 106 = .ok (.aload_n 0, 1) := dk_42 (dk_at dksX5_tryWay_4 10 rfl rfl)
theorem dX5_tryWay_107 : decode cX5_tryWay 107 = .ok (.getfield 71, 3) := dk_180 0 71 (dk_at dksX5_tryWay_4 11 rfl rfl)
theorem dX5_tryWay_110 : decode cX5_tryWay 110 = .ok (.iload_n 2, 1) := dk_28 (dk_at dksX5_tryWay_4 14 rfl rfl)
theorem dX5_tryWay_111 : decode cX5_tryWay 111 = .ok (.aaload, 1) := dk_50 (dk_at dksX5_tryWay_4 15 rfl rfl)
theorem dX5_tryWay_112 : decode cX5_tryWay 112 = .ok (.iload_n 3, 1) := dk_29 (dk_at dksX5_tryWay_4 16 rfl rfl)
theorem dX5_tryWay_113 : decode cX5_tryWay 113 = .ok (.iaload, 1) := dk_46 (dk_at dksX5_tryWay_4 17 rfl rfl)
theorem dX5_tryWay_114 : decode cX5_tryWay 114 = .ok (.invokestatic 280, 3) := dk_184 1 24 (dk_at dksX5_tryWay_4 18 rfl rfl)
theorem dX5_tryWay_117 : decode cX5_tryWay 117 = .ok (.ifCond .eq 36, 3) := dk_153 0 36 (dk_at dksX5_tryWay_4 21 rfl rfl)
theorem dX5_tryWay_120 : decode cX5_tryWay 120 = .ok (.goto 29, 3) := dk_167 0 29 (dk_at dksX5_tryWay_5 0 rfl rfl)
theorem dX5_tryWay_123 : decode cX5_tryWay 123 = .ok (.iload 7, 2) := dk_21 7 (dk_at dksX5_tryWay_5 3 rfl rfl)
theorem dX5_tryWay_125 : decode cX5_tryWay 125 = .ok (.iload 6, 2) := dk_21 6 (dk_at dksX5_tryWay_5 5 rfl rfl)
theorem dX5_tryWay_127 : decode cX5_tryWay 127 = .ok (.aload_n 0, 1) := dk_42 (dk_at dksX5_tryWay_5 7 rfl rfl)
theorem dX5_tryWay_128 : decode cX5_tryWay 128 = .ok (.getfield 71, 3) := dk_180 0 71 (dk_at dksX5_tryWay_5 8 rfl rfl)
theorem dX5_tryWay_131 : decode cX5_tryWay 131 = .ok (.iload_n 2, 1) := dk_28 (dk_at dksX5_tryWay_5 11 rfl rfl)
theorem dX5_tryWay_132 : decode cX5_tryWay 132 = .ok (.aaload, 1) := dk_50 (dk_at dksX5_tryWay_5 12 rfl rfl)
theorem dX5_tryWay_133 : decode cX5_tryWay 133 = .ok (.iload_n 3, 1) := dk_29 (dk_at dksX5_tryWay_5 13 rfl rfl)
theorem dX5_tryWay_134 : decode cX5_tryWay 134 = .ok (.iaload, 1) := dk_46 (dk_at dksX5_tryWay_5 14 rfl rfl)
theorem dX5_tryWay_135 : decode cX5_tryWay 135 = .ok (.aload_n 0, 1) := dk_42 (dk_at dksX5_tryWay_5 15 rfl rfl)
theorem dX5_tryWay_136 : decode cX5_tryWay 136 = .ok (.getfield 68, 3) := dk_180 0 68 (dk_at dksX5_tryWay_5 16 rfl rfl)
theorem dX5_tryWay_139 : decode cX5_tryWay 139 = .ok (.iload_n 2, 1) := dk_28 (dk_at dksX5_tryWay_5 19 rfl rfl)
theorem dX5_tryWay_140 : decode cX5_tryWay 140 = .ok (.aaload, 1) := dk_50 (dk_at dksX5_tryWay_5 20 rfl rfl)
theorem dX5_tryWay_141 : decode cX5_tryWay 141 = .ok (.iload_n 3, 1) := dk_29 (dk_at dksX5_tryWay_5 21 rfl rfl)
theorem dX5_tryWay_142 : decode cX5_tryWay 142 = .ok (.iaload, 1) := dk_46 (dk_at dksX5_tryWay_5 22 rfl rfl)
theorem dX5_tryWay_143 : decode cX5_tryWay 143 = .ok (.invokestatic 280, 3) := dk_184 1 24 (dk_at dksX5_tryWay_6 0 rfl rfl)
theorem dX5_tryWay_146 : decode cX5_tryWay 146 = .ok (.ifCond .eq 7, 3) := dk_153 0 7 (dk_at dksX5_tryWay_6 3 rfl rfl)
theorem dX5_tryWay_149 : decode cX5_tryWay 149 = .ok (.iconst 1, 1) := dk_4 (dk_at dksX5_tryWay_6 6 rfl rfl)
theorem dX5_tryWay_150 : decode cX5_tryWay 150 = .ok (.goto 4, 3) := dk_167 0 4 (dk_at dksX5_tryWay_6 7 rfl rfl)
theorem dX5_tryWay_153 : decode cX5_tryWay 153 = .ok (.iconst 0, 1) := dk_3 (dk_at dksX5_tryWay_6 10 rfl rfl)
theorem dX5_tryWay_154 : decode cX5_tryWay 154 = .ok (.istore 9, 2) := dk_54 9 (dk_at dksX5_tryWay_6 11 rfl rfl)
theorem dX5_tryWay_156 : decode cX5_tryWay 156 = .ok (.iload 8, 2) := dk_21 8 (dk_at dksX5_tryWay_6 13 rfl rfl)
theorem dX5_tryWay_158 : decode cX5_tryWay 158 = .ok (.ifCond .ne 8, 3) := dk_154 0 8 (dk_at dksX5_tryWay_6 15 rfl rfl)
theorem dX5_tryWay_161 : decode cX5_tryWay 161 = .ok (.iload 9, 2) := dk_21 9 (dk_at dksX5_tryWay_6 18 rfl rfl)
theorem dX5_tryWay_163 : decode cX5_tryWay 163 = .ok (.ifCond .eq 32, 3) := dk_153 0 32 (dk_at dksX5_tryWay_6 20 rfl rfl)
theorem dX5_tryWay_166 : decode cX5_tryWay 166 = .ok (.aload_n 0, 1) := dk_42 (dk_at dksX5_tryWay_6 23 rfl rfl)
theorem dX5_tryWay_167 : decode cX5_tryWay 167 = .ok (.getfield 65, 3) := dk_180 0 65 (dk_at dksX5_tryWay_7 0 rfl rfl)
theorem dX5_tryWay_170 : decode cX5_tryWay 170 = .ok (.iload_n 2, 1) := dk_28 (dk_at dksX5_tryWay_7 3 rfl rfl)
theorem dX5_tryWay_171 : decode cX5_tryWay 171 = .ok (.aaload, 1) := dk_50 (dk_at dksX5_tryWay_7 4 rfl rfl)
theorem dX5_tryWay_172 : decode cX5_tryWay 172 = .ok (.iload_n 3, 1) := dk_29 (dk_at dksX5_tryWay_7 5 rfl rfl)
theorem dX5_tryWay_173 : decode cX5_tryWay 173 = .ok (.iload_n 1, 1) := dk_27 (dk_at dksX5_tryWay_7 6 rfl rfl)
theorem dX5_tryWay_174 : decode cX5_tryWay 174 = .ok (.iastore, 1) := dk_79 (dk_at dksX5_tryWay_7 7 rfl rfl)
theorem dX5_tryWay_175 : decode cX5_tryWay 175 = .ok (.aload_n 0, 1) := dk_42 (dk_at dksX5_tryWay_7 8 rfl rfl)
theorem dX5_tryWay_176 : decode cX5_tryWay 176 = .ok (.getfield 68, 3) := dk_180 0 68 (dk_at dksX5_tryWay_7 9 rfl rfl)
theorem dX5_tryWay_179 : decode cX5_tryWay 179 = .ok (.iload_n 2, 1) := dk_28 (dk_at dksX5_tryWay_7 12 rfl rfl)
theorem dX5_tryWay_180 : decode cX5_tryWay 180 = .ok (.aaload, 1) := dk_50 (dk_at dksX5_tryWay_7 13 rfl rfl)
theorem dX5_tryWay_181 : decode cX5_tryWay 181 = .ok (.iload_n 3, 1) := dk_29 (dk_at dksX5_tryWay_7 14 rfl rfl)
theorem dX5_tryWay_182 : decode cX5_tryWay 182 = .ok (.iload 6, 2) := dk_21 6 (dk_at dksX5_tryWay_7 15 rfl rfl)
theorem dX5_tryWay_184 : decode cX5_tryWay 184 = .ok (.iastore, 1) := dk_79 (dk_at dksX5_tryWay_7 17 rfl rfl)
theorem dX5_tryWay_185 : decode cX5_tryWay 185 = .ok (.aload_n 0, 1) := dk_42 (dk_at dksX5_tryWay_7 18 rfl rfl)
theorem dX5_tryWay_186 : decode cX5_tryWay 186 = .ok (.getfield 71, 3) := dk_180 0 71 (dk_at dksX5_tryWay_7 19 rfl rfl)
theorem dX5_tryWay_189 : decode cX5_tryWay 189 = .ok (.iload_n 2, 1) := dk_28 (dk_at dksX5_tryWay_7 22 rfl rfl)
theorem dX5_tryWay_190 : decode cX5_tryWay 190 = .ok (.aaload, 1) := dk_50 (dk_at dksX5_tryWay_7 23 rfl rfl)
theorem dX5_tryWay_191 : decode cX5_tryWay 191 = .ok (.iload_n 3, 1) := dk_29 (dk_at dksX5_tryWay_8 0 rfl rfl)
theorem dX5_tryWay_192 : decode cX5_tryWay 192 = .ok (.iload 7, 2) := dk_21 7 (dk_at dksX5_tryWay_8 1 rfl rfl)
theorem dX5_tryWay_194 : decode cX5_tryWay 194 = .ok (.iastore, 1) := dk_79 (dk_at dksX5_tryWay_8 3 rfl rfl)
theorem dX5_tryWay_195 : decode cX5_tryWay 195 = .ok (.return_, 1) := dk_177 (dk_at dksX5_tryWay_8 4 rfl rfl)
abbrev cX5_isLess : ByteArray := prog_18_method_57_code
def yX5_isLess : MethodName := ⟨RX5, "isLess", "(IIII)Z"⟩
def dkwX5_isLess_0 : List UInt8 := [26, 28, 161, 0, 13, 26, 28, 160, 0, 12, 27, 29, 162, 0, 7, 4, 167, 0, 4, 3, 172]
abbrev dktX5_isLess_0 : List UInt8 := dkwX5_isLess_0 ++ []
theorem dksX5_isLess_0 : cX5_isLess.data.toList.drop 0 = dktX5_isLess_0 := by decide +kernel
theorem dX5_isLess_0 : decode cX5_isLess 0 = .ok (.iload_n 0, 1) := dk_26 (dk_at dksX5_isLess_0 0 rfl rfl)
theorem dX5_isLess_1 : decode cX5_isLess 1 = .ok (.iload_n 2, 1) := dk_28 (dk_at dksX5_isLess_0 1 rfl rfl)
theorem dX5_isLess_2 : decode cX5_isLess 2 = .ok (.if_icmp .lt 13, 3) := dk_161 0 13 (dk_at dksX5_isLess_0 2 rfl rfl)
theorem dX5_isLess_5 : decode cX5_isLess 5 = .ok (.iload_n 0, 1) := dk_26 (dk_at dksX5_isLess_0 5 rfl rfl)
theorem dX5_isLess_6 : decode cX5_isLess 6 = .ok (.iload_n 2, 1) := dk_28 (dk_at dksX5_isLess_0 6 rfl rfl)
theorem dX5_isLess_7 : decode cX5_isLess 7 = .ok (.if_icmp .ne 12, 3) := dk_160 0 12 (dk_at dksX5_isLess_0 7 rfl rfl)
theorem dX5_isLess_10 : decode cX5_isLess 10 = .ok (.iload_n 1, 1) := dk_27 (dk_at dksX5_isLess_0 10 rfl rfl)
theorem dX5_isLess_11 : decode cX5_isLess 11 = .ok (.iload_n 3, 1) := dk_29 (dk_at dksX5_isLess_0 11 rfl rfl)
theorem dX5_isLess_12 : decode cX5_isLess 12 = .ok (.if_icmp .ge 7, 3) := dk_162 0 7 (dk_at dksX5_isLess_0 12 rfl rfl)
theorem dX5_isLess_15 : decode cX5_isLess 15 = .ok (.iconst 1, 1) := dk_4 (dk_at dksX5_isLess_0 15 rfl rfl)
theorem dX5_isLess_16 : decode cX5_isLess 16 = .ok (.goto 4, 3) := dk_167 0 4 (dk_at dksX5_isLess_0 16 rfl rfl)
theorem dX5_isLess_19 : decode cX5_isLess 19 = .ok (.iconst 0, 1) := dk_3 (dk_at dksX5_isLess_0 19 rfl rfl)
theorem dX5_isLess_20 : decode cX5_isLess 20 = .ok (.ireturn, 1) := dk_172 (dk_at dksX5_isLess_0 20 rfl rfl)
abbrev cX5_found : ByteArray := prog_18_method_61_code
def yX5_found : MethodName := ⟨RX5, "found", "(I)I"⟩
def dkwX5_found_4 : List UInt8 := [180, 0, 65, 27, 16, 10, 100, 50, 28, 46, 172]
abbrev dktX5_found_4 : List UInt8 := dkwX5_found_4 ++ []
def dkwX5_found_3 : List UInt8 := [42, 42, 180, 0, 65, 29, 50, 28, 46, 29, 28, 182, 1, 10, 61, 132, 3, 1, 167, 255, 230, 42]
abbrev dktX5_found_3 : List UInt8 := dkwX5_found_3 ++ dktX5_found_4
def dkwX5_found_2 : List UInt8 := [180, 0, 56, 5, 46, 46, 172, 42, 180, 0, 56, 5, 46, 61, 3, 62, 29, 27, 16, 10, 100, 162, 0, 24]
abbrev dktX5_found_2 : List UInt8 := dkwX5_found_2 ++ dktX5_found_3
def dkwX5_found_1 : List UInt8 := [180, 0, 68, 3, 50, 42, 180, 0, 56, 5, 46, 46, 167, 0, 16, 42, 180, 0, 71, 3, 50, 42]
abbrev dktX5_found_1 : List UInt8 := dkwX5_found_1 ++ dktX5_found_2
def dkwX5_found_0 : List UInt8 := [42, 182, 1, 28, 153, 0, 10, 42, 16, 251, 182, 0, 93, 172, 27, 5, 162, 0, 37, 27, 154, 0, 19, 42]
abbrev dktX5_found_0 : List UInt8 := dkwX5_found_0 ++ dktX5_found_1
theorem dksX5_found_0 : cX5_found.data.toList.drop 0 = dktX5_found_0 := by decide +kernel
theorem dksX5_found_1 : cX5_found.data.toList.drop 24 = dktX5_found_1 := dk_seg dksX5_found_0 24 rfl rfl
theorem dksX5_found_2 : cX5_found.data.toList.drop 46 = dktX5_found_2 := dk_seg dksX5_found_1 22 rfl rfl
theorem dksX5_found_3 : cX5_found.data.toList.drop 70 = dktX5_found_3 := dk_seg dksX5_found_2 24 rfl rfl
theorem dksX5_found_4 : cX5_found.data.toList.drop 92 = dktX5_found_4 := dk_seg dksX5_found_3 22 rfl rfl
theorem dX5_found_0 : decode cX5_found 0 = .ok (.aload_n 0, 1) := dk_42 (dk_at dksX5_found_0 0 rfl rfl)
theorem dX5_found_1 : decode cX5_found 1 = .ok (.invokevirtual 284, 3) := dk_182 1 28 (dk_at dksX5_found_0 1 rfl rfl)
theorem dX5_found_4 : decode cX5_found 4 = .ok (.ifCond .eq 10, 3) := dk_153 0 10 (dk_at dksX5_found_0 4 rfl rfl)
theorem dX5_found_7 : decode cX5_found 7 = .ok (.aload_n 0, 1) := dk_42 (dk_at dksX5_found_0 7 rfl rfl)
theorem dX5_found_8 : decode cX5_found 8 = .ok (.bipush (-5), 2) := dk_16 251 (dk_at dksX5_found_0 8 rfl rfl)
theorem dX5_found_10 : decode cX5_found 10 = .ok (.invokevirtual 93, 3) := dk_182 0 93 (dk_at dksX5_found_0 10 rfl rfl)
theorem dX5_found_13 : decode cX5_found 13 = .ok (.ireturn, 1) := dk_172 (dk_at dksX5_found_0 13 rfl rfl)
theorem dX5_found_14 : decode cX5_found 14 = .ok (.iload_n 1, 1) := dk_27 (dk_at dksX5_found_0 14 rfl rfl)
theorem dX5_found_15 : decode cX5_found 15 = .ok (.iconst 2, 1) := dk_5 (dk_at dksX5_found_0 15 rfl rfl)
theorem dX5_found_16 : decode cX5_found 16 = .ok (.if_icmp .ge 37, 3) := dk_162 0 37 (dk_at dksX5_found_0 16 rfl rfl)
theorem dX5_found_19 : decode cX5_found 19 = .ok (.iload_n 1, 1) := dk_27 (dk_at dksX5_found_0 19 rfl rfl)
theorem dX5_found_20 : decode cX5_found 20 = .ok (.ifCond .ne 19, 3) := dk_154 0 19 (dk_at dksX5_found_0 20 rfl rfl)
theorem dX5_found_23 : decode cX5_found 23 = .ok (.aload_n 0, 1) := dk_42 (dk_at dksX5_found_0 23 rfl rfl)
theorem dX5_found_24 : decode cX5_found 24 = .ok (.getfield 68, 3) := dk_180 0 68 (dk_at dksX5_found_1 0 rfl rfl)
theorem dX5_found_27 : decode cX5_found 27 = .ok (.iconst 0, 1) := dk_3 (dk_at dksX5_found_1 3 rfl rfl)
theorem dX5_found_28 : decode cX5_found 28 = .ok (.aaload, 1) := dk_50 (dk_at dksX5_found_1 4 rfl rfl)
theorem dX5_found_29 : decode cX5_found 29 = .ok (.aload_n 0, 1) := dk_42 (dk_at dksX5_found_1 5 rfl rfl)
theorem dX5_found_30 : decode cX5_found 30 = .ok (.getfield 56, 3) := dk_180 0 56 (dk_at dksX5_found_1 6 rfl rfl)
theorem dX5_found_33 : decode cX5_found 33 = .ok (.iconst 2, 1) := dk_5 (dk_at dksX5_found_1 9 rfl rfl)
theorem dX5_found_34 : decode cX5_found 34 = .ok (.iaload, 1) := dk_46 (dk_at dksX5_found_1 10 rfl rfl)
theorem dX5_found_35 : decode cX5_found 35 = .ok (.iaload, 1) := dk_46 (dk_at dksX5_found_1 11 rfl rfl)
theorem dX5_found_36 : decode cX5_found 36 = .ok (.goto 16, 3) := dk_167 0 16 (dk_at dksX5_found_1 12 rfl rfl)
theorem dX5_found_39 : decode cX5_found 39 = .ok (.aload_n 0, 1) := dk_42 (dk_at dksX5_found_1 15 rfl rfl)
theorem dX5_found_40 : decode cX5_found 40 = .ok (.getfield 71, 3) := dk_180 0 71 (dk_at dksX5_found_1 16 rfl rfl)
theorem dX5_found_43 : decode cX5_found 43 = .ok (.iconst 0, 1) := dk_3 (dk_at dksX5_found_1 19 rfl rfl)
theorem dX5_found_44 : decode cX5_found 44 = .ok (.aaload, 1) := dk_50 (dk_at dksX5_found_1 20 rfl rfl)
theorem dX5_found_45 : decode cX5_found 45 = .ok (.aload_n 0, 1) := dk_42 (dk_at dksX5_found_1 21 rfl rfl)
theorem dX5_found_46 : decode cX5_found 46 = .ok (.getfield 56, 3) := dk_180 0 56 (dk_at dksX5_found_2 0 rfl rfl)
theorem dX5_found_49 : decode cX5_found 49 = .ok (.iconst 2, 1) := dk_5 (dk_at dksX5_found_2 3 rfl rfl)
theorem dX5_found_50 : decode cX5_found 50 = .ok (.iaload, 1) := dk_46 (dk_at dksX5_found_2 4 rfl rfl)
theorem dX5_found_51 : decode cX5_found 51 = .ok (.iaload, 1) := dk_46 (dk_at dksX5_found_2 5 rfl rfl)
theorem dX5_found_52 : decode cX5_found 52 = .ok (.ireturn, 1) := dk_172 (dk_at dksX5_found_2 6 rfl rfl)
theorem dX5_found_53 : decode cX5_found 53 = .ok (.aload_n 0, 1) := dk_42 (dk_at dksX5_found_2 7 rfl rfl)
theorem dX5_found_54 : decode cX5_found 54 = .ok (.getfield 56, 3) := dk_180 0 56 (dk_at dksX5_found_2 8 rfl rfl)
theorem dX5_found_57 : decode cX5_found 57 = .ok (.iconst 2, 1) := dk_5 (dk_at dksX5_found_2 11 rfl rfl)
theorem dX5_found_58 : decode cX5_found 58 = .ok (.iaload, 1) := dk_46 (dk_at dksX5_found_2 12 rfl rfl)
theorem dX5_found_59 : decode cX5_found 59 = .ok (.istore_n 2, 1) := dk_61 (dk_at dksX5_found_2 13 rfl rfl)
theorem dX5_found_60 : decode cX5_found 60 = .ok (.iconst 0, 1) := dk_3 (dk_at dksX5_found_2 14 rfl rfl)
theorem dX5_found_61 : decode cX5_found 61 = .ok (.istore_n 3, 1) := dk_62 (dk_at dksX5_found_2 15 rfl rfl)
theorem dX5_found_62 : decode cX5_found 62 = .ok (.iload_n 3, 1) := dk_29 (dk_at dksX5_found_2 16 rfl rfl)
theorem dX5_found_63 : decode cX5_found 63 = .ok (.iload_n 1, 1) := dk_27 (dk_at dksX5_found_2 17 rfl rfl)
theorem dX5_found_64 : decode cX5_found 64 = .ok (.bipush 10, 2) := dk_16 10 (dk_at dksX5_found_2 18 rfl rfl)
theorem dX5_found_66 : decode cX5_found 66 = .ok (.isub, 1) := dk_100 (dk_at dksX5_found_2 20 rfl rfl)
theorem dX5_found_67 : decode cX5_found 67 = .ok (.if_icmp .ge 24, 3) := dk_162 0 24 (dk_at dksX5_found_2 21 rfl rfl)
theorem dX5_found_70 : decode cX5_found 70 = .ok (.aload_n 0, 1) := dk_42 (dk_at dksX5_found_3 0 rfl rfl)
theorem dX5_found_71 : decode cX5_found 71 = .ok (.aload_n 0, 1) := dk_42 (dk_at dksX5_found_3 1 rfl rfl)
theorem dX5_found_72 : decode cX5_found 72 = .ok (.getfield 65, 3) := dk_180 0 65 (dk_at dksX5_found_3 2 rfl rfl)
theorem dX5_found_75 : decode cX5_found 75 = .ok (.iload_n 3, 1) := dk_29 (dk_at dksX5_found_3 5 rfl rfl)
theorem dX5_found_76 : decode cX5_found 76 = .ok (.aaload, 1) := dk_50 (dk_at dksX5_found_3 6 rfl rfl)
theorem dX5_found_77 : decode cX5_found 77 = .ok (.iload_n 2, 1) := dk_28 (dk_at dksX5_found_3 7 rfl rfl)
theorem dX5_found_78 : decode cX5_found 78 = .ok (.iaload, 1) := dk_46 (dk_at dksX5_found_3 8 rfl rfl)
theorem dX5_found_79 : decode cX5_found 79 = .ok (.iload_n 3, 1) := dk_29 (dk_at dksX5_found_3 9 rfl rfl)
theorem dX5_found_80 : decode cX5_found 80 = .ok (.iload_n 2, 1) := dk_28 (dk_at dksX5_found_3 10 rfl rfl)
theorem dX5_found_81 : decode cX5_found 81 = .ok (.invokevirtual 266, 3) := dk_182 1 10 (dk_at dksX5_found_3 11 rfl rfl)
theorem dX5_found_84 : decode cX5_found 84 = .ok (.istore_n 2, 1) := dk_61 (dk_at dksX5_found_3 14 rfl rfl)
theorem dX5_found_85 : decode cX5_found 85 = .ok (.iinc 3 1, 3) := dk_132 3 1 (dk_at dksX5_found_3 15 rfl rfl)
theorem dX5_found_88 : decode cX5_found 88 = .ok (.goto (-26), 3) := dk_167 255 230 (dk_at dksX5_found_3 18 rfl rfl)
theorem dX5_found_91 : decode cX5_found 91 = .ok (.aload_n 0, 1) := dk_42 (dk_at dksX5_found_3 21 rfl rfl)
theorem dX5_found_92 : decode cX5_found 92 = .ok (.getfield 65, 3) := dk_180 0 65 (dk_at dksX5_found_4 0 rfl rfl)
theorem dX5_found_95 : decode cX5_found 95 = .ok (.iload_n 1, 1) := dk_27 (dk_at dksX5_found_4 3 rfl rfl)
theorem dX5_found_96 : decode cX5_found 96 = .ok (.bipush 10, 2) := dk_16 10 (dk_at dksX5_found_4 4 rfl rfl)
theorem dX5_found_98 : decode cX5_found 98 = .ok (.isub, 1) := dk_100 (dk_at dksX5_found_4 6 rfl rfl)
theorem dX5_found_99 : decode cX5_found 99 = .ok (.aaload, 1) := dk_50 (dk_at dksX5_found_4 7 rfl rfl)
theorem dX5_found_100 : decode cX5_found 100 = .ok (.iload_n 2, 1) := dk_28 (dk_at dksX5_found_4 8 rfl rfl)
theorem dX5_found_101 : decode cX5_found 101 = .ok (.iaload, 1) := dk_46 (dk_at dksX5_found_4 9 rfl rfl)
theorem dX5_found_102 : decode cX5_found 102 = .ok (.ireturn, 1) := dk_172 (dk_at dksX5_found_4 10 rfl rfl)
abbrev cX5_isNone : ByteArray := prog_18_method_60_code
def yX5_isNone : MethodName := ⟨RX5, "isNone", "()Z"⟩
def dkwX5_isNone_0 : List UInt8 := [42, 180, 0, 65, 3, 50, 42, 180, 0, 56, 5, 46, 46, 2, 160, 0, 7, 4, 167, 0, 4, 3, 172]
abbrev dktX5_isNone_0 : List UInt8 := dkwX5_isNone_0 ++ []
theorem dksX5_isNone_0 : cX5_isNone.data.toList.drop 0 = dktX5_isNone_0 := by decide +kernel
theorem dX5_isNone_0 : decode cX5_isNone 0 = .ok (.aload_n 0, 1) := dk_42 (dk_at dksX5_isNone_0 0 rfl rfl)
theorem dX5_isNone_1 : decode cX5_isNone 1 = .ok (.getfield 65, 3) := dk_180 0 65 (dk_at dksX5_isNone_0 1 rfl rfl)
theorem dX5_isNone_4 : decode cX5_isNone 4 = .ok (.iconst 0, 1) := dk_3 (dk_at dksX5_isNone_0 4 rfl rfl)
theorem dX5_isNone_5 : decode cX5_isNone 5 = .ok (.aaload, 1) := dk_50 (dk_at dksX5_isNone_0 5 rfl rfl)
theorem dX5_isNone_6 : decode cX5_isNone 6 = .ok (.aload_n 0, 1) := dk_42 (dk_at dksX5_isNone_0 6 rfl rfl)
theorem dX5_isNone_7 : decode cX5_isNone 7 = .ok (.getfield 56, 3) := dk_180 0 56 (dk_at dksX5_isNone_0 7 rfl rfl)
theorem dX5_isNone_10 : decode cX5_isNone 10 = .ok (.iconst 2, 1) := dk_5 (dk_at dksX5_isNone_0 10 rfl rfl)
theorem dX5_isNone_11 : decode cX5_isNone 11 = .ok (.iaload, 1) := dk_46 (dk_at dksX5_isNone_0 11 rfl rfl)
theorem dX5_isNone_12 : decode cX5_isNone 12 = .ok (.iaload, 1) := dk_46 (dk_at dksX5_isNone_0 12 rfl rfl)
theorem dX5_isNone_13 : decode cX5_isNone 13 = .ok (.iconst (-1), 1) := dk_2 (dk_at dksX5_isNone_0 13 rfl rfl)
theorem dX5_isNone_14 : decode cX5_isNone 14 = .ok (.if_icmp .ne 7, 3) := dk_160 0 7 (dk_at dksX5_isNone_0 14 rfl rfl)
theorem dX5_isNone_17 : decode cX5_isNone 17 = .ok (.iconst 1, 1) := dk_4 (dk_at dksX5_isNone_0 17 rfl rfl)
theorem dX5_isNone_18 : decode cX5_isNone 18 = .ok (.goto 4, 3) := dk_167 0 4 (dk_at dksX5_isNone_0 18 rfl rfl)
theorem dX5_isNone_21 : decode cX5_isNone 21 = .ok (.iconst 0, 1) := dk_3 (dk_at dksX5_isNone_0 21 rfl rfl)
theorem dX5_isNone_22 : decode cX5_isNone 22 = .ok (.ireturn, 1) := dk_172 (dk_at dksX5_isNone_0 22 rfl rfl)
abbrev cX5_from : ByteArray := prog_18_method_64_code
def yX5_from : MethodName := ⟨RX5, "from", "(II)I"⟩
def dkwX5_from_2 : List UInt8 := [46, 2, 160, 0, 12, 42, 16, 251, 182, 0, 93, 167, 0, 11, 42, 180, 0, 68, 27, 50, 28, 46, 172]
abbrev dktX5_from_2 : List UInt8 := dkwX5_from_2 ++ []
def dkwX5_from_1 : List UInt8 := [154, 0, 10, 42, 16, 254, 182, 0, 93, 172, 42, 16, 100, 4, 182, 1, 34, 42, 180, 0, 65, 27, 50, 28]
abbrev dktX5_from_1 : List UInt8 := dkwX5_from_1 ++ dktX5_from_2
def dkwX5_from_0 : List UInt8 := [27, 133, 9, 42, 180, 0, 77, 133, 184, 0, 80, 153, 0, 15, 28, 133, 9, 20, 1, 1, 184, 0, 80]
abbrev dktX5_from_0 : List UInt8 := dkwX5_from_0 ++ dktX5_from_1
theorem dksX5_from_0 : cX5_from.data.toList.drop 0 = dktX5_from_0 := by decide +kernel
theorem dksX5_from_1 : cX5_from.data.toList.drop 23 = dktX5_from_1 := dk_seg dksX5_from_0 23 rfl rfl
theorem dksX5_from_2 : cX5_from.data.toList.drop 47 = dktX5_from_2 := dk_seg dksX5_from_1 24 rfl rfl
theorem dX5_from_0 : decode cX5_from 0 = .ok (.iload_n 1, 1) := dk_27 (dk_at dksX5_from_0 0 rfl rfl)
theorem dX5_from_1 : decode cX5_from 1 = .ok (.i2l, 1) := dk_133 (dk_at dksX5_from_0 1 rfl rfl)
theorem dX5_from_2 : decode cX5_from 2 = .ok (.lconst 0, 1) := dk_9 (dk_at dksX5_from_0 2 rfl rfl)
theorem dX5_from_3 : decode cX5_from 3 = .ok (.aload_n 0, 1) := dk_42 (dk_at dksX5_from_0 3 rfl rfl)
theorem dX5_from_4 : decode cX5_from 4 = .ok (.getfield 77, 3) := dk_180 0 77 (dk_at dksX5_from_0 4 rfl rfl)
theorem dX5_from_7 : decode cX5_from 7 = .ok (.i2l, 1) := dk_133 (dk_at dksX5_from_0 7 rfl rfl)
theorem dX5_from_8 : decode cX5_from 8 = .ok (.invokestatic 80, 3) := dk_184 0 80 (dk_at dksX5_from_0 8 rfl rfl)
theorem dX5_from_11 : decode cX5_from 11 = .ok (.ifCond .eq 15, 3) := dk_153 0 15 (dk_at dksX5_from_0 11 rfl rfl)
theorem dX5_from_14 : decode cX5_from 14 = .ok (.iload_n 2, 1) := dk_28 (dk_at dksX5_from_0 14 rfl rfl)
theorem dX5_from_15 : decode cX5_from 15 = .ok (.i2l, 1) := dk_133 (dk_at dksX5_from_0 15 rfl rfl)
theorem dX5_from_16 : decode cX5_from 16 = .ok (.lconst 0, 1) := dk_9 (dk_at dksX5_from_0 16 rfl rfl)
theorem dX5_from_17 : decode cX5_from 17 = .ok (.ldc2_w 257, 3) := dk_20 1 1 (dk_at dksX5_from_0 17 rfl rfl)
theorem dX5_from_20 : decode cX5_from 20 = .ok (.invokestatic 80, 3) := dk_184 0 80 (dk_at dksX5_from_0 20 rfl rfl)
theorem dX5_from_23 : decode cX5_from 23 = .ok (.ifCond .ne 10, 3) := dk_154 0 10 (dk_at dksX5_from_1 0 rfl rfl)
theorem dX5_from_26 : decode cX5_from 26 = .ok (.aload_n 0, 1) := dk_42 (dk_at dksX5_from_1 3 rfl rfl)
theorem dX5_from_27 : decode cX5_from 27 = .ok (.bipush (-2), 2) := dk_16 254 (dk_at dksX5_from_1 4 rfl rfl)
theorem dX5_from_29 : decode cX5_from 29 = .ok (.invokevirtual 93, 3) := dk_182 0 93 (dk_at dksX5_from_1 6 rfl rfl)
theorem dX5_from_32 : decode cX5_from 32 = .ok (.ireturn, 1) := dk_172 (dk_at dksX5_from_1 9 rfl rfl)
theorem dX5_from_33 : decode cX5_from 33 = .ok (.aload_n 0, 1) := dk_42 (dk_at dksX5_from_1 10 rfl rfl)
theorem dX5_from_34 : decode cX5_from 34 = .ok (.bipush 100, 2) := dk_16 100 (dk_at dksX5_from_1 11 rfl rfl)
theorem dX5_from_36 : decode cX5_from 36 = .ok (.iconst 1, 1) := dk_4 (dk_at dksX5_from_1 13 rfl rfl)
theorem dX5_from_37 : decode cX5_from 37 = .ok (.invokevirtual 290, 3) := dk_182 1 34 (dk_at dksX5_from_1 14 rfl rfl)
theorem dX5_from_40 : decode cX5_from 40 = .ok (.aload_n 0, 1) := dk_42 (dk_at dksX5_from_1 17 rfl rfl)
theorem dX5_from_41 : decode cX5_from 41 = .ok (.getfield 65, 3) := dk_180 0 65 (dk_at dksX5_from_1 18 rfl rfl)
theorem dX5_from_44 : decode cX5_from 44 = .ok (.iload_n 1, 1) := dk_27 (dk_at dksX5_from_1 21 rfl rfl)
theorem dX5_from_45 : decode cX5_from 45 = .ok (.aaload, 1) := dk_50 (dk_at dksX5_from_1 22 rfl rfl)
theorem dX5_from_46 : decode cX5_from 46 = .ok (.iload_n 2, 1) := dk_28 (dk_at dksX5_from_1 23 rfl rfl)
theorem dX5_from_47 : decode cX5_from 47 = .ok (.iaload, 1) := dk_46 (dk_at dksX5_from_2 0 rfl rfl)
theorem dX5_from_48 : decode cX5_from 48 = .ok (.iconst (-1), 1) := dk_2 (dk_at dksX5_from_2 1 rfl rfl)
theorem dX5_from_49 : decode cX5_from 49 = .ok (.if_icmp .ne 12, 3) := dk_160 0 12 (dk_at dksX5_from_2 2 rfl rfl)
theorem dX5_from_52 : decode cX5_from 52 = .ok (.aload_n 0, 1) := dk_42 (dk_at dksX5_from_2 5 rfl rfl)
theorem dX5_from_53 : decode cX5_from 53 = .ok (.bipush (-5), 2) := dk_16 251 (dk_at dksX5_from_2 6 rfl rfl)
theorem dX5_from_55 : decode cX5_from 55 = .ok (.invokevirtual 93, 3) := dk_182 0 93 (dk_at dksX5_from_2 8 rfl rfl)
theorem dX5_from_58 : decode cX5_from 58 = .ok (.goto 11, 3) := dk_167 0 11 (dk_at dksX5_from_2 11 rfl rfl)
theorem dX5_from_61 : decode cX5_from 61 = .ok (.aload_n 0, 1) := dk_42 (dk_at dksX5_from_2 14 rfl rfl)
theorem dX5_from_62 : decode cX5_from 62 = .ok (.getfield 68, 3) := dk_180 0 68 (dk_at dksX5_from_2 15 rfl rfl)
theorem dX5_from_65 : decode cX5_from 65 = .ok (.iload_n 1, 1) := dk_27 (dk_at dksX5_from_2 18 rfl rfl)
theorem dX5_from_66 : decode cX5_from 66 = .ok (.aaload, 1) := dk_50 (dk_at dksX5_from_2 19 rfl rfl)
theorem dX5_from_67 : decode cX5_from 67 = .ok (.iload_n 2, 1) := dk_28 (dk_at dksX5_from_2 20 rfl rfl)
theorem dX5_from_68 : decode cX5_from 68 = .ok (.iaload, 1) := dk_46 (dk_at dksX5_from_2 21 rfl rfl)
theorem dX5_from_69 : decode cX5_from 69 = .ok (.ireturn, 1) := dk_172 (dk_at dksX5_from_2 22 rfl rfl)
abbrev cX5_easiest : ByteArray := prog_18_method_65_code
def yX5_easiest : MethodName := ⟨RX5, "easiest", "(II)I"⟩
def dkwX5_easiest_1 : List UInt8 := [182, 0, 93, 172, 42, 27, 3, 182, 1, 34, 42, 28, 182, 1, 38, 172]
abbrev dktX5_easiest_1 : List UInt8 := dkwX5_easiest_1 ++ []
def dkwX5_easiest_0 : List UInt8 := [27, 133, 9, 20, 1, 41, 184, 0, 80, 153, 0, 11, 42, 28, 182, 1, 31, 154, 0, 10, 42, 16, 254]
abbrev dktX5_easiest_0 : List UInt8 := dkwX5_easiest_0 ++ dktX5_easiest_1
theorem dksX5_easiest_0 : cX5_easiest.data.toList.drop 0 = dktX5_easiest_0 := by decide +kernel
theorem dksX5_easiest_1 : cX5_easiest.data.toList.drop 23 = dktX5_easiest_1 := dk_seg dksX5_easiest_0 23 rfl rfl
theorem dX5_easiest_0 : decode cX5_easiest 0 = .ok (.iload_n 1, 1) := dk_27 (dk_at dksX5_easiest_0 0 rfl rfl)
theorem dX5_easiest_1 : decode cX5_easiest 1 = .ok (.i2l, 1) := dk_133 (dk_at dksX5_easiest_0 1 rfl rfl)
theorem dX5_easiest_2 : decode cX5_easiest 2 = .ok (.lconst 0, 1) := dk_9 (dk_at dksX5_easiest_0 2 rfl rfl)
theorem dX5_easiest_3 : decode cX5_easiest 3 = .ok (.ldc2_w 297, 3) := dk_20 1 41 (dk_at dksX5_easiest_0 3 rfl rfl)
theorem dX5_easiest_6 : decode cX5_easiest 6 = .ok (.invokestatic 80, 3) := dk_184 0 80 (dk_at dksX5_easiest_0 6 rfl rfl)
theorem dX5_easiest_9 : decode cX5_easiest 9 = .ok (.ifCond .eq 11, 3) := dk_153 0 11 (dk_at dksX5_easiest_0 9 rfl rfl)
theorem dX5_easiest_12 : decode cX5_easiest 12 = .ok (.aload_n 0, 1) := dk_42 (dk_at dksX5_easiest_0 12 rfl rfl)
theorem dX5_easiest_13 : decode cX5_easiest 13 = .ok (.iload_n 2, 1) := dk_28 (dk_at dksX5_easiest_0 13 rfl rfl)
theorem dX5_easiest_14 : decode cX5_easiest 14 = .ok (.invokevirtual 287, 3) := dk_182 1 31 (dk_at dksX5_easiest_0 14 rfl rfl)
theorem dX5_easiest_17 : decode cX5_easiest 17 = .ok (.ifCond .ne 10, 3) := dk_154 0 10 (dk_at dksX5_easiest_0 17 rfl rfl)
theorem dX5_easiest_20 : decode cX5_easiest 20 = .ok (.aload_n 0, 1) := dk_42 (dk_at dksX5_easiest_0 20 rfl rfl)
theorem dX5_easiest_21 : decode cX5_easiest 21 = .ok (.bipush (-2), 2) := dk_16 254 (dk_at dksX5_easiest_0 21 rfl rfl)
theorem dX5_easiest_23 : decode cX5_easiest 23 = .ok (.invokevirtual 93, 3) := dk_182 0 93 (dk_at dksX5_easiest_1 0 rfl rfl)
theorem dX5_easiest_26 : decode cX5_easiest 26 = .ok (.ireturn, 1) := dk_172 (dk_at dksX5_easiest_1 3 rfl rfl)
theorem dX5_easiest_27 : decode cX5_easiest 27 = .ok (.aload_n 0, 1) := dk_42 (dk_at dksX5_easiest_1 4 rfl rfl)
theorem dX5_easiest_28 : decode cX5_easiest 28 = .ok (.iload_n 1, 1) := dk_27 (dk_at dksX5_easiest_1 5 rfl rfl)
theorem dX5_easiest_29 : decode cX5_easiest 29 = .ok (.iconst 0, 1) := dk_3 (dk_at dksX5_easiest_1 6 rfl rfl)
theorem dX5_easiest_30 : decode cX5_easiest 30 = .ok (.invokevirtual 290, 3) := dk_182 1 34 (dk_at dksX5_easiest_1 7 rfl rfl)
theorem dX5_easiest_33 : decode cX5_easiest 33 = .ok (.aload_n 0, 1) := dk_42 (dk_at dksX5_easiest_1 10 rfl rfl)
theorem dX5_easiest_34 : decode cX5_easiest 34 = .ok (.iload_n 2, 1) := dk_28 (dk_at dksX5_easiest_1 11 rfl rfl)
theorem dX5_easiest_35 : decode cX5_easiest 35 = .ok (.invokevirtual 294, 3) := dk_182 1 38 (dk_at dksX5_easiest_1 12 rfl rfl)
theorem dX5_easiest_38 : decode cX5_easiest 38 = .ok (.ireturn, 1) := dk_172 (dk_at dksX5_easiest_1 15 rfl rfl)
abbrev cX5_needs : ByteArray := prog_18_method_67_code
def yX5_needs : MethodName := ⟨RX5, "needs", "(I)I"⟩
def dkwX5_needs_2 : List UInt8 := [182, 1, 28, 154, 0, 5, 29, 172, 132, 3, 1, 167, 255, 221, 2, 172]
abbrev dktX5_needs_2 : List UInt8 := dkwX5_needs_2 ++ []
def dkwX5_needs_1 : List UInt8 := [29, 17, 0, 200, 163, 0, 34, 44, 180, 0, 56, 5, 27, 100, 29, 79, 44, 16, 100, 4, 182, 1, 34, 44]
abbrev dktX5_needs_1 : List UInt8 := dkwX5_needs_1 ++ dktX5_needs_2
def dkwX5_needs_0 : List UInt8 := [27, 133, 9, 10, 184, 0, 80, 154, 0, 10, 42, 16, 254, 182, 0, 93, 172, 42, 182, 0, 238, 77, 3, 62]
abbrev dktX5_needs_0 : List UInt8 := dkwX5_needs_0 ++ dktX5_needs_1
theorem dksX5_needs_0 : cX5_needs.data.toList.drop 0 = dktX5_needs_0 := by decide +kernel
theorem dksX5_needs_1 : cX5_needs.data.toList.drop 24 = dktX5_needs_1 := dk_seg dksX5_needs_0 24 rfl rfl
theorem dksX5_needs_2 : cX5_needs.data.toList.drop 48 = dktX5_needs_2 := dk_seg dksX5_needs_1 24 rfl rfl
theorem dX5_needs_0 : decode cX5_needs 0 = .ok (.iload_n 1, 1) := dk_27 (dk_at dksX5_needs_0 0 rfl rfl)
theorem dX5_needs_1 : decode cX5_needs 1 = .ok (.i2l, 1) := dk_133 (dk_at dksX5_needs_0 1 rfl rfl)
theorem dX5_needs_2 : decode cX5_needs 2 = .ok (.lconst 0, 1) := dk_9 (dk_at dksX5_needs_0 2 rfl rfl)
theorem dX5_needs_3 : decode cX5_needs 3 = .ok (.lconst 1, 1) := dk_10 (dk_at dksX5_needs_0 3 rfl rfl)
theorem dX5_needs_4 : decode cX5_needs 4 = .ok (.invokestatic 80, 3) := dk_184 0 80 (dk_at dksX5_needs_0 4 rfl rfl)
theorem dX5_needs_7 : decode cX5_needs 7 = .ok (.ifCond .ne 10, 3) := dk_154 0 10 (dk_at dksX5_needs_0 7 rfl rfl)
theorem dX5_needs_10 : decode cX5_needs 10 = .ok (.aload_n 0, 1) := dk_42 (dk_at dksX5_needs_0 10 rfl rfl)
theorem dX5_needs_11 : decode cX5_needs 11 = .ok (.bipush (-2), 2) := dk_16 254 (dk_at dksX5_needs_0 11 rfl rfl)
theorem dX5_needs_13 : decode cX5_needs 13 = .ok (.invokevirtual 93, 3) := dk_182 0 93 (dk_at dksX5_needs_0 13 rfl rfl)
theorem dX5_needs_16 : decode cX5_needs 16 = .ok (.ireturn, 1) := dk_172 (dk_at dksX5_needs_0 16 rfl rfl)
theorem dX5_needs_17 : decode cX5_needs 17 = .ok (.aload_n 0, 1) := dk_42 (dk_at dksX5_needs_0 17 rfl rfl)
theorem dX5_needs_18 : decode cX5_needs 18 = .ok (.invokevirtual 238, 3) := dk_182 0 238 (dk_at dksX5_needs_0 18 rfl rfl)
theorem dX5_needs_21 : decode cX5_needs 21 = .ok (.astore_n 2, 1) := dk_77 (dk_at dksX5_needs_0 21 rfl rfl)
theorem dX5_needs_22 : decode cX5_needs 22 = .ok (.iconst 0, 1) := dk_3 (dk_at dksX5_needs_0 22 rfl rfl)
theorem dX5_needs_23 : decode cX5_needs 23 = .ok (.istore_n 3, 1) := dk_62 (dk_at dksX5_needs_0 23 rfl rfl)
theorem dX5_needs_24 : decode cX5_needs 24 = .ok (.iload_n 3, 1) := dk_29 (dk_at dksX5_needs_1 0 rfl rfl)
theorem dX5_needs_25 : decode cX5_needs 25 = .ok (.sipush 200, 3) := dk_17 0 200 (dk_at dksX5_needs_1 1 rfl rfl)
theorem dX5_needs_28 : decode cX5_needs 28 = .ok (.if_icmp .gt 34, 3) := dk_163 0 34 (dk_at dksX5_needs_1 4 rfl rfl)
theorem dX5_needs_31 : decode cX5_needs 31 = .ok (.aload_n 2, 1) := dk_44 (dk_at dksX5_needs_1 7 rfl rfl)
theorem dX5_needs_32 : decode cX5_needs 32 = .ok (.getfield 56, 3) := dk_180 0 56 (dk_at dksX5_needs_1 8 rfl rfl)
theorem dX5_needs_35 : decode cX5_needs 35 = .ok (.iconst 2, 1) := dk_5 (dk_at dksX5_needs_1 11 rfl rfl)
theorem dX5_needs_36 : decode cX5_needs 36 = .ok (.iload_n 1, 1) := dk_27 (dk_at dksX5_needs_1 12 rfl rfl)
theorem dX5_needs_37 : decode cX5_needs 37 = .ok (.isub, 1) := dk_100 (dk_at dksX5_needs_1 13 rfl rfl)
theorem dX5_needs_38 : decode cX5_needs 38 = .ok (.iload_n 3, 1) := dk_29 (dk_at dksX5_needs_1 14 rfl rfl)
theorem dX5_needs_39 : decode cX5_needs 39 = .ok (.iastore, 1) := dk_79 (dk_at dksX5_needs_1 15 rfl rfl)
theorem dX5_needs_40 : decode cX5_needs 40 = .ok (.aload_n 2, 1) := dk_44 (dk_at dksX5_needs_1 16 rfl rfl)
theorem dX5_needs_41 : decode cX5_needs 41 = .ok (.bipush 100, 2) := dk_16 100 (dk_at dksX5_needs_1 17 rfl rfl)
theorem dX5_needs_43 : decode cX5_needs 43 = .ok (.iconst 1, 1) := dk_4 (dk_at dksX5_needs_1 19 rfl rfl)
theorem dX5_needs_44 : decode cX5_needs 44 = .ok (.invokevirtual 290, 3) := dk_182 1 34 (dk_at dksX5_needs_1 20 rfl rfl)
theorem dX5_needs_47 : decode cX5_needs 47 = .ok (.aload_n 2, 1) := dk_44 (dk_at dksX5_needs_1 23 rfl rfl)
theorem dX5_needs_48 : decode cX5_needs 48 = .ok (.invokevirtual 284, 3) := dk_182 1 28 (dk_at dksX5_needs_2 0 rfl rfl)
theorem dX5_needs_51 : decode cX5_needs 51 = .ok (.ifCond .ne 5, 3) := dk_154 0 5 (dk_at dksX5_needs_2 3 rfl rfl)
theorem dX5_needs_54 : decode cX5_needs 54 = .ok (.iload_n 3, 1) := dk_29 (dk_at dksX5_needs_2 6 rfl rfl)
theorem dX5_needs_55 : decode cX5_needs 55 = .ok (.ireturn, 1) := dk_172 (dk_at dksX5_needs_2 7 rfl rfl)
theorem dX5_needs_56 : decode cX5_needs 56 = .ok (.iinc 3 1, 3) := dk_132 3 1 (dk_at dksX5_needs_2 8 rfl rfl)
theorem dX5_needs_59 : decode cX5_needs 59 = .ok (.goto (-35), 3) := dk_167 255 221 (dk_at dksX5_needs_2 11 rfl rfl)
theorem dX5_needs_62 : decode cX5_needs 62 = .ok (.iconst (-1), 1) := dk_2 (dk_at dksX5_needs_2 14 rfl rfl)
theorem dX5_needs_63 : decode cX5_needs 63 = .ok (.ireturn, 1) := dk_172 (dk_at dksX5_needs_2 15 rfl rfl)
abbrev cX5_helps : ByteArray := prog_18_method_70_code
def yX5_helps : MethodName := ⟨RX5, "helps", "(II)I"⟩
def dkwX5_helps_3 : List UInt8 := [16, 251, 182, 0, 93, 17, 3, 232, 100, 167, 0, 7, 29, 21, 5, 100, 172]
abbrev dktX5_helps_3 : List UInt8 := dkwX5_helps_3 ++ []
def dkwX5_helps_2 : List UInt8 := [182, 1, 51, 87, 25, 4, 182, 1, 48, 54, 5, 29, 2, 159, 0, 9, 21, 5, 2, 160, 0, 16, 42]
abbrev dktX5_helps_2 : List UInt8 := dkwX5_helps_2 ++ dktX5_helps_3
def dkwX5_helps_1 : List UInt8 := [182, 0, 93, 17, 3, 232, 100, 172, 42, 182, 1, 48, 62, 42, 182, 0, 238, 58, 4, 25, 4, 27, 28]
abbrev dktX5_helps_1 : List UInt8 := dkwX5_helps_1 ++ dktX5_helps_2
def dkwX5_helps_0 : List UInt8 := [27, 133, 9, 20, 0, 249, 184, 0, 80, 153, 0, 11, 42, 28, 182, 0, 136, 154, 0, 14, 42, 16, 254]
abbrev dktX5_helps_0 : List UInt8 := dkwX5_helps_0 ++ dktX5_helps_1
theorem dksX5_helps_0 : cX5_helps.data.toList.drop 0 = dktX5_helps_0 := by decide +kernel
theorem dksX5_helps_1 : cX5_helps.data.toList.drop 23 = dktX5_helps_1 := dk_seg dksX5_helps_0 23 rfl rfl
theorem dksX5_helps_2 : cX5_helps.data.toList.drop 46 = dktX5_helps_2 := dk_seg dksX5_helps_1 23 rfl rfl
theorem dksX5_helps_3 : cX5_helps.data.toList.drop 69 = dktX5_helps_3 := dk_seg dksX5_helps_2 23 rfl rfl
theorem dX5_helps_0 : decode cX5_helps 0 = .ok (.iload_n 1, 1) := dk_27 (dk_at dksX5_helps_0 0 rfl rfl)
theorem dX5_helps_1 : decode cX5_helps 1 = .ok (.i2l, 1) := dk_133 (dk_at dksX5_helps_0 1 rfl rfl)
theorem dX5_helps_2 : decode cX5_helps 2 = .ok (.lconst 0, 1) := dk_9 (dk_at dksX5_helps_0 2 rfl rfl)
theorem dX5_helps_3 : decode cX5_helps 3 = .ok (.ldc2_w 249, 3) := dk_20 0 249 (dk_at dksX5_helps_0 3 rfl rfl)
theorem dX5_helps_6 : decode cX5_helps 6 = .ok (.invokestatic 80, 3) := dk_184 0 80 (dk_at dksX5_helps_0 6 rfl rfl)
theorem dX5_helps_9 : decode cX5_helps 9 = .ok (.ifCond .eq 11, 3) := dk_153 0 11 (dk_at dksX5_helps_0 9 rfl rfl)
theorem dX5_helps_12 : decode cX5_helps 12 = .ok (.aload_n 0, 1) := dk_42 (dk_at dksX5_helps_0 12 rfl rfl)
theorem dX5_helps_13 : decode cX5_helps 13 = .ok (.iload_n 2, 1) := dk_28 (dk_at dksX5_helps_0 13 rfl rfl)
theorem dX5_helps_14 : decode cX5_helps 14 = .ok (.invokevirtual 136, 3) := dk_182 0 136 (dk_at dksX5_helps_0 14 rfl rfl)
theorem dX5_helps_17 : decode cX5_helps 17 = .ok (.ifCond .ne 14, 3) := dk_154 0 14 (dk_at dksX5_helps_0 17 rfl rfl)
theorem dX5_helps_20 : decode cX5_helps 20 = .ok (.aload_n 0, 1) := dk_42 (dk_at dksX5_helps_0 20 rfl rfl)
theorem dX5_helps_21 : decode cX5_helps 21 = .ok (.bipush (-2), 2) := dk_16 254 (dk_at dksX5_helps_0 21 rfl rfl)
theorem dX5_helps_23 : decode cX5_helps 23 = .ok (.invokevirtual 93, 3) := dk_182 0 93 (dk_at dksX5_helps_1 0 rfl rfl)
theorem dX5_helps_26 : decode cX5_helps 26 = .ok (.sipush 1000, 3) := dk_17 3 232 (dk_at dksX5_helps_1 3 rfl rfl)
theorem dX5_helps_29 : decode cX5_helps 29 = .ok (.isub, 1) := dk_100 (dk_at dksX5_helps_1 6 rfl rfl)
theorem dX5_helps_30 : decode cX5_helps 30 = .ok (.ireturn, 1) := dk_172 (dk_at dksX5_helps_1 7 rfl rfl)
theorem dX5_helps_31 : decode cX5_helps 31 = .ok (.aload_n 0, 1) := dk_42 (dk_at dksX5_helps_1 8 rfl rfl)
theorem dX5_helps_32 : decode cX5_helps 32 = .ok (.invokevirtual 304, 3) := dk_182 1 48 (dk_at dksX5_helps_1 9 rfl rfl)
theorem dX5_helps_35 : decode cX5_helps 35 = .ok (.istore_n 3, 1) := dk_62 (dk_at dksX5_helps_1 12 rfl rfl)
theorem dX5_helps_36 : decode cX5_helps 36 = .ok (.aload_n 0, 1) := dk_42 (dk_at dksX5_helps_1 13 rfl rfl)
theorem dX5_helps_37 : decode cX5_helps 37 = .ok (.invokevirtual 238, 3) := dk_182 0 238 (dk_at dksX5_helps_1 14 rfl rfl)
theorem dX5_helps_40 : decode cX5_helps 40 = .ok (.astore 4, 2) := dk_58 4 (dk_at dksX5_helps_1 17 rfl rfl)
theorem dX5_helps_42 : decode cX5_helps 42 = .ok (.aload 4, 2) := dk_25 4 (dk_at dksX5_helps_1 19 rfl rfl)
theorem dX5_helps_44 : decode cX5_helps 44 = .ok (.iload_n 1, 1) := dk_27 (dk_at dksX5_helps_1 21 rfl rfl)
theorem dX5_helps_45 : decode cX5_helps 45 = .ok (.iload_n 2, 1) := dk_28 (dk_at dksX5_helps_1 22 rfl rfl)
theorem dX5_helps_46 : decode cX5_helps 46 = .ok (.invokevirtual 307, 3) := dk_182 1 51 (dk_at dksX5_helps_2 0 rfl rfl)
theorem dX5_helps_49 : decode cX5_helps 49 = .ok (.pop, 1) := dk_87 (dk_at dksX5_helps_2 3 rfl rfl)
theorem dX5_helps_50 : decode cX5_helps 50 = .ok (.aload 4, 2) := dk_25 4 (dk_at dksX5_helps_2 4 rfl rfl)
theorem dX5_helps_52 : decode cX5_helps 52 = .ok (.invokevirtual 304, 3) := dk_182 1 48 (dk_at dksX5_helps_2 6 rfl rfl)
theorem dX5_helps_55 : decode cX5_helps 55 = .ok (.istore 5, 2) := dk_54 5 (dk_at dksX5_helps_2 9 rfl rfl)
theorem dX5_helps_57 : decode cX5_helps 57 = .ok (.iload_n 3, 1) := dk_29 (dk_at dksX5_helps_2 11 rfl rfl)
theorem dX5_helps_58 : decode cX5_helps 58 = .ok (.iconst (-1), 1) := dk_2 (dk_at dksX5_helps_2 12 rfl rfl)
theorem dX5_helps_59 : decode cX5_helps 59 = .ok (.if_icmp .eq 9, 3) := dk_159 0 9 (dk_at dksX5_helps_2 13 rfl rfl)
theorem dX5_helps_62 : decode cX5_helps 62 = .ok (.iload 5, 2) := dk_21 5 (dk_at dksX5_helps_2 16 rfl rfl)
theorem dX5_helps_64 : decode cX5_helps 64 = .ok (.iconst (-1), 1) := dk_2 (dk_at dksX5_helps_2 18 rfl rfl)
theorem dX5_helps_65 : decode cX5_helps 65 = .ok (.if_icmp .ne 16, 3) := dk_160 0 16 (dk_at dksX5_helps_2 19 rfl rfl)
theorem dX5_helps_68 : decode cX5_helps 68 = .ok (.aload_n 0, 1) := dk_42 (dk_at dksX5_helps_2 22 rfl rfl)
theorem dX5_helps_69 : decode cX5_helps 69 = .ok (.bipush (-5), 2) := dk_16 251 (dk_at dksX5_helps_3 0 rfl rfl)
theorem dX5_helps_71 : decode cX5_helps 71 = .ok (.invokevirtual 93, 3) := dk_182 0 93 (dk_at dksX5_helps_3 2 rfl rfl)
theorem dX5_helps_74 : decode cX5_helps 74 = .ok (.sipush 1000, 3) := dk_17 3 232 (dk_at dksX5_helps_3 5 rfl rfl)
theorem dX5_helps_77 : decode cX5_helps 77 = .ok (.isub, 1) := dk_100 (dk_at dksX5_helps_3 8 rfl rfl)
theorem dX5_helps_78 : decode cX5_helps 78 = .ok (.goto 7, 3) := dk_167 0 7 (dk_at dksX5_helps_3 9 rfl rfl)
theorem dX5_helps_81 : decode cX5_helps 81 = .ok (.iload_n 3, 1) := dk_29 (dk_at dksX5_helps_3 12 rfl rfl)
theorem dX5_helps_82 : decode cX5_helps 82 = .ok (.iload 5, 2) := dk_21 5 (dk_at dksX5_helps_3 13 rfl rfl)
theorem dX5_helps_84 : decode cX5_helps 84 = .ok (.isub, 1) := dk_100 (dk_at dksX5_helps_3 15 rfl rfl)
theorem dX5_helps_85 : decode cX5_helps 85 = .ok (.ireturn, 1) := dk_172 (dk_at dksX5_helps_3 16 rfl rfl)
abbrev cX5_safestNow : ByteArray := prog_18_method_69_code
def yX5_safestNow : MethodName := ⟨RX5, "safestNow", "()I"⟩
def dkwX5_safestNow_1 : List UInt8 := [42, 180, 0, 56, 5, 46, 46, 172]
abbrev dktX5_safestNow_1 : List UInt8 := dkwX5_safestNow_1 ++ []
def dkwX5_safestNow_0 : List UInt8 := [42, 16, 100, 4, 182, 1, 34, 42, 182, 1, 28, 153, 0, 7, 2, 167, 0, 16, 42, 180, 0, 68, 3, 50]
abbrev dktX5_safestNow_0 : List UInt8 := dkwX5_safestNow_0 ++ dktX5_safestNow_1
theorem dksX5_safestNow_0 : cX5_safestNow.data.toList.drop 0 = dktX5_safestNow_0 := by decide +kernel
theorem dksX5_safestNow_1 : cX5_safestNow.data.toList.drop 24 = dktX5_safestNow_1 := dk_seg dksX5_safestNow_0 24 rfl rfl
theorem dX5_safestNow_0 : decode cX5_safestNow 0 = .ok (.aload_n 0, 1) := dk_42 (dk_at dksX5_safestNow_0 0 rfl rfl)
theorem dX5_safestNow_1 : decode cX5_safestNow 1 = .ok (.bipush 100, 2) := dk_16 100 (dk_at dksX5_safestNow_0 1 rfl rfl)
theorem dX5_safestNow_3 : decode cX5_safestNow 3 = .ok (.iconst 1, 1) := dk_4 (dk_at dksX5_safestNow_0 3 rfl rfl)
theorem dX5_safestNow_4 : decode cX5_safestNow 4 = .ok (.invokevirtual 290, 3) := dk_182 1 34 (dk_at dksX5_safestNow_0 4 rfl rfl)
theorem dX5_safestNow_7 : decode cX5_safestNow 7 = .ok (.aload_n 0, 1) := dk_42 (dk_at dksX5_safestNow_0 7 rfl rfl)
theorem dX5_safestNow_8 : decode cX5_safestNow 8 = .ok (.invokevirtual 284, 3) := dk_182 1 28 (dk_at dksX5_safestNow_0 8 rfl rfl)
theorem dX5_safestNow_11 : decode cX5_safestNow 11 = .ok (.ifCond .eq 7, 3) := dk_153 0 7 (dk_at dksX5_safestNow_0 11 rfl rfl)
theorem dX5_safestNow_14 : decode cX5_safestNow 14 = .ok (.iconst (-1), 1) := dk_2 (dk_at dksX5_safestNow_0 14 rfl rfl)
theorem dX5_safestNow_15 : decode cX5_safestNow 15 = .ok (.goto 16, 3) := dk_167 0 16 (dk_at dksX5_safestNow_0 15 rfl rfl)
theorem dX5_safestNow_18 : decode cX5_safestNow 18 = .ok (.aload_n 0, 1) := dk_42 (dk_at dksX5_safestNow_0 18 rfl rfl)
theorem dX5_safestNow_19 : decode cX5_safestNow 19 = .ok (.getfield 68, 3) := dk_180 0 68 (dk_at dksX5_safestNow_0 19 rfl rfl)
theorem dX5_safestNow_22 : decode cX5_safestNow 22 = .ok (.iconst 0, 1) := dk_3 (dk_at dksX5_safestNow_0 22 rfl rfl)
theorem dX5_safestNow_23 : decode cX5_safestNow 23 = .ok (.aaload, 1) := dk_50 (dk_at dksX5_safestNow_0 23 rfl rfl)
theorem dX5_safestNow_24 : decode cX5_safestNow 24 = .ok (.aload_n 0, 1) := dk_42 (dk_at dksX5_safestNow_1 0 rfl rfl)
theorem dX5_safestNow_25 : decode cX5_safestNow 25 = .ok (.getfield 56, 3) := dk_180 0 56 (dk_at dksX5_safestNow_1 1 rfl rfl)
theorem dX5_safestNow_28 : decode cX5_safestNow 28 = .ok (.iconst 2, 1) := dk_5 (dk_at dksX5_safestNow_1 4 rfl rfl)
theorem dX5_safestNow_29 : decode cX5_safestNow 29 = .ok (.iaload, 1) := dk_46 (dk_at dksX5_safestNow_1 5 rfl rfl)
theorem dX5_safestNow_30 : decode cX5_safestNow 30 = .ok (.iaload, 1) := dk_46 (dk_at dksX5_safestNow_1 6 rfl rfl)
theorem dX5_safestNow_31 : decode cX5_safestNow 31 = .ok (.ireturn, 1) := dk_172 (dk_at dksX5_safestNow_1 7 rfl rfl)
abbrev cX5_doesWork : ByteArray := prog_18_method_68_code
def yX5_doesWork : MethodName := ⟨RX5, "doesWork", "(II)Z"⟩
def dkwX5_doesWork_5 : List UInt8 := [154, 0, 7, 4, 167, 0, 4, 3, 172]
abbrev dktX5_doesWork_5 : List UInt8 := dkwX5_doesWork_5 ++ []
def dkwX5_doesWork_4 : List UInt8 := [27, 5, 160, 0, 14, 42, 180, 0, 37, 28, 16, 7, 79, 167, 0, 10, 42, 180, 0, 47, 28, 3, 84, 29]
abbrev dktX5_doesWork_4 : List UInt8 := dkwX5_doesWork_4 ++ dktX5_doesWork_5
def dkwX5_doesWork_3 : List UInt8 := [180, 0, 40, 28, 4, 84, 167, 0, 41, 27, 4, 160, 0, 13, 42, 180, 0, 44, 28, 4, 84, 167, 0, 26]
abbrev dktX5_doesWork_3 : List UInt8 := dkwX5_doesWork_3 ++ dktX5_doesWork_4
def dkwX5_doesWork_2 : List UInt8 := [167, 0, 17, 42, 180, 0, 47, 28, 51, 154, 0, 7, 4, 167, 0, 4, 3, 62, 27, 154, 0, 13, 42]
abbrev dktX5_doesWork_2 : List UInt8 := dkwX5_doesWork_2 ++ dktX5_doesWork_3
def dkwX5_doesWork_1 : List UInt8 := [167, 0, 41, 27, 5, 160, 0, 22, 42, 180, 0, 37, 28, 46, 16, 7, 160, 0, 7, 4, 167, 0, 21, 3]
abbrev dktX5_doesWork_1 : List UInt8 := dkwX5_doesWork_1 ++ dktX5_doesWork_2
def dkwX5_doesWork_0 : List UInt8 := [27, 154, 0, 12, 42, 180, 0, 40, 28, 51, 167, 0, 55, 27, 4, 160, 0, 12, 42, 180, 0, 44, 28, 51]
abbrev dktX5_doesWork_0 : List UInt8 := dkwX5_doesWork_0 ++ dktX5_doesWork_1
theorem dksX5_doesWork_0 : cX5_doesWork.data.toList.drop 0 = dktX5_doesWork_0 := by decide +kernel
theorem dksX5_doesWork_1 : cX5_doesWork.data.toList.drop 24 = dktX5_doesWork_1 := dk_seg dksX5_doesWork_0 24 rfl rfl
theorem dksX5_doesWork_2 : cX5_doesWork.data.toList.drop 48 = dktX5_doesWork_2 := dk_seg dksX5_doesWork_1 24 rfl rfl
theorem dksX5_doesWork_3 : cX5_doesWork.data.toList.drop 71 = dktX5_doesWork_3 := dk_seg dksX5_doesWork_2 23 rfl rfl
theorem dksX5_doesWork_4 : cX5_doesWork.data.toList.drop 95 = dktX5_doesWork_4 := dk_seg dksX5_doesWork_3 24 rfl rfl
theorem dksX5_doesWork_5 : cX5_doesWork.data.toList.drop 119 = dktX5_doesWork_5 := dk_seg dksX5_doesWork_4 24 rfl rfl
theorem dX5_doesWork_0 : decode cX5_doesWork 0 = .ok (.iload_n 1, 1) := dk_27 (dk_at dksX5_doesWork_0 0 rfl rfl)
theorem dX5_doesWork_1 : decode cX5_doesWork 1 = .ok (.ifCond .ne 12, 3) := dk_154 0 12 (dk_at dksX5_doesWork_0 1 rfl rfl)
theorem dX5_doesWork_4 : decode cX5_doesWork 4 = .ok (.aload_n 0, 1) := dk_42 (dk_at dksX5_doesWork_0 4 rfl rfl)
theorem dX5_doesWork_5 : decode cX5_doesWork 5 = .ok (.getfield 40, 3) := dk_180 0 40 (dk_at dksX5_doesWork_0 5 rfl rfl)
theorem dX5_doesWork_8 : decode cX5_doesWork 8 = .ok (.iload_n 2, 1) := dk_28 (dk_at dksX5_doesWork_0 8 rfl rfl)
theorem dX5_doesWork_9 : decode cX5_doesWork 9 = .ok (.baload, 1) := dk_51 (dk_at dksX5_doesWork_0 9 rfl rfl)
theorem dX5_doesWork_10 : decode cX5_doesWork 10 = .ok (.goto 55, 3) := dk_167 0 55 (dk_at dksX5_doesWork_0 10 rfl rfl)
theorem dX5_doesWork_13 : decode cX5_doesWork 13 = .ok (.iload_n 1, 1) := dk_27 (dk_at dksX5_doesWork_0 13 rfl rfl)
theorem dX5_doesWork_14 : decode cX5_doesWork 14 = .ok (.iconst 1, 1) := dk_4 (dk_at dksX5_doesWork_0 14 rfl rfl)
theorem dX5_doesWork_15 : decode cX5_doesWork 15 = .ok (.if_icmp .ne 12, 3) := dk_160 0 12 (dk_at dksX5_doesWork_0 15 rfl rfl)
theorem dX5_doesWork_18 : decode cX5_doesWork 18 = .ok (.aload_n 0, 1) := dk_42 (dk_at dksX5_doesWork_0 18 rfl rfl)
theorem dX5_doesWork_19 : decode cX5_doesWork 19 = .ok (.getfield 44, 3) := dk_180 0 44 (dk_at dksX5_doesWork_0 19 rfl rfl)
theorem dX5_doesWork_22 : decode cX5_doesWork 22 = .ok (.iload_n 2, 1) := dk_28 (dk_at dksX5_doesWork_0 22 rfl rfl)
theorem dX5_doesWork_23 : decode cX5_doesWork 23 = .ok (.baload, 1) := dk_51 (dk_at dksX5_doesWork_0 23 rfl rfl)
theorem dX5_doesWork_24 : decode cX5_doesWork 24 = .ok (.goto 41, 3) := dk_167 0 41 (dk_at dksX5_doesWork_1 0 rfl rfl)
theorem dX5_doesWork_27 : decode cX5_doesWork 27 = .ok (.iload_n 1, 1) := dk_27 (dk_at dksX5_doesWork_1 3 rfl rfl)
theorem dX5_doesWork_28 : decode cX5_doesWork 28 = .ok (.iconst 2, 1) := dk_5 (dk_at dksX5_doesWork_1 4 rfl rfl)
theorem dX5_doesWork_29 : decode cX5_doesWork 29 = .ok (.if_icmp .ne 22, 3) := dk_160 0 22 (dk_at dksX5_doesWork_1 5 rfl rfl)
theorem dX5_doesWork_32 : decode cX5_doesWork 32 = .ok (.aload_n 0, 1) := dk_42 (dk_at dksX5_doesWork_1 8 rfl rfl)
theorem dX5_doesWork_33 : decode cX5_doesWork 33 = .ok (.getfield 37, 3) := dk_180 0 37 (dk_at dksX5_doesWork_1 9 rfl rfl)
theorem dX5_doesWork_36 : decode cX5_doesWork 36 = .ok (.iload_n 2, 1) := dk_28 (dk_at dksX5_doesWork_1 12 rfl rfl)
theorem dX5_doesWork_37 : decode cX5_doesWork 37 = .ok (.iaload, 1) := dk_46 (dk_at dksX5_doesWork_1 13 rfl rfl)
theorem dX5_doesWork_38 : decode cX5_doesWork 38 = .ok (.bipush 7, 2) := dk_16 7 (dk_at dksX5_doesWork_1 14 rfl rfl)
theorem dX5_doesWork_40 : decode cX5_doesWork 40 = .ok (.if_icmp .ne 7, 3) := dk_160 0 7 (dk_at dksX5_doesWork_1 16 rfl rfl)
theorem dX5_doesWork_43 : decode cX5_doesWork 43 = .ok (.iconst 1, 1) := dk_4 (dk_at dksX5_doesWork_1 19 rfl rfl)
theorem dX5_doesWork_44 : decode cX5_doesWork 44 = .ok (.goto 21, 3) := dk_167 0 21 (dk_at dksX5_doesWork_1 20 rfl rfl)
theorem dX5_doesWork_47 : decode cX5_doesWork 47 = .ok (.iconst 0, 1) := dk_3 (dk_at dksX5_doesWork_1 23 rfl rfl)
theorem dX5_doesWork_48 : decode cX5_doesWork 48 = .ok (.goto 17, 3) := dk_167 0 17 (dk_at dksX5_doesWork_2 0 rfl rfl)
theorem dX5_doesWork_51 : decode cX5_doesWork 51 = .ok (.aload_n 0, 1) := dk_42 (dk_at dksX5_doesWork_2 3 rfl rfl)
theorem dX5_doesWork_52 : decode cX5_doesWork 52 = .ok (.getfield 47, 3) := dk_180 0 47 (dk_at dksX5_doesWork_2 4 rfl rfl)
theorem dX5_doesWork_55 : decode cX5_doesWork 55 = .ok (.iload_n 2, 1) := dk_28 (dk_at dksX5_doesWork_2 7 rfl rfl)
theorem dX5_doesWork_56 : decode cX5_doesWork 56 = .ok (.baload, 1) := dk_51 (dk_at dksX5_doesWork_2 8 rfl rfl)
theorem dX5_doesWork_57 : decode cX5_doesWork 57 = .ok (.ifCond .ne 7, 3) := dk_154 0 7 (dk_at dksX5_doesWork_2 9 rfl rfl)
theorem dX5_doesWork_60 : decode cX5_doesWork 60 = .ok (.iconst 1, 1) := dk_4 (dk_at dksX5_doesWork_2 12 rfl rfl)
theorem dX5_doesWork_61 : decode cX5_doesWork 61 = .ok (.goto 4, 3) := dk_167 0 4 (dk_at dksX5_doesWork_2 13 rfl rfl)
theorem dX5_doesWork_64 : decode cX5_doesWork 64 = .ok (.iconst 0, 1) := dk_3 (dk_at dksX5_doesWork_2 16 rfl rfl)
theorem dX5_doesWork_65 : decode cX5_doesWork 65 = .ok (.istore_n 3, 1) := dk_62 (dk_at dksX5_doesWork_2 17 rfl rfl)
theorem dX5_doesWork_66 : decode cX5_doesWork 66 = .ok (.iload_n 1, 1) := dk_27 (dk_at dksX5_doesWork_2 18 rfl rfl)
theorem dX5_doesWork_67 : decode cX5_doesWork 67 = .ok (.ifCond .ne 13, 3) := dk_154 0 13 (dk_at dksX5_doesWork_2 19 rfl rfl)
theorem dX5_doesWork_70 : decode cX5_doesWork 70 = .ok (.aload_n 0, 1) := dk_42 (dk_at dksX5_doesWork_2 22 rfl rfl)
theorem dX5_doesWork_71 : decode cX5_doesWork 71 = .ok (.getfield 40, 3) := dk_180 0 40 (dk_at dksX5_doesWork_3 0 rfl rfl)
theorem dX5_doesWork_74 : decode cX5_doesWork 74 = .ok (.iload_n 2, 1) := dk_28 (dk_at dksX5_doesWork_3 3 rfl rfl)
theorem dX5_doesWork_75 : decode cX5_doesWork 75 = .ok (.iconst 1, 1) := dk_4 (dk_at dksX5_doesWork_3 4 rfl rfl)
theorem dX5_doesWork_76 : decode cX5_doesWork 76 = .ok (.bastore, 1) := dk_84 (dk_at dksX5_doesWork_3 5 rfl rfl)
theorem dX5_doesWork_77 : decode cX5_doesWork 77 = .ok (.goto 41, 3) := dk_167 0 41 (dk_at dksX5_doesWork_3 6 rfl rfl)
theorem dX5_doesWork_80 : decode cX5_doesWork 80 = .ok (.iload_n 1, 1) := dk_27 (dk_at dksX5_doesWork_3 9 rfl rfl)
theorem dX5_doesWork_81 : decode cX5_doesWork 81 = .ok (.iconst 1, 1) := dk_4 (dk_at dksX5_doesWork_3 10 rfl rfl)
theorem dX5_doesWork_82 : decode cX5_doesWork 82 = .ok (.if_icmp .ne 13, 3) := dk_160 0 13 (dk_at dksX5_doesWork_3 11 rfl rfl)
theorem dX5_doesWork_85 : decode cX5_doesWork 85 = .ok (.aload_n 0, 1) := dk_42 (dk_at dksX5_doesWork_3 14 rfl rfl)
theorem dX5_doesWork_86 : decode cX5_doesWork 86 = .ok (.getfield 44, 3) := dk_180 0 44 (dk_at dksX5_doesWork_3 15 rfl rfl)
theorem dX5_doesWork_89 : decode cX5_doesWork 89 = .ok (.iload_n 2, 1) := dk_28 (dk_at dksX5_doesWork_3 18 rfl rfl)
theorem dX5_doesWork_90 : decode cX5_doesWork 90 = .ok (.iconst 1, 1) := dk_4 (dk_at dksX5_doesWork_3 19 rfl rfl)
theorem dX5_doesWork_91 : decode cX5_doesWork 91 = .ok (.bastore, 1) := dk_84 (dk_at dksX5_doesWork_3 20 rfl rfl)
theorem dX5_doesWork_92 : decode cX5_doesWork 92 = .ok (.goto 26, 3) := dk_167 0 26 (dk_at dksX5_doesWork_3 21 rfl rfl)
theorem dX5_doesWork_95 : decode cX5_doesWork 95 = .ok (.iload_n 1, 1) := dk_27 (dk_at dksX5_doesWork_4 0 rfl rfl)
theorem dX5_doesWork_96 : decode cX5_doesWork 96 = .ok (.iconst 2, 1) := dk_5 (dk_at dksX5_doesWork_4 1 rfl rfl)
theorem dX5_doesWork_97 : decode cX5_doesWork 97 = .ok (.if_icmp .ne 14, 3) := dk_160 0 14 (dk_at dksX5_doesWork_4 2 rfl rfl)
theorem dX5_doesWork_100 : decode cX5_doesWork 100 = .ok (.aload_n 0, 1) := dk_42 (dk_at dksX5_doesWork_4 5 rfl rfl)
theorem dX5_doesWork_101 : decode cX5_doesWork 101 = .ok (.getfield 37, 3) := dk_180 0 37 (dk_at dksX5_doesWork_4 6 rfl rfl)
theorem dX5_doesWork_104 : decode cX5_doesWork 104 = .ok (.iload_n 2, 1) := dk_28 (dk_at dksX5_doesWork_4 9 rfl rfl)
theorem dX5_doesWork_105 : decode cX5_doesWork 105 = .ok (.bipush 7, 2) := dk_16 7 (dk_at dksX5_doesWork_4 10 rfl rfl)
theorem dX5_doesWork_107 : decode cX5_doesWork 107 = .ok (.iastore, 1) := dk_79 (dk_at dksX5_doesWork_4 12 rfl rfl)
theorem dX5_doesWork_108 : decode cX5_doesWork 108 = .ok (.goto 10, 3) := dk_167 0 10 (dk_at dksX5_doesWork_4 13 rfl rfl)
theorem dX5_doesWork_111 : decode cX5_doesWork 111 = .ok (.aload_n 0, 1) := dk_42 (dk_at dksX5_doesWork_4 16 rfl rfl)
theorem dX5_doesWork_112 : decode cX5_doesWork 112 = .ok (.getfield 47, 3) := dk_180 0 47 (dk_at dksX5_doesWork_4 17 rfl rfl)
theorem dX5_doesWork_115 : decode cX5_doesWork 115 = .ok (.iload_n 2, 1) := dk_28 (dk_at dksX5_doesWork_4 20 rfl rfl)
theorem dX5_doesWork_116 : decode cX5_doesWork 116 = .ok (.iconst 0, 1) := dk_3 (dk_at dksX5_doesWork_4 21 rfl rfl)
theorem dX5_doesWork_117 : decode cX5_doesWork 117 = .ok (.bastore, 1) := dk_84 (dk_at dksX5_doesWork_4 22 rfl rfl)
theorem dX5_doesWork_118 : decode cX5_doesWork 118 = .ok (.iload_n 3, 1) := dk_29 (dk_at dksX5_doesWork_4 23 rfl rfl)
theorem dX5_doesWork_119 : decode cX5_doesWork 119 = .ok (.ifCond .ne 7, 3) := dk_154 0 7 (dk_at dksX5_doesWork_5 0 rfl rfl)
theorem dX5_doesWork_122 : decode cX5_doesWork 122 = .ok (.iconst 1, 1) := dk_4 (dk_at dksX5_doesWork_5 3 rfl rfl)
theorem dX5_doesWork_123 : decode cX5_doesWork 123 = .ok (.goto 4, 3) := dk_167 0 4 (dk_at dksX5_doesWork_5 4 rfl rfl)
theorem dX5_doesWork_126 : decode cX5_doesWork 126 = .ok (.iconst 0, 1) := dk_3 (dk_at dksX5_doesWork_5 7 rfl rfl)
theorem dX5_doesWork_127 : decode cX5_doesWork 127 = .ok (.ireturn, 1) := dk_172 (dk_at dksX5_doesWork_5 8 rfl rfl)
abbrev cX5_where : ByteArray := prog_18_method_72_code
def yX5_where : MethodName := ⟨RX5, "where", "(I)I"⟩
def dkwX5_where_1 : List UInt8 := [182, 0, 93, 172]
abbrev dktX5_where_1 : List UInt8 := dkwX5_where_1 ++ []
def dkwX5_where_0 : List UInt8 := [27, 133, 9, 20, 0, 249, 184, 0, 80, 153, 0, 11, 42, 27, 182, 1, 54, 167, 0, 9, 42, 16, 254]
abbrev dktX5_where_0 : List UInt8 := dkwX5_where_0 ++ dktX5_where_1
theorem dksX5_where_0 : cX5_where.data.toList.drop 0 = dktX5_where_0 := by decide +kernel
theorem dksX5_where_1 : cX5_where.data.toList.drop 23 = dktX5_where_1 := dk_seg dksX5_where_0 23 rfl rfl
theorem dX5_where_0 : decode cX5_where 0 = .ok (.iload_n 1, 1) := dk_27 (dk_at dksX5_where_0 0 rfl rfl)
theorem dX5_where_1 : decode cX5_where 1 = .ok (.i2l, 1) := dk_133 (dk_at dksX5_where_0 1 rfl rfl)
theorem dX5_where_2 : decode cX5_where 2 = .ok (.lconst 0, 1) := dk_9 (dk_at dksX5_where_0 2 rfl rfl)
theorem dX5_where_3 : decode cX5_where 3 = .ok (.ldc2_w 249, 3) := dk_20 0 249 (dk_at dksX5_where_0 3 rfl rfl)
theorem dX5_where_6 : decode cX5_where 6 = .ok (.invokestatic 80, 3) := dk_184 0 80 (dk_at dksX5_where_0 6 rfl rfl)
theorem dX5_where_9 : decode cX5_where 9 = .ok (.ifCond .eq 11, 3) := dk_153 0 11 (dk_at dksX5_where_0 9 rfl rfl)
theorem dX5_where_12 : decode cX5_where 12 = .ok (.aload_n 0, 1) := dk_42 (dk_at dksX5_where_0 12 rfl rfl)
theorem dX5_where_13 : decode cX5_where 13 = .ok (.iload_n 1, 1) := dk_27 (dk_at dksX5_where_0 13 rfl rfl)
theorem dX5_where_14 : decode cX5_where 14 = .ok (.invokevirtual 310, 3) := dk_182 1 54 (dk_at dksX5_where_0 14 rfl rfl)
theorem dX5_where_17 : decode cX5_where 17 = .ok (.goto 9, 3) := dk_167 0 9 (dk_at dksX5_where_0 17 rfl rfl)
theorem dX5_where_20 : decode cX5_where 20 = .ok (.aload_n 0, 1) := dk_42 (dk_at dksX5_where_0 20 rfl rfl)
theorem dX5_where_21 : decode cX5_where 21 = .ok (.bipush (-2), 2) := dk_16 254 (dk_at dksX5_where_0 21 rfl rfl)
theorem dX5_where_23 : decode cX5_where 23 = .ok (.invokevirtual 93, 3) := dk_182 0 93 (dk_at dksX5_where_1 0 rfl rfl)
theorem dX5_where_26 : decode cX5_where 26 = .ok (.ireturn, 1) := dk_172 (dk_at dksX5_where_1 3 rfl rfl)
abbrev cX5_whereOf : ByteArray := prog_18_method_71_code
def yX5_whereOf : MethodName := ⟨RX5, "whereOf", "(I)I"⟩
def dkwX5_whereOf_3 : List UInt8 := [54, 4, 132, 5, 1, 167, 255, 193, 29, 172]
abbrev dktX5_whereOf_3 : List UInt8 := dkwX5_whereOf_3 ++ []
def dkwX5_whereOf_2 : List UInt8 := [54, 7, 21, 7, 2, 159, 0, 21, 28, 21, 7, 100, 21, 4, 164, 0, 12, 21, 5, 62, 28, 21, 7, 100]
abbrev dktX5_whereOf_2 : List UInt8 := dkwX5_whereOf_2 ++ dktX5_whereOf_3
def dkwX5_whereOf_1 : List UInt8 := [159, 0, 55, 42, 182, 0, 238, 58, 6, 25, 6, 27, 21, 5, 182, 1, 51, 87, 25, 6, 182, 1, 48]
abbrev dktX5_whereOf_1 : List UInt8 := dkwX5_whereOf_1 ++ dktX5_whereOf_2
def dkwX5_whereOf_0 : List UInt8 := [42, 182, 1, 48, 61, 2, 62, 3, 54, 4, 3, 54, 5, 21, 5, 42, 180, 0, 77, 162, 0, 60, 28, 2]
abbrev dktX5_whereOf_0 : List UInt8 := dkwX5_whereOf_0 ++ dktX5_whereOf_1
theorem dksX5_whereOf_0 : cX5_whereOf.data.toList.drop 0 = dktX5_whereOf_0 := by decide +kernel
theorem dksX5_whereOf_1 : cX5_whereOf.data.toList.drop 24 = dktX5_whereOf_1 := dk_seg dksX5_whereOf_0 24 rfl rfl
theorem dksX5_whereOf_2 : cX5_whereOf.data.toList.drop 47 = dktX5_whereOf_2 := dk_seg dksX5_whereOf_1 23 rfl rfl
theorem dksX5_whereOf_3 : cX5_whereOf.data.toList.drop 71 = dktX5_whereOf_3 := dk_seg dksX5_whereOf_2 24 rfl rfl
theorem dX5_whereOf_0 : decode cX5_whereOf 0 = .ok (.aload_n 0, 1) := dk_42 (dk_at dksX5_whereOf_0 0 rfl rfl)
theorem dX5_whereOf_1 : decode cX5_whereOf 1 = .ok (.invokevirtual 304, 3) := dk_182 1 48 (dk_at dksX5_whereOf_0 1 rfl rfl)
theorem dX5_whereOf_4 : decode cX5_whereOf 4 = .ok (.istore_n 2, 1) := dk_61 (dk_at dksX5_whereOf_0 4 rfl rfl)
theorem dX5_whereOf_5 : decode cX5_whereOf 5 = .ok (.iconst (-1), 1) := dk_2 (dk_at dksX5_whereOf_0 5 rfl rfl)
theorem dX5_whereOf_6 : decode cX5_whereOf 6 = .ok (.istore_n 3, 1) := dk_62 (dk_at dksX5_whereOf_0 6 rfl rfl)
theorem dX5_whereOf_7 : decode cX5_whereOf 7 = .ok (.iconst 0, 1) := dk_3 (dk_at dksX5_whereOf_0 7 rfl rfl)
theorem dX5_whereOf_8 : decode cX5_whereOf 8 = .ok (.istore 4, 2) := dk_54 4 (dk_at dksX5_whereOf_0 8 rfl rfl)
theorem dX5_whereOf_10 : decode cX5_whereOf 10 = .ok (.iconst 0, 1) := dk_3 (dk_at dksX5_whereOf_0 10 rfl rfl)
theorem dX5_whereOf_11 : decode cX5_whereOf 11 = .ok (.istore 5, 2) := dk_54 5 (dk_at dksX5_whereOf_0 11 rfl rfl)
theorem dX5_whereOf_13 : decode cX5_whereOf 13 = .ok (.iload 5, 2) := dk_21 5 (dk_at dksX5_whereOf_0 13 rfl rfl)
theorem dX5_whereOf_15 : decode cX5_whereOf 15 = .ok (.aload_n 0, 1) := dk_42 (dk_at dksX5_whereOf_0 15 rfl rfl)
theorem dX5_whereOf_16 : decode cX5_whereOf 16 = .ok (.getfield 77, 3) := dk_180 0 77 (dk_at dksX5_whereOf_0 16 rfl rfl)
theorem dX5_whereOf_19 : decode cX5_whereOf 19 = .ok (.if_icmp .ge 60, 3) := dk_162 0 60 (dk_at dksX5_whereOf_0 19 rfl rfl)
theorem dX5_whereOf_22 : decode cX5_whereOf 22 = .ok (.iload_n 2, 1) := dk_28 (dk_at dksX5_whereOf_0 22 rfl rfl)
theorem dX5_whereOf_23 : decode cX5_whereOf 23 = .ok (.iconst (-1), 1) := dk_2 (dk_at dksX5_whereOf_0 23 rfl rfl)
theorem dX5_whereOf_24 : decode cX5_whereOf 24 = .ok (.if_icmp .eq 55, 3) := dk_159 0 55 (dk_at dksX5_whereOf_1 0 rfl rfl)
theorem dX5_whereOf_27 : decode cX5_whereOf 27 = .ok (.aload_n 0, 1) := dk_42 (dk_at dksX5_whereOf_1 3 rfl rfl)
theorem dX5_whereOf_28 : decode cX5_whereOf 28 = .ok (.invokevirtual 238, 3) := dk_182 0 238 (dk_at dksX5_whereOf_1 4 rfl rfl)
theorem dX5_whereOf_31 : decode cX5_whereOf 31 = .ok (.astore 6, 2) := dk_58 6 (dk_at dksX5_whereOf_1 7 rfl rfl)
theorem dX5_whereOf_33 : decode cX5_whereOf 33 = .ok (.aload 6, 2) := dk_25 6 (dk_at dksX5_whereOf_1 9 rfl rfl)
theorem dX5_whereOf_35 : decode cX5_whereOf 35 = .ok (.iload_n 1, 1) := dk_27 (dk_at dksX5_whereOf_1 11 rfl rfl)
theorem dX5_whereOf_36 : decode cX5_whereOf 36 = .ok (.iload 5, 2) := dk_21 5 (dk_at dksX5_whereOf_1 12 rfl rfl)
theorem dX5_whereOf_38 : decode cX5_whereOf 38 = .ok (.invokevirtual 307, 3) := dk_182 1 51 (dk_at dksX5_whereOf_1 14 rfl rfl)
theorem dX5_whereOf_41 : decode cX5_whereOf 41 = .ok (.pop, 1) := dk_87 (dk_at dksX5_whereOf_1 17 rfl rfl)
theorem dX5_whereOf_42 : decode cX5_whereOf 42 = .ok (.aload 6, 2) := dk_25 6 (dk_at dksX5_whereOf_1 18 rfl rfl)
theorem dX5_whereOf_44 : decode cX5_whereOf 44 = .ok (.invokevirtual 304, 3) := dk_182 1 48 (dk_at dksX5_whereOf_1 20 rfl rfl)
theorem dX5_whereOf_47 : decode cX5_whereOf 47 = .ok (.istore 7, 2) := dk_54 7 (dk_at dksX5_whereOf_2 0 rfl rfl)
theorem dX5_whereOf_49 : decode cX5_whereOf 49 = .ok (.iload 7, 2) := dk_21 7 (dk_at dksX5_whereOf_2 2 rfl rfl)
theorem dX5_whereOf_51 : decode cX5_whereOf 51 = .ok (.iconst (-1), 1) := dk_2 (dk_at dksX5_whereOf_2 4 rfl rfl)
theorem dX5_whereOf_52 : decode cX5_whereOf 52 = .ok (.if_icmp .eq 21, 3) := dk_159 0 21 (dk_at dksX5_whereOf_2 5 rfl rfl)
theorem dX5_whereOf_55 : decode cX5_whereOf 55 = .ok (.iload_n 2, 1) := dk_28 (dk_at dksX5_whereOf_2 8 rfl rfl)
theorem dX5_whereOf_56 : decode cX5_whereOf 56 = .ok (.iload 7, 2) := dk_21 7 (dk_at dksX5_whereOf_2 9 rfl rfl)
theorem dX5_whereOf_58 : decode cX5_whereOf 58 = .ok (.isub, 1) := dk_100 (dk_at dksX5_whereOf_2 11 rfl rfl)
theorem dX5_whereOf_59 : decode cX5_whereOf 59 = .ok (.iload 4, 2) := dk_21 4 (dk_at dksX5_whereOf_2 12 rfl rfl)
theorem dX5_whereOf_61 : decode cX5_whereOf 61 = .ok (.if_icmp .le 12, 3) := dk_164 0 12 (dk_at dksX5_whereOf_2 14 rfl rfl)
theorem dX5_whereOf_64 : decode cX5_whereOf 64 = .ok (.iload 5, 2) := dk_21 5 (dk_at dksX5_whereOf_2 17 rfl rfl)
theorem dX5_whereOf_66 : decode cX5_whereOf 66 = .ok (.istore_n 3, 1) := dk_62 (dk_at dksX5_whereOf_2 19 rfl rfl)
theorem dX5_whereOf_67 : decode cX5_whereOf 67 = .ok (.iload_n 2, 1) := dk_28 (dk_at dksX5_whereOf_2 20 rfl rfl)
theorem dX5_whereOf_68 : decode cX5_whereOf 68 = .ok (.iload 7, 2) := dk_21 7 (dk_at dksX5_whereOf_2 21 rfl rfl)
theorem dX5_whereOf_70 : decode cX5_whereOf 70 = .ok (.isub, 1) := dk_100 (dk_at dksX5_whereOf_2 23 rfl rfl)
theorem dX5_whereOf_71 : decode cX5_whereOf 71 = .ok (.istore 4, 2) := dk_54 4 (dk_at dksX5_whereOf_3 0 rfl rfl)
theorem dX5_whereOf_73 : decode cX5_whereOf 73 = .ok (.iinc 5 1, 3) := dk_132 5 1 (dk_at dksX5_whereOf_3 2 rfl rfl)
theorem dX5_whereOf_76 : decode cX5_whereOf 76 = .ok (.goto (-63), 3) := dk_167 255 193 (dk_at dksX5_whereOf_3 5 rfl rfl)
theorem dX5_whereOf_79 : decode cX5_whereOf 79 = .ok (.iload_n 3, 1) := dk_29 (dk_at dksX5_whereOf_3 8 rfl rfl)
theorem dX5_whereOf_80 : decode cX5_whereOf 80 = .ok (.ireturn, 1) := dk_172 (dk_at dksX5_whereOf_3 9 rfl rfl)
abbrev cX5_works : ByteArray := prog_18_method_73_code
def yX5_works : MethodName := ⟨RX5, "works", "(II)I"⟩
def dkwX5_works_1 : List UInt8 := [42, 27, 28, 182, 1, 59, 167, 0, 9, 42, 16, 254, 182, 0, 93, 172]
abbrev dktX5_works_1 : List UInt8 := dkwX5_works_1 ++ []
def dkwX5_works_0 : List UInt8 := [27, 133, 9, 20, 1, 57, 184, 0, 80, 153, 0, 24, 28, 133, 9, 20, 0, 140, 184, 0, 80, 153, 0, 12]
abbrev dktX5_works_0 : List UInt8 := dkwX5_works_0 ++ dktX5_works_1
theorem dksX5_works_0 : cX5_works.data.toList.drop 0 = dktX5_works_0 := by decide +kernel
theorem dksX5_works_1 : cX5_works.data.toList.drop 24 = dktX5_works_1 := dk_seg dksX5_works_0 24 rfl rfl
theorem dX5_works_0 : decode cX5_works 0 = .ok (.iload_n 1, 1) := dk_27 (dk_at dksX5_works_0 0 rfl rfl)
theorem dX5_works_1 : decode cX5_works 1 = .ok (.i2l, 1) := dk_133 (dk_at dksX5_works_0 1 rfl rfl)
theorem dX5_works_2 : decode cX5_works 2 = .ok (.lconst 0, 1) := dk_9 (dk_at dksX5_works_0 2 rfl rfl)
theorem dX5_works_3 : decode cX5_works 3 = .ok (.ldc2_w 313, 3) := dk_20 1 57 (dk_at dksX5_works_0 3 rfl rfl)
theorem dX5_works_6 : decode cX5_works 6 = .ok (.invokestatic 80, 3) := dk_184 0 80 (dk_at dksX5_works_0 6 rfl rfl)
theorem dX5_works_9 : decode cX5_works 9 = .ok (.ifCond .eq 24, 3) := dk_153 0 24 (dk_at dksX5_works_0 9 rfl rfl)
theorem dX5_works_12 : decode cX5_works 12 = .ok (.iload_n 2, 1) := dk_28 (dk_at dksX5_works_0 12 rfl rfl)
theorem dX5_works_13 : decode cX5_works 13 = .ok (.i2l, 1) := dk_133 (dk_at dksX5_works_0 13 rfl rfl)
theorem dX5_works_14 : decode cX5_works 14 = .ok (.lconst 0, 1) := dk_9 (dk_at dksX5_works_0 14 rfl rfl)
theorem dX5_works_15 : decode cX5_works 15 = .ok (.ldc2_w 140, 3) := dk_20 0 140 (dk_at dksX5_works_0 15 rfl rfl)
theorem dX5_works_18 : decode cX5_works 18 = .ok (.invokestatic 80, 3) := dk_184 0 80 (dk_at dksX5_works_0 18 rfl rfl)
theorem dX5_works_21 : decode cX5_works 21 = .ok (.ifCond .eq 12, 3) := dk_153 0 12 (dk_at dksX5_works_0 21 rfl rfl)
theorem dX5_works_24 : decode cX5_works 24 = .ok (.aload_n 0, 1) := dk_42 (dk_at dksX5_works_1 0 rfl rfl)
theorem dX5_works_25 : decode cX5_works 25 = .ok (.iload_n 1, 1) := dk_27 (dk_at dksX5_works_1 1 rfl rfl)
theorem dX5_works_26 : decode cX5_works 26 = .ok (.iload_n 2, 1) := dk_28 (dk_at dksX5_works_1 2 rfl rfl)
theorem dX5_works_27 : decode cX5_works 27 = .ok (.invokevirtual 315, 3) := dk_182 1 59 (dk_at dksX5_works_1 3 rfl rfl)
theorem dX5_works_30 : decode cX5_works 30 = .ok (.goto 9, 3) := dk_167 0 9 (dk_at dksX5_works_1 6 rfl rfl)
theorem dX5_works_33 : decode cX5_works 33 = .ok (.aload_n 0, 1) := dk_42 (dk_at dksX5_works_1 9 rfl rfl)
theorem dX5_works_34 : decode cX5_works 34 = .ok (.bipush (-2), 2) := dk_16 254 (dk_at dksX5_works_1 10 rfl rfl)
theorem dX5_works_36 : decode cX5_works 36 = .ok (.invokevirtual 93, 3) := dk_182 0 93 (dk_at dksX5_works_1 12 rfl rfl)
theorem dX5_works_39 : decode cX5_works 39 = .ok (.ireturn, 1) := dk_172 (dk_at dksX5_works_1 15 rfl rfl)
abbrev cX5_worksOf : ByteArray := prog_18_method_74_code
def yX5_worksOf : MethodName := ⟨RX5, "worksOf", "(II)I"⟩
def dkwX5_worksOf_15 : List UInt8 := [21, 4, 167, 0, 5, 21, 5, 172]
abbrev dktX5_worksOf_15 : List UInt8 := dkwX5_worksOf_15 ++ []
def dkwX5_worksOf_14 : List UInt8 := [21, 11, 54, 5, 132, 7, 1, 167, 255, 19, 28, 154, 0, 7, 29, 167, 0, 15, 28, 4, 160, 0, 8]
abbrev dktX5_worksOf_14 : List UInt8 := dkwX5_worksOf_14 ++ dktX5_worksOf_15
def dkwX5_worksOf_13 : List UInt8 := [159, 0, 17, 21, 11, 21, 10, 21, 5, 21, 4, 184, 1, 24, 153, 0, 14, 21, 7, 62, 21, 10, 54, 4]
abbrev dktX5_worksOf_13 : List UInt8 := dkwX5_worksOf_13 ++ dktX5_worksOf_14
def dkwX5_worksOf_12 : List UInt8 := [163, 0, 11, 25, 8, 182, 1, 48, 167, 0, 4, 2, 54, 11, 21, 11, 2, 159, 0, 33, 29, 2]
abbrev dktX5_worksOf_12 : List UInt8 := dkwX5_worksOf_12 ++ dktX5_worksOf_13
def dkwX5_worksOf_11 : List UInt8 := [25, 8, 180, 0, 47, 21, 11, 3, 84, 132, 11, 1, 167, 255, 226, 21, 9, 153, 0, 17, 21, 10, 27]
abbrev dktX5_worksOf_11 : List UInt8 := dkwX5_worksOf_11 ++ dktX5_worksOf_12
def dkwX5_worksOf_10 : List UInt8 := [167, 255, 175, 3, 54, 11, 21, 11, 42, 180, 0, 77, 162, 0, 27, 21, 7, 6, 122, 4, 126, 153, 0, 18]
abbrev dktX5_worksOf_10 : List UInt8 := dkwX5_worksOf_10 ++ dktX5_worksOf_11
def dkwX5_worksOf_9 : List UInt8 := [2, 159, 0, 18, 25, 8, 21, 11, 42, 180, 0, 74, 21, 11, 46, 182, 1, 51, 87, 132, 11, 1]
abbrev dktX5_worksOf_9 : List UInt8 := dkwX5_worksOf_9 ++ dktX5_worksOf_10
def dkwX5_worksOf_8 : List UInt8 := [54, 9, 21, 10, 42, 180, 0, 56, 16, 6, 21, 11, 96, 46, 96, 54, 10, 42, 180, 0, 74, 21, 11, 46]
abbrev dktX5_worksOf_8 : List UInt8 := dkwX5_worksOf_8 ++ dktX5_worksOf_9
def dkwX5_worksOf_7 : List UInt8 := [4, 126, 153, 0, 65, 21, 9, 42, 180, 0, 74, 21, 11, 46, 2, 159, 0, 7, 4, 167, 0, 4, 3, 126]
abbrev dktX5_worksOf_7 : List UInt8 := dkwX5_worksOf_7 ++ dktX5_worksOf_8
def dkwX5_worksOf_6 : List UInt8 := [42, 180, 0, 56, 16, 9, 46, 104, 54, 10, 3, 54, 11, 21, 11, 6, 162, 0, 81, 21, 7, 21, 11, 122]
abbrev dktX5_worksOf_6 : List UInt8 := dkwX5_worksOf_6 ++ dktX5_worksOf_7
def dkwX5_worksOf_5 : List UInt8 := [153, 0, 8, 21, 6, 158, 0, 7, 4, 167, 0, 4, 3, 54, 9, 21, 7, 6, 122, 4, 126, 21, 6, 104]
abbrev dktX5_worksOf_5 : List UInt8 := dkwX5_worksOf_5 ++ dktX5_worksOf_6
def dkwX5_worksOf_4 : List UInt8 := [3, 54, 7, 21, 7, 16, 16, 162, 0, 236, 42, 182, 0, 238, 58, 8, 21, 7, 6, 122, 4, 126]
abbrev dktX5_worksOf_4 : List UInt8 := dkwX5_worksOf_4 ++ dktX5_worksOf_5
def dkwX5_worksOf_3 : List UInt8 := [42, 180, 0, 47, 21, 7, 51, 153, 0, 7, 4, 167, 0, 4, 3, 96, 54, 6, 132, 7, 1, 167, 255, 224]
abbrev dktX5_worksOf_3 : List UInt8 := dkwX5_worksOf_3 ++ dktX5_worksOf_4
def dkwX5_worksOf_2 : List UInt8 := [182, 1, 54, 79, 132, 7, 1, 167, 255, 234, 3, 54, 7, 21, 7, 42, 180, 0, 77, 162, 0, 29, 21, 6]
abbrev dktX5_worksOf_2 : List UInt8 := dkwX5_worksOf_2 ++ dktX5_worksOf_3
def dkwX5_worksOf_1 : List UInt8 := [182, 0, 93, 172, 3, 54, 7, 21, 7, 6, 162, 0, 22, 42, 180, 0, 74, 21, 7, 42, 21, 7]
abbrev dktX5_worksOf_1 : List UInt8 := dkwX5_worksOf_1 ++ dktX5_worksOf_2
def dkwX5_worksOf_0 : List UInt8 := [2, 62, 3, 54, 4, 3, 54, 5, 3, 54, 6, 42, 182, 1, 48, 2, 160, 0, 10, 42, 16, 251]
abbrev dktX5_worksOf_0 : List UInt8 := dkwX5_worksOf_0 ++ dktX5_worksOf_1
theorem dksX5_worksOf_0 : cX5_worksOf.data.toList.drop 0 = dktX5_worksOf_0 := by decide +kernel
theorem dksX5_worksOf_1 : cX5_worksOf.data.toList.drop 22 = dktX5_worksOf_1 := dk_seg dksX5_worksOf_0 22 rfl rfl
theorem dksX5_worksOf_2 : cX5_worksOf.data.toList.drop 44 = dktX5_worksOf_2 := dk_seg dksX5_worksOf_1 22 rfl rfl
theorem dksX5_worksOf_3 : cX5_worksOf.data.toList.drop 68 = dktX5_worksOf_3 := dk_seg dksX5_worksOf_2 24 rfl rfl
theorem dksX5_worksOf_4 : cX5_worksOf.data.toList.drop 92 = dktX5_worksOf_4 := dk_seg dksX5_worksOf_3 24 rfl rfl
theorem dksX5_worksOf_5 : cX5_worksOf.data.toList.drop 114 = dktX5_worksOf_5 := dk_seg dksX5_worksOf_4 22 rfl rfl
theorem dksX5_worksOf_6 : cX5_worksOf.data.toList.drop 138 = dktX5_worksOf_6 := dk_seg dksX5_worksOf_5 24 rfl rfl
theorem dksX5_worksOf_7 : cX5_worksOf.data.toList.drop 162 = dktX5_worksOf_7 := dk_seg dksX5_worksOf_6 24 rfl rfl
theorem dksX5_worksOf_8 : cX5_worksOf.data.toList.drop 186 = dktX5_worksOf_8 := dk_seg dksX5_worksOf_7 24 rfl rfl
theorem dksX5_worksOf_9 : cX5_worksOf.data.toList.drop 210 = dktX5_worksOf_9 := dk_seg dksX5_worksOf_8 24 rfl rfl
theorem dksX5_worksOf_10 : cX5_worksOf.data.toList.drop 232 = dktX5_worksOf_10 := dk_seg dksX5_worksOf_9 22 rfl rfl
theorem dksX5_worksOf_11 : cX5_worksOf.data.toList.drop 256 = dktX5_worksOf_11 := dk_seg dksX5_worksOf_10 24 rfl rfl
theorem dksX5_worksOf_12 : cX5_worksOf.data.toList.drop 279 = dktX5_worksOf_12 := dk_seg dksX5_worksOf_11 23 rfl rfl
theorem dksX5_worksOf_13 : cX5_worksOf.data.toList.drop 301 = dktX5_worksOf_13 := dk_seg dksX5_worksOf_12 22 rfl rfl
theorem dksX5_worksOf_14 : cX5_worksOf.data.toList.drop 325 = dktX5_worksOf_14 := dk_seg dksX5_worksOf_13 24 rfl rfl
theorem dksX5_worksOf_15 : cX5_worksOf.data.toList.drop 348 = dktX5_worksOf_15 := dk_seg dksX5_worksOf_14 23 rfl rfl
theorem dX5_worksOf_0 : decode cX5_worksOf 0 = .ok (.iconst (-1), 1) := dk_2 (dk_at dksX5_worksOf_0 0 rfl rfl)
theorem dX5_worksOf_1 : decode cX5_worksOf 1 = .ok (.istore_n 3, 1) := dk_62 (dk_at dksX5_worksOf_0 1 rfl rfl)
theorem dX5_worksOf_2 : decode cX5_worksOf 2 = .ok (.iconst 0, 1) := dk_3 (dk_at dksX5_worksOf_0 2 rfl rfl)
theorem dX5_worksOf_3 : decode cX5_worksOf 3 = .ok (.istore 4, 2) := dk_54 4 (dk_at dksX5_worksOf_0 3 rfl rfl)
theorem dX5_worksOf_5 : decode cX5_worksOf 5 = .ok (.iconst 0, 1) := dk_3 (dk_at dksX5_worksOf_0 5 rfl rfl)
theorem dX5_worksOf_6 : decode cX5_worksOf 6 = .ok (.istore 5, 2) := dk_54 5 (dk_at dksX5_worksOf_0 6 rfl rfl)
theorem dX5_worksOf_8 : decode cX5_worksOf 8 = .ok (.iconst 0, 1) := dk_3 (dk_at dksX5_worksOf_0 8 rfl rfl)
theorem dX5_worksOf_9 : decode cX5_worksOf 9 = .ok (.istore 6, 2) := dk_54 6 (dk_at dksX5_worksOf_0 9 rfl rfl)
theorem dX5_worksOf_11 : decode cX5_worksOf 11 = .ok (.aload_n 0, 1) := dk_42 (dk_at dksX5_worksOf_0 11 rfl rfl)
theorem dX5_worksOf_12 : decode cX5_worksOf 12 = .ok (.invokevirtual 304, 3) := dk_182 1 48 (dk_at dksX5_worksOf_0 12 rfl rfl)
theorem dX5_worksOf_15 : decode cX5_worksOf 15 = .ok (.iconst (-1), 1) := dk_2 (dk_at dksX5_worksOf_0 15 rfl rfl)
theorem dX5_worksOf_16 : decode cX5_worksOf 16 = .ok (.if_icmp .ne 10, 3) := dk_160 0 10 (dk_at dksX5_worksOf_0 16 rfl rfl)
theorem dX5_worksOf_19 : decode cX5_worksOf 19 = .ok (.aload_n 0, 1) := dk_42 (dk_at dksX5_worksOf_0 19 rfl rfl)
theorem dX5_worksOf_20 : decode cX5_worksOf 20 = .ok (.bipush (-5), 2) := dk_16 251 (dk_at dksX5_worksOf_0 20 rfl rfl)
theorem dX5_worksOf_22 : decode cX5_worksOf 22 = .ok (.invokevirtual 93, 3) := dk_182 0 93 (dk_at dksX5_worksOf_1 0 rfl rfl)
theorem dX5_worksOf_25 : decode cX5_worksOf 25 = .ok (.ireturn, 1) := dk_172 (dk_at dksX5_worksOf_1 3 rfl rfl)
theorem dX5_worksOf_26 : decode cX5_worksOf 26 = .ok (.iconst 0, 1) := dk_3 (dk_at dksX5_worksOf_1 4 rfl rfl)
theorem dX5_worksOf_27 : decode cX5_worksOf 27 = .ok (.istore 7, 2) := dk_54 7 (dk_at dksX5_worksOf_1 5 rfl rfl)
theorem dX5_worksOf_29 : decode cX5_worksOf 29 = .ok (.iload 7, 2) := dk_21 7 (dk_at dksX5_worksOf_1 7 rfl rfl)
theorem dX5_worksOf_31 : decode cX5_worksOf 31 = .ok (.iconst 3, 1) := dk_6 (dk_at dksX5_worksOf_1 9 rfl rfl)
theorem dX5_worksOf_32 : decode cX5_worksOf 32 = .ok (.if_icmp .ge 22, 3) := dk_162 0 22 (dk_at dksX5_worksOf_1 10 rfl rfl)
theorem dX5_worksOf_35 : decode cX5_worksOf 35 = .ok (.aload_n 0, 1) := dk_42 (dk_at dksX5_worksOf_1 13 rfl rfl)
theorem dX5_worksOf_36 : decode cX5_worksOf 36 = .ok (.getfield 74, 3) := dk_180 0 74 (dk_at dksX5_worksOf_1 14 rfl rfl)
theorem dX5_worksOf_39 : decode cX5_worksOf 39 = .ok (.iload 7, 2) := dk_21 7 (dk_at dksX5_worksOf_1 17 rfl rfl)
theorem dX5_worksOf_41 : decode cX5_worksOf 41 = .ok (.aload_n 0, 1) := dk_42 (dk_at dksX5_worksOf_1 19 rfl rfl)
theorem dX5_worksOf_42 : decode cX5_worksOf 42 = .ok (.iload 7, 2) := dk_21 7 (dk_at dksX5_worksOf_1 20 rfl rfl)
theorem dX5_worksOf_44 : decode cX5_worksOf 44 = .ok (.invokevirtual 310, 3) := dk_182 1 54 (dk_at dksX5_worksOf_2 0 rfl rfl)
theorem dX5_worksOf_47 : decode cX5_worksOf 47 = .ok (.iastore, 1) := dk_79 (dk_at dksX5_worksOf_2 3 rfl rfl)
theorem dX5_worksOf_48 : decode cX5_worksOf 48 = .ok (.iinc 7 1, 3) := dk_132 7 1 (dk_at dksX5_worksOf_2 4 rfl rfl)
theorem dX5_worksOf_51 : decode cX5_worksOf 51 = .ok (.goto (-22), 3) := dk_167 255 234 (dk_at dksX5_worksOf_2 7 rfl rfl)
theorem dX5_worksOf_54 : decode cX5_worksOf 54 = .ok (.iconst 0, 1) := dk_3 (dk_at dksX5_worksOf_2 10 rfl rfl)
theorem dX5_worksOf_55 : decode cX5_worksOf 55 = .ok (.istore 7, 2) := dk_54 7 (dk_at dksX5_worksOf_2 11 rfl rfl)
theorem dX5_worksOf_57 : decode cX5_worksOf 57 = .ok (.iload 7, 2) := dk_21 7 (dk_at dksX5_worksOf_2 13 rfl rfl)
theorem dX5_worksOf_59 : decode cX5_worksOf 59 = .ok (.aload_n 0, 1) := dk_42 (dk_at dksX5_worksOf_2 15 rfl rfl)
theorem dX5_worksOf_60 : decode cX5_worksOf 60 = .ok (.getfield 77, 3) := dk_180 0 77 (dk_at dksX5_worksOf_2 16 rfl rfl)
theorem dX5_worksOf_63 : decode cX5_worksOf 63 = .ok (.if_icmp .ge 29, 3) := dk_162 0 29 (dk_at dksX5_worksOf_2 19 rfl rfl)
theorem dX5_worksOf_66 : decode cX5_worksOf 66 = .ok (.iload 6, 2) := dk_21 6 (dk_at dksX5_worksOf_2 22 rfl rfl)
theorem dX5_worksOf_68 : decode cX5_worksOf 68 = .ok (.aload_n 0, 1) := dk_42 (dk_at dksX5_worksOf_3 0 rfl rfl)
theorem dX5_worksOf_69 : decode cX5_worksOf 69 = .ok (.getfield 47, 3) := dk_180 0 47 (dk_at dksX5_worksOf_3 1 rfl rfl)
theorem dX5_worksOf_72 : decode cX5_worksOf 72 = .ok (.iload 7, 2) := dk_21 7 (dk_at dksX5_worksOf_3 4 rfl rfl)
theorem dX5_worksOf_74 : decode cX5_worksOf 74 = .ok (.baload, 1) := dk_51 (dk_at dksX5_worksOf_3 6 rfl rfl)
theorem dX5_worksOf_75 : decode cX5_worksOf 75 = .ok (.ifCond .eq 7, 3) := dk_153 0 7 (dk_at dksX5_worksOf_3 7 rfl rfl)
theorem dX5_worksOf_78 : decode cX5_worksOf 78 = .ok (.iconst 1, 1) := dk_4 (dk_at dksX5_worksOf_3 10 rfl rfl)
theorem dX5_worksOf_79 : decode cX5_worksOf 79 = .ok (.goto 4, 3) := dk_167 0 4 (dk_at dksX5_worksOf_3 11 rfl rfl)
theorem dX5_worksOf_82 : decode cX5_worksOf 82 = .ok (.iconst 0, 1) := dk_3 (dk_at dksX5_worksOf_3 14 rfl rfl)
theorem dX5_worksOf_83 : decode cX5_worksOf 83 = .ok (.iadd, 1) := dk_96 (dk_at dksX5_worksOf_3 15 rfl rfl)
theorem dX5_worksOf_84 : decode cX5_worksOf 84 = .ok (.istore 6, 2) := dk_54 6 (dk_at dksX5_worksOf_3 16 rfl rfl)
theorem dX5_worksOf_86 : decode cX5_worksOf 86 = .ok (.iinc 7 1, 3) := dk_132 7 1 (dk_at dksX5_worksOf_3 18 rfl rfl)
theorem dX5_worksOf_89 : decode cX5_worksOf 89 = .ok (.goto (-32), 3) := dk_167 255 224 (dk_at dksX5_worksOf_3 21 rfl rfl)
theorem dX5_worksOf_92 : decode cX5_worksOf 92 = .ok (.iconst 0, 1) := dk_3 (dk_at dksX5_worksOf_4 0 rfl rfl)
theorem dX5_worksOf_93 : decode cX5_worksOf 93 = .ok (.istore 7, 2) := dk_54 7 (dk_at dksX5_worksOf_4 1 rfl rfl)
theorem dX5_worksOf_95 : decode cX5_worksOf 95 = .ok (.iload 7, 2) := dk_21 7 (dk_at dksX5_worksOf_4 3 rfl rfl)
theorem dX5_worksOf_97 : decode cX5_worksOf 97 = .ok (.bipush 16, 2) := dk_16 16 (dk_at dksX5_worksOf_4 5 rfl rfl)
theorem dX5_worksOf_99 : decode cX5_worksOf 99 = .ok (.if_icmp .ge 236, 3) := dk_162 0 236 (dk_at dksX5_worksOf_4 7 rfl rfl)
theorem dX5_worksOf_102 : decode cX5_worksOf 102 = .ok (.aload_n 0, 1) := dk_42 (dk_at dksX5_worksOf_4 10 rfl rfl)
theorem dX5_worksOf_103 : decode cX5_worksOf 103 = .ok (.invokevirtual 238, 3) := dk_182 0 238 (dk_at dksX5_worksOf_4 11 rfl rfl)
theorem dX5_worksOf_106 : decode cX5_worksOf 106 = .ok (.astore 8, 2) := dk_58 8 (dk_at dksX5_worksOf_4 14 rfl rfl)
theorem dX5_worksOf_108 : decode cX5_worksOf 108 = .ok (.iload 7, 2) := dk_21 7 (dk_at dksX5_worksOf_4 16 rfl rfl)
theorem dX5_worksOf_110 : decode cX5_worksOf 110 = .ok (.iconst 3, 1) := dk_6 (dk_at dksX5_worksOf_4 18 rfl rfl)
theorem dX5_worksOf_111 : decode cX5_worksOf 111 = .ok (.ishr, 1) := dk_122 (dk_at dksX5_worksOf_4 19 rfl rfl)
theorem dX5_worksOf_112 : decode cX5_worksOf 112 = .ok (.iconst 1, 1) := dk_4 (dk_at dksX5_worksOf_4 20 rfl rfl)
theorem dX5_worksOf_113 : decode cX5_worksOf 113 = .ok (.iand, 1) := dk_126 (dk_at dksX5_worksOf_4 21 rfl rfl)
theorem dX5_worksOf_114 : decode cX5_worksOf 114 = .ok (.ifCond .eq 8, 3) := dk_153 0 8 (dk_at dksX5_worksOf_5 0 rfl rfl)
theorem dX5_worksOf_117 : decode cX5_worksOf 117 = .ok (.iload 6, 2) := dk_21 6 (dk_at dksX5_worksOf_5 3 rfl rfl)
theorem dX5_worksOf_119 : decode cX5_worksOf 119 = .ok (.ifCond .le 7, 3) := dk_158 0 7 (dk_at dksX5_worksOf_5 5 rfl rfl)
theorem dX5_worksOf_122 : decode cX5_worksOf 122 = .ok (.iconst 1, 1) := dk_4 (dk_at dksX5_worksOf_5 8 rfl rfl)
theorem dX5_worksOf_123 : decode cX5_worksOf 123 = .ok (.goto 4, 3) := dk_167 0 4 (dk_at dksX5_worksOf_5 9 rfl rfl)
theorem dX5_worksOf_126 : decode cX5_worksOf 126 = .ok (.iconst 0, 1) := dk_3 (dk_at dksX5_worksOf_5 12 rfl rfl)
theorem dX5_worksOf_127 : decode cX5_worksOf 127 = .ok (.istore 9, 2) := dk_54 9 (dk_at dksX5_worksOf_5 13 rfl rfl)
theorem dX5_worksOf_129 : decode cX5_worksOf 129 = .ok (.iload 7, 2) := dk_21 7 (dk_at dksX5_worksOf_5 15 rfl rfl)
theorem dX5_worksOf_131 : decode cX5_worksOf 131 = .ok (.iconst 3, 1) := dk_6 (dk_at dksX5_worksOf_5 17 rfl rfl)
theorem dX5_worksOf_132 : decode cX5_worksOf 132 = .ok (.ishr, 1) := dk_122 (dk_at dksX5_worksOf_5 18 rfl rfl)
theorem dX5_worksOf_133 : decode cX5_worksOf 133 = .ok (.iconst 1, 1) := dk_4 (dk_at dksX5_worksOf_5 19 rfl rfl)
theorem dX5_worksOf_134 : decode cX5_worksOf 134 = .ok (.iand, 1) := dk_126 (dk_at dksX5_worksOf_5 20 rfl rfl)
theorem dX5_worksOf_135 : decode cX5_worksOf 135 = .ok (.iload 6, 2) := dk_21 6 (dk_at dksX5_worksOf_5 21 rfl rfl)
theorem dX5_worksOf_137 : decode cX5_worksOf 137 = .ok (.imul, 1) := dk_104 (dk_at dksX5_worksOf_5 23 rfl rfl)
theorem dX5_worksOf_138 : decode cX5_worksOf 138 = .ok (.aload_n 0, 1) := dk_42 (dk_at dksX5_worksOf_6 0 rfl rfl)
theorem dX5_worksOf_139 : decode cX5_worksOf 139 = .ok (.getfield 56, 3) := dk_180 0 56 (dk_at dksX5_worksOf_6 1 rfl rfl)
theorem dX5_worksOf_142 : decode cX5_worksOf 142 = .ok (.bipush 9, 2) := dk_16 9 (dk_at dksX5_worksOf_6 4 rfl rfl)
theorem dX5_worksOf_144 : decode cX5_worksOf 144 = .ok (.iaload, 1) := dk_46 (dk_at dksX5_worksOf_6 6 rfl rfl)
theorem dX5_worksOf_145 : decode cX5_worksOf 145 = .ok (.imul, 1) := dk_104 (dk_at dksX5_worksOf_6 7 rfl rfl)
theorem dX5_worksOf_146 : decode cX5_worksOf 146 = .ok (.istore 10, 2) := dk_54 10 (dk_at dksX5_worksOf_6 8 rfl rfl)
theorem dX5_worksOf_148 : decode cX5_worksOf 148 = .ok (.iconst 0, 1) := dk_3 (dk_at dksX5_worksOf_6 10 rfl rfl)
theorem dX5_worksOf_149 : decode cX5_worksOf 149 = .ok (.istore 11, 2) := dk_54 11 (dk_at dksX5_worksOf_6 11 rfl rfl)
theorem dX5_worksOf_151 : decode cX5_worksOf 151 = .ok (.iload 11, 2) := dk_21 11 (dk_at dksX5_worksOf_6 13 rfl rfl)
theorem dX5_worksOf_153 : decode cX5_worksOf 153 = .ok (.iconst 3, 1) := dk_6 (dk_at dksX5_worksOf_6 15 rfl rfl)
theorem dX5_worksOf_154 : decode cX5_worksOf 154 = .ok (.if_icmp .ge 81, 3) := dk_162 0 81 (dk_at dksX5_worksOf_6 16 rfl rfl)
theorem dX5_worksOf_157 : decode cX5_worksOf 157 = .ok (.iload 7, 2) := dk_21 7 (dk_at dksX5_worksOf_6 19 rfl rfl)
theorem dX5_worksOf_159 : decode cX5_worksOf 159 = .ok (.iload 11, 2) := dk_21 11 (dk_at dksX5_worksOf_6 21 rfl rfl)
theorem dX5_worksOf_161 : decode cX5_worksOf 161 = .ok (.ishr, 1) := dk_122 (dk_at dksX5_worksOf_6 23 rfl rfl)
theorem dX5_worksOf_162 : decode cX5_worksOf 162 = .ok (.iconst 1, 1) := dk_4 (dk_at dksX5_worksOf_7 0 rfl rfl)
theorem dX5_worksOf_163 : decode cX5_worksOf 163 = .ok (.iand, 1) := dk_126 (dk_at dksX5_worksOf_7 1 rfl rfl)
theorem dX5_worksOf_164 : decode cX5_worksOf 164 = .ok (.ifCond .eq 65, 3) := dk_153 0 65 (dk_at dksX5_worksOf_7 2 rfl rfl)
theorem dX5_worksOf_167 : decode cX5_worksOf 167 = .ok (.iload 9, 2) := dk_21 9 (dk_at dksX5_worksOf_7 5 rfl rfl)
theorem dX5_worksOf_169 : decode cX5_worksOf 169 = .ok (.aload_n 0, 1) := dk_42 (dk_at dksX5_worksOf_7 7 rfl rfl)
theorem dX5_worksOf_170 : decode cX5_worksOf 170 = .ok (.getfield 74, 3) := dk_180 0 74 (dk_at dksX5_worksOf_7 8 rfl rfl)
theorem dX5_worksOf_173 : decode cX5_worksOf 173 = .ok (.iload 11, 2) := dk_21 11 (dk_at dksX5_worksOf_7 11 rfl rfl)
theorem dX5_worksOf_175 : decode cX5_worksOf 175 = .ok (.iaload, 1) := dk_46 (dk_at dksX5_worksOf_7 13 rfl rfl)
theorem dX5_worksOf_176 : decode cX5_worksOf 176 = .ok (.iconst (-1), 1) := dk_2 (dk_at dksX5_worksOf_7 14 rfl rfl)
theorem dX5_worksOf_177 : decode cX5_worksOf 177 = .ok (.if_icmp .eq 7, 3) := dk_159 0 7 (dk_at dksX5_worksOf_7 15 rfl rfl)
theorem dX5_worksOf_180 : decode cX5_worksOf 180 = .ok (.iconst 1, 1) := dk_4 (dk_at dksX5_worksOf_7 18 rfl rfl)
theorem dX5_worksOf_181 : decode cX5_worksOf 181 = .ok (.goto 4, 3) := dk_167 0 4 (dk_at dksX5_worksOf_7 19 rfl rfl)
theorem dX5_worksOf_184 : decode cX5_worksOf 184 = .ok (.iconst 0, 1) := dk_3 (dk_at dksX5_worksOf_7 22 rfl rfl)
theorem dX5_worksOf_185 : decode cX5_worksOf 185 = .ok (.iand, 1) := dk_126 (dk_at dksX5_worksOf_7 23 rfl rfl)
theorem dX5_worksOf_186 : decode cX5_worksOf 186 = .ok (.istore 9, 2) := dk_54 9 (dk_at dksX5_worksOf_8 0 rfl rfl)
theorem dX5_worksOf_188 : decode cX5_worksOf 188 = .ok (.iload 10, 2) := dk_21 10 (dk_at dksX5_worksOf_8 2 rfl rfl)
theorem dX5_worksOf_190 : decode cX5_worksOf 190 = .ok (.aload_n 0, 1) := dk_42 (dk_at dksX5_worksOf_8 4 rfl rfl)
theorem dX5_worksOf_191 : decode cX5_worksOf 191 = .ok (.getfield 56, 3) := dk_180 0 56 (dk_at dksX5_worksOf_8 5 rfl rfl)
theorem dX5_worksOf_194 : decode cX5_worksOf 194 = .ok (.bipush 6, 2) := dk_16 6 (dk_at dksX5_worksOf_8 8 rfl rfl)
theorem dX5_worksOf_196 : decode cX5_worksOf 196 = .ok (.iload 11, 2) := dk_21 11 (dk_at dksX5_worksOf_8 10 rfl rfl)
theorem dX5_worksOf_198 : decode cX5_worksOf 198 = .ok (.iadd, 1) := dk_96 (dk_at dksX5_worksOf_8 12 rfl rfl)
theorem dX5_worksOf_199 : decode cX5_worksOf 199 = .ok (.iaload, 1) := dk_46 (dk_at dksX5_worksOf_8 13 rfl rfl)
theorem dX5_worksOf_200 : decode cX5_worksOf 200 = .ok (.iadd, 1) := dk_96 (dk_at dksX5_worksOf_8 14 rfl rfl)
theorem dX5_worksOf_201 : decode cX5_worksOf 201 = .ok (.istore 10, 2) := dk_54 10 (dk_at dksX5_worksOf_8 15 rfl rfl)
theorem dX5_worksOf_203 : decode cX5_worksOf 203 = .ok (.aload_n 0, 1) := dk_42 (dk_at dksX5_worksOf_8 17 rfl rfl)
theorem dX5_worksOf_204 : decode cX5_worksOf 204 = .ok (.getfield 74, 3) := dk_180 0 74 (dk_at dksX5_worksOf_8 18 rfl rfl)
theorem dX5_worksOf_207 : decode cX5_worksOf 207 = .ok (.iload 11, 2) := dk_21 11 (dk_at dksX5_worksOf_8 21 rfl rfl)
theorem dX5_worksOf_209 : decode cX5_worksOf 209 = .ok (.iaload, 1) := dk_46 (dk_at dksX5_worksOf_8 23 rfl rfl)
theorem dX5_worksOf_210 : decode cX5_worksOf 210 = .ok (.iconst (-1), 1) := dk_2 (dk_at dksX5_worksOf_9 0 rfl rfl)
theorem dX5_worksOf_211 : decode cX5_worksOf 211 = .ok (.if_icmp .eq 18, 3) := dk_159 0 18 (dk_at dksX5_worksOf_9 1 rfl rfl)
theorem dX5_worksOf_214 : decode cX5_worksOf 214 = .ok (.aload 8, 2) := dk_25 8 (dk_at dksX5_worksOf_9 4 rfl rfl)
theorem dX5_worksOf_216 : decode cX5_worksOf 216 = .ok (.iload 11, 2) := dk_21 11 (dk_at dksX5_worksOf_9 6 rfl rfl)
theorem dX5_worksOf_218 : decode cX5_worksOf 218 = .ok (.aload_n 0, 1) := dk_42 (dk_at dksX5_worksOf_9 8 rfl rfl)
theorem dX5_worksOf_219 : decode cX5_worksOf 219 = .ok (.getfield 74, 3) := dk_180 0 74 (dk_at dksX5_worksOf_9 9 rfl rfl)
theorem dX5_worksOf_222 : decode cX5_worksOf 222 = .ok (.iload 11, 2) := dk_21 11 (dk_at dksX5_worksOf_9 12 rfl rfl)
theorem dX5_worksOf_224 : decode cX5_worksOf 224 = .ok (.iaload, 1) := dk_46 (dk_at dksX5_worksOf_9 14 rfl rfl)
theorem dX5_worksOf_225 : decode cX5_worksOf 225 = .ok (.invokevirtual 307, 3) := dk_182 1 51 (dk_at dksX5_worksOf_9 15 rfl rfl)
theorem dX5_worksOf_228 : decode cX5_worksOf 228 = .ok (.pop, 1) := dk_87 (dk_at dksX5_worksOf_9 18 rfl rfl)
theorem dX5_worksOf_229 : decode cX5_worksOf 229 = .ok (.iinc 11 1, 3) := dk_132 11 1 (dk_at dksX5_worksOf_9 19 rfl rfl)
theorem dX5_worksOf_232 : decode cX5_worksOf 232 = .ok (.goto (-81), 3) := dk_167 255 175 (dk_at dksX5_worksOf_10 0 rfl rfl)
theorem dX5_worksOf_235 : decode cX5_worksOf 235 = .ok (.iconst 0, 1) := dk_3 (dk_at dksX5_worksOf_10 3 rfl rfl)
theorem dX5_worksOf_236 : decode cX5_worksOf 236 = .ok (.istore 11, 2) := dk_54 11 (dk_at dksX5_worksOf_10 4 rfl rfl)
theorem dX5_worksOf_238 : decode cX5_worksOf 238 = .ok (.iload 11, 2) := dk_21 11 (dk_at dksX5_worksOf_10 6 rfl rfl)
theorem dX5_worksOf_240 : decode cX5_worksOf 240 = .ok (.aload_n 0, 1) := dk_42 (dk_at dksX5_worksOf_10 8 rfl rfl)
theorem dX5_worksOf_241 : decode cX5_worksOf 241 = .ok (.getfield 77, 3) := dk_180 0 77 (dk_at dksX5_worksOf_10 9 rfl rfl)
theorem dX5_worksOf_244 : decode cX5_worksOf 244 = .ok (.if_icmp .ge 27, 3) := dk_162 0 27 (dk_at dksX5_worksOf_10 12 rfl rfl)
theorem dX5_worksOf_247 : decode cX5_worksOf 247 = .ok (.iload 7, 2) := dk_21 7 (dk_at dksX5_worksOf_10 15 rfl rfl)
theorem dX5_worksOf_249 : decode cX5_worksOf 249 = .ok (.iconst 3, 1) := dk_6 (dk_at dksX5_worksOf_10 17 rfl rfl)
theorem dX5_worksOf_250 : decode cX5_worksOf 250 = .ok (.ishr, 1) := dk_122 (dk_at dksX5_worksOf_10 18 rfl rfl)
theorem dX5_worksOf_251 : decode cX5_worksOf 251 = .ok (.iconst 1, 1) := dk_4 (dk_at dksX5_worksOf_10 19 rfl rfl)
theorem dX5_worksOf_252 : decode cX5_worksOf 252 = .ok (.iand, 1) := dk_126 (dk_at dksX5_worksOf_10 20 rfl rfl)
theorem dX5_worksOf_253 : decode cX5_worksOf 253 = .ok (.ifCond .eq 18, 3) := dk_153 0 18 (dk_at dksX5_worksOf_10 21 rfl rfl)
theorem dX5_worksOf_256 : decode cX5_worksOf 256 = .ok (.aload 8, 2) := dk_25 8 (dk_at dksX5_worksOf_11 0 rfl rfl)
theorem dX5_worksOf_258 : decode cX5_worksOf 258 = .ok (.getfield 47, 3) := dk_180 0 47 (dk_at dksX5_worksOf_11 2 rfl rfl)
theorem dX5_worksOf_261 : decode cX5_worksOf 261 = .ok (.iload 11, 2) := dk_21 11 (dk_at dksX5_worksOf_11 5 rfl rfl)
theorem dX5_worksOf_263 : decode cX5_worksOf 263 = .ok (.iconst 0, 1) := dk_3 (dk_at dksX5_worksOf_11 7 rfl rfl)
theorem dX5_worksOf_264 : decode cX5_worksOf 264 = .ok (.bastore, 1) := dk_84 (dk_at dksX5_worksOf_11 8 rfl rfl)
theorem dX5_worksOf_265 : decode cX5_worksOf 265 = .ok (.iinc 11 1, 3) := dk_132 11 1 (dk_at dksX5_worksOf_11 9 rfl rfl)
theorem dX5_worksOf_268 : decode cX5_worksOf 268 = .ok (.goto (-30), 3) := dk_167 255 226 (dk_at dksX5_worksOf_11 12 rfl rfl)
theorem dX5_worksOf_271 : decode cX5_worksOf 271 = .ok (.iload 9, 2) := dk_21 9 (dk_at dksX5_worksOf_11 15 rfl rfl)
theorem dX5_worksOf_273 : decode cX5_worksOf 273 = .ok (.ifCond .eq 17, 3) := dk_153 0 17 (dk_at dksX5_worksOf_11 17 rfl rfl)
theorem dX5_worksOf_276 : decode cX5_worksOf 276 = .ok (.iload 10, 2) := dk_21 10 (dk_at dksX5_worksOf_11 20 rfl rfl)
theorem dX5_worksOf_278 : decode cX5_worksOf 278 = .ok (.iload_n 1, 1) := dk_27 (dk_at dksX5_worksOf_11 22 rfl rfl)
theorem dX5_worksOf_279 : decode cX5_worksOf 279 = .ok (.if_icmp .gt 11, 3) := dk_163 0 11 (dk_at dksX5_worksOf_12 0 rfl rfl)
theorem dX5_worksOf_282 : decode cX5_worksOf 282 = .ok (.aload 8, 2) := dk_25 8 (dk_at dksX5_worksOf_12 3 rfl rfl)
theorem dX5_worksOf_284 : decode cX5_worksOf 284 = .ok (.invokevirtual 304, 3) := dk_182 1 48 (dk_at dksX5_worksOf_12 5 rfl rfl)
theorem dX5_worksOf_287 : decode cX5_worksOf 287 = .ok (.goto 4, 3) := dk_167 0 4 (dk_at dksX5_worksOf_12 8 rfl rfl)
theorem dX5_worksOf_290 : decode cX5_worksOf 290 = .ok (.iconst (-1), 1) := dk_2 (dk_at dksX5_worksOf_12 11 rfl rfl)
theorem dX5_worksOf_291 : decode cX5_worksOf 291 = .ok (.istore 11, 2) := dk_54 11 (dk_at dksX5_worksOf_12 12 rfl rfl)
theorem dX5_worksOf_293 : decode cX5_worksOf 293 = .ok (.iload 11, 2) := dk_21 11 (dk_at dksX5_worksOf_12 14 rfl rfl)
theorem dX5_worksOf_295 : decode cX5_worksOf 295 = .ok (.iconst (-1), 1) := dk_2 (dk_at dksX5_worksOf_12 16 rfl rfl)
theorem dX5_worksOf_296 : decode cX5_worksOf 296 = .ok (.if_icmp .eq 33, 3) := dk_159 0 33 (dk_at dksX5_worksOf_12 17 rfl rfl)
theorem dX5_worksOf_299 : decode cX5_worksOf 299 = .ok (.iload_n 3, 1) := dk_29 (dk_at dksX5_worksOf_12 20 rfl rfl)
theorem dX5_worksOf_300 : decode cX5_worksOf 300 = .ok (.iconst (-1), 1) := dk_2 (dk_at dksX5_worksOf_12 21 rfl rfl)
theorem dX5_worksOf_301 : decode cX5_worksOf 301 = .ok (.if_icmp .eq 17, 3) := dk_159 0 17 (dk_at dksX5_worksOf_13 0 rfl rfl)
theorem dX5_worksOf_304 : decode cX5_worksOf 304 = .ok (.iload 11, 2) := dk_21 11 (dk_at dksX5_worksOf_13 3 rfl rfl)
theorem dX5_worksOf_306 : decode cX5_worksOf 306 = .ok (.iload 10, 2) := dk_21 10 (dk_at dksX5_worksOf_13 5 rfl rfl)
theorem dX5_worksOf_308 : decode cX5_worksOf 308 = .ok (.iload 5, 2) := dk_21 5 (dk_at dksX5_worksOf_13 7 rfl rfl)
theorem dX5_worksOf_310 : decode cX5_worksOf 310 = .ok (.iload 4, 2) := dk_21 4 (dk_at dksX5_worksOf_13 9 rfl rfl)
theorem dX5_worksOf_312 : decode cX5_worksOf 312 = .ok (.invokestatic 280, 3) := dk_184 1 24 (dk_at dksX5_worksOf_13 11 rfl rfl)
theorem dX5_worksOf_315 : decode cX5_worksOf 315 = .ok (.ifCond .eq 14, 3) := dk_153 0 14 (dk_at dksX5_worksOf_13 14 rfl rfl)
theorem dX5_worksOf_318 : decode cX5_worksOf 318 = .ok (.iload 7, 2) := dk_21 7 (dk_at dksX5_worksOf_13 17 rfl rfl)
theorem dX5_worksOf_320 : decode cX5_worksOf 320 = .ok (.istore_n 3, 1) := dk_62 (dk_at dksX5_worksOf_13 19 rfl rfl)
theorem dX5_worksOf_321 : decode cX5_worksOf 321 = .ok (.iload 10, 2) := dk_21 10 (dk_at dksX5_worksOf_13 20 rfl rfl)
theorem dX5_worksOf_323 : decode cX5_worksOf 323 = .ok (.istore 4, 2) := dk_54 4 (dk_at dksX5_worksOf_13 22 rfl rfl)
theorem dX5_worksOf_325 : decode cX5_worksOf 325 = .ok (.iload 11, 2) := dk_21 11 (dk_at dksX5_worksOf_14 0 rfl rfl)
theorem dX5_worksOf_327 : decode cX5_worksOf 327 = .ok (.istore 5, 2) := dk_54 5 (dk_at dksX5_worksOf_14 2 rfl rfl)
theorem dX5_worksOf_329 : decode cX5_worksOf 329 = .ok (.iinc 7 1, 3) := dk_132 7 1 (dk_at dksX5_worksOf_14 4 rfl rfl)
theorem dX5_worksOf_332 : decode cX5_worksOf 332 = .ok (.goto (-237), 3) := dk_167 255 19 (dk_at dksX5_worksOf_14 7 rfl rfl)
theorem dX5_worksOf_335 : decode cX5_worksOf 335 = .ok (.iload_n 2, 1) := dk_28 (dk_at dksX5_worksOf_14 10 rfl rfl)
theorem dX5_worksOf_336 : decode cX5_worksOf 336 = .ok (.ifCond .ne 7, 3) := dk_154 0 7 (dk_at dksX5_worksOf_14 11 rfl rfl)
theorem dX5_worksOf_339 : decode cX5_worksOf 339 = .ok (.iload_n 3, 1) := dk_29 (dk_at dksX5_worksOf_14 14 rfl rfl)
theorem dX5_worksOf_340 : decode cX5_worksOf 340 = .ok (.goto 15, 3) := dk_167 0 15 (dk_at dksX5_worksOf_14 15 rfl rfl)
theorem dX5_worksOf_343 : decode cX5_worksOf 343 = .ok (.iload_n 2, 1) := dk_28 (dk_at dksX5_worksOf_14 18 rfl rfl)
theorem dX5_worksOf_344 : decode cX5_worksOf 344 = .ok (.iconst 1, 1) := dk_4 (dk_at dksX5_worksOf_14 19 rfl rfl)
theorem dX5_worksOf_345 : decode cX5_worksOf 345 = .ok (.if_icmp .ne 8, 3) := dk_160 0 8 (dk_at dksX5_worksOf_14 20 rfl rfl)
theorem dX5_worksOf_348 : decode cX5_worksOf 348 = .ok (.iload 4, 2) := dk_21 4 (dk_at dksX5_worksOf_15 0 rfl rfl)
theorem dX5_worksOf_350 : decode cX5_worksOf 350 = .ok (.goto 5, 3) := dk_167 0 5 (dk_at dksX5_worksOf_15 2 rfl rfl)
theorem dX5_worksOf_353 : decode cX5_worksOf 353 = .ok (.iload 5, 2) := dk_21 5 (dk_at dksX5_worksOf_15 5 rfl rfl)
theorem dX5_worksOf_355 : decode cX5_worksOf 355 = .ok (.ireturn, 1) := dk_172 (dk_at dksX5_worksOf_15 7 rfl rfl)
abbrev cX5_done : ByteArray := prog_18_method_75_code
def yX5_done : MethodName := ⟨RX5, "done", "(II)I"⟩
def dkwX5_done_1 : List UInt8 := [182, 0, 93, 172, 42, 27, 28, 182, 1, 51, 153, 0, 7, 4, 167, 0, 4, 3, 172]
abbrev dktX5_done_1 : List UInt8 := dkwX5_done_1 ++ []
def dkwX5_done_0 : List UInt8 := [27, 133, 9, 20, 0, 249, 184, 0, 80, 153, 0, 11, 42, 28, 182, 0, 136, 154, 0, 10, 42, 16, 254]
abbrev dktX5_done_0 : List UInt8 := dkwX5_done_0 ++ dktX5_done_1
theorem dksX5_done_0 : cX5_done.data.toList.drop 0 = dktX5_done_0 := by decide +kernel
theorem dksX5_done_1 : cX5_done.data.toList.drop 23 = dktX5_done_1 := dk_seg dksX5_done_0 23 rfl rfl
theorem dX5_done_0 : decode cX5_done 0 = .ok (.iload_n 1, 1) := dk_27 (dk_at dksX5_done_0 0 rfl rfl)
theorem dX5_done_1 : decode cX5_done 1 = .ok (.i2l, 1) := dk_133 (dk_at dksX5_done_0 1 rfl rfl)
theorem dX5_done_2 : decode cX5_done 2 = .ok (.lconst 0, 1) := dk_9 (dk_at dksX5_done_0 2 rfl rfl)
theorem dX5_done_3 : decode cX5_done 3 = .ok (.ldc2_w 249, 3) := dk_20 0 249 (dk_at dksX5_done_0 3 rfl rfl)
theorem dX5_done_6 : decode cX5_done 6 = .ok (.invokestatic 80, 3) := dk_184 0 80 (dk_at dksX5_done_0 6 rfl rfl)
theorem dX5_done_9 : decode cX5_done 9 = .ok (.ifCond .eq 11, 3) := dk_153 0 11 (dk_at dksX5_done_0 9 rfl rfl)
theorem dX5_done_12 : decode cX5_done 12 = .ok (.aload_n 0, 1) := dk_42 (dk_at dksX5_done_0 12 rfl rfl)
theorem dX5_done_13 : decode cX5_done 13 = .ok (.iload_n 2, 1) := dk_28 (dk_at dksX5_done_0 13 rfl rfl)
theorem dX5_done_14 : decode cX5_done 14 = .ok (.invokevirtual 136, 3) := dk_182 0 136 (dk_at dksX5_done_0 14 rfl rfl)
theorem dX5_done_17 : decode cX5_done 17 = .ok (.ifCond .ne 10, 3) := dk_154 0 10 (dk_at dksX5_done_0 17 rfl rfl)
theorem dX5_done_20 : decode cX5_done 20 = .ok (.aload_n 0, 1) := dk_42 (dk_at dksX5_done_0 20 rfl rfl)
theorem dX5_done_21 : decode cX5_done 21 = .ok (.bipush (-2), 2) := dk_16 254 (dk_at dksX5_done_0 21 rfl rfl)
theorem dX5_done_23 : decode cX5_done 23 = .ok (.invokevirtual 93, 3) := dk_182 0 93 (dk_at dksX5_done_1 0 rfl rfl)
theorem dX5_done_26 : decode cX5_done 26 = .ok (.ireturn, 1) := dk_172 (dk_at dksX5_done_1 3 rfl rfl)
theorem dX5_done_27 : decode cX5_done 27 = .ok (.aload_n 0, 1) := dk_42 (dk_at dksX5_done_1 4 rfl rfl)
theorem dX5_done_28 : decode cX5_done 28 = .ok (.iload_n 1, 1) := dk_27 (dk_at dksX5_done_1 5 rfl rfl)
theorem dX5_done_29 : decode cX5_done 29 = .ok (.iload_n 2, 1) := dk_28 (dk_at dksX5_done_1 6 rfl rfl)
theorem dX5_done_30 : decode cX5_done 30 = .ok (.invokevirtual 307, 3) := dk_182 1 51 (dk_at dksX5_done_1 7 rfl rfl)
theorem dX5_done_33 : decode cX5_done 33 = .ok (.ifCond .eq 7, 3) := dk_153 0 7 (dk_at dksX5_done_1 10 rfl rfl)
theorem dX5_done_36 : decode cX5_done 36 = .ok (.iconst 1, 1) := dk_4 (dk_at dksX5_done_1 13 rfl rfl)
theorem dX5_done_37 : decode cX5_done 37 = .ok (.goto 4, 3) := dk_167 0 4 (dk_at dksX5_done_1 14 rfl rfl)
theorem dX5_done_40 : decode cX5_done 40 = .ok (.iconst 0, 1) := dk_3 (dk_at dksX5_done_1 17 rfl rfl)
theorem dX5_done_41 : decode cX5_done 41 = .ok (.ireturn, 1) := dk_172 (dk_at dksX5_done_1 18 rfl rfl)
abbrev cX5_goings : ByteArray := prog_18_method_76_code
def yX5_goings : MethodName := ⟨RX5, "goings", "(IIII)I"⟩
def dkwX5_goings_10 : List UInt8 := [167, 255, 212, 132, 6, 1, 167, 255, 196, 21, 6, 172]
abbrev dktX5_goings_10 : List UInt8 := dkwX5_goings_10 ++ []
def dkwX5_goings_9 : List UInt8 := [50, 21, 7, 47, 42, 180, 0, 21, 27, 50, 21, 8, 47, 21, 4, 133, 97, 148, 157, 0, 9, 132, 7, 1]
abbrev dktX5_goings_9 : List UInt8 := dkwX5_goings_9 ++ dktX5_goings_10
def dkwX5_goings_8 : List UInt8 := [21, 7, 54, 8, 21, 7, 28, 162, 0, 44, 21, 7, 21, 8, 100, 29, 162, 0, 35, 42, 180, 0, 21, 27]
abbrev dktX5_goings_8 : List UInt8 := dkwX5_goings_8 ++ dktX5_goings_9
def dkwX5_goings_7 : List UInt8 := [16, 251, 182, 0, 93, 172, 132, 6, 1, 167, 255, 216, 3, 54, 6, 3, 54, 7, 21, 7, 28, 162, 0, 60]
abbrev dktX5_goings_7 : List UInt8 := dkwX5_goings_7 ++ dktX5_goings_8
def dkwX5_goings_6 : List UInt8 := [180, 0, 21, 27, 50, 21, 6, 47, 42, 180, 0, 21, 27, 50, 21, 6, 4, 100, 47, 148, 156, 0, 10, 42]
abbrev dktX5_goings_6 : List UInt8 := dkwX5_goings_6 ++ dktX5_goings_7
def dkwX5_goings_5 : List UInt8 := [16, 254, 182, 0, 93, 172, 132, 6, 1, 167, 255, 221, 4, 54, 6, 21, 6, 28, 162, 0, 40, 42]
abbrev dktX5_goings_5 : List UInt8 := dkwX5_goings_5 ++ dktX5_goings_6
def dkwX5_goings_4 : List UInt8 := [162, 0, 35, 42, 180, 0, 21, 27, 50, 21, 6, 47, 9, 20, 1, 64, 184, 0, 80, 154, 0, 10, 42]
abbrev dktX5_goings_4 : List UInt8 := dkwX5_goings_4 ++ dktX5_goings_5
def dkwX5_goings_3 : List UInt8 := [172, 42, 180, 0, 16, 27, 46, 28, 162, 0, 10, 42, 16, 254, 182, 0, 93, 172, 3, 54, 6, 21, 6, 28]
abbrev dktX5_goings_3 : List UInt8 := dkwX5_goings_3 ++ dktX5_goings_4
def dkwX5_goings_2 : List UInt8 := [154, 0, 10, 42, 16, 254, 182, 0, 93, 172, 42, 27, 182, 0, 97, 54, 5, 21, 5, 153, 0, 6, 21, 5]
abbrev dktX5_goings_2 : List UInt8 := dkwX5_goings_2 ++ dktX5_goings_3
def dkwX5_goings_1 : List UInt8 := [29, 133, 10, 20, 0, 128, 184, 0, 80, 153, 0, 16, 21, 4, 133, 9, 20, 0, 128, 184, 0, 80]
abbrev dktX5_goings_1 : List UInt8 := dkwX5_goings_1 ++ dktX5_goings_2
def dkwX5_goings_0 : List UInt8 := [27, 133, 9, 20, 0, 87, 184, 0, 80, 153, 0, 40, 28, 133, 9, 20, 1, 62, 184, 0, 80, 153, 0, 28]
abbrev dktX5_goings_0 : List UInt8 := dkwX5_goings_0 ++ dktX5_goings_1
theorem dksX5_goings_0 : cX5_goings.data.toList.drop 0 = dktX5_goings_0 := by decide +kernel
theorem dksX5_goings_1 : cX5_goings.data.toList.drop 24 = dktX5_goings_1 := dk_seg dksX5_goings_0 24 rfl rfl
theorem dksX5_goings_2 : cX5_goings.data.toList.drop 46 = dktX5_goings_2 := dk_seg dksX5_goings_1 22 rfl rfl
theorem dksX5_goings_3 : cX5_goings.data.toList.drop 70 = dktX5_goings_3 := dk_seg dksX5_goings_2 24 rfl rfl
theorem dksX5_goings_4 : cX5_goings.data.toList.drop 94 = dktX5_goings_4 := dk_seg dksX5_goings_3 24 rfl rfl
theorem dksX5_goings_5 : cX5_goings.data.toList.drop 117 = dktX5_goings_5 := dk_seg dksX5_goings_4 23 rfl rfl
theorem dksX5_goings_6 : cX5_goings.data.toList.drop 139 = dktX5_goings_6 := dk_seg dksX5_goings_5 22 rfl rfl
theorem dksX5_goings_7 : cX5_goings.data.toList.drop 163 = dktX5_goings_7 := dk_seg dksX5_goings_6 24 rfl rfl
theorem dksX5_goings_8 : cX5_goings.data.toList.drop 187 = dktX5_goings_8 := dk_seg dksX5_goings_7 24 rfl rfl
theorem dksX5_goings_9 : cX5_goings.data.toList.drop 211 = dktX5_goings_9 := dk_seg dksX5_goings_8 24 rfl rfl
theorem dksX5_goings_10 : cX5_goings.data.toList.drop 235 = dktX5_goings_10 := dk_seg dksX5_goings_9 24 rfl rfl
theorem dX5_goings_0 : decode cX5_goings 0 = .ok (.iload_n 1, 1) := dk_27 (dk_at dksX5_goings_0 0 rfl rfl)
theorem dX5_goings_1 : decode cX5_goings 1 = .ok (.i2l, 1) := dk_133 (dk_at dksX5_goings_0 1 rfl rfl)
theorem dX5_goings_2 : decode cX5_goings 2 = .ok (.lconst 0, 1) := dk_9 (dk_at dksX5_goings_0 2 rfl rfl)
theorem dX5_goings_3 : decode cX5_goings 3 = .ok (.ldc2_w 87, 3) := dk_20 0 87 (dk_at dksX5_goings_0 3 rfl rfl)
theorem dX5_goings_6 : decode cX5_goings 6 = .ok (.invokestatic 80, 3) := dk_184 0 80 (dk_at dksX5_goings_0 6 rfl rfl)
theorem dX5_goings_9 : decode cX5_goings 9 = .ok (.ifCond .eq 40, 3) := dk_153 0 40 (dk_at dksX5_goings_0 9 rfl rfl)
theorem dX5_goings_12 : decode cX5_goings 12 = .ok (.iload_n 2, 1) := dk_28 (dk_at dksX5_goings_0 12 rfl rfl)
theorem dX5_goings_13 : decode cX5_goings 13 = .ok (.i2l, 1) := dk_133 (dk_at dksX5_goings_0 13 rfl rfl)
theorem dX5_goings_14 : decode cX5_goings 14 = .ok (.lconst 0, 1) := dk_9 (dk_at dksX5_goings_0 14 rfl rfl)
theorem dX5_goings_15 : decode cX5_goings 15 = .ok (.ldc2_w 318, 3) := dk_20 1 62 (dk_at dksX5_goings_0 15 rfl rfl)
theorem dX5_goings_18 : decode cX5_goings 18 = .ok (.invokestatic 80, 3) := dk_184 0 80 (dk_at dksX5_goings_0 18 rfl rfl)
theorem dX5_goings_21 : decode cX5_goings 21 = .ok (.ifCond .eq 28, 3) := dk_153 0 28 (dk_at dksX5_goings_0 21 rfl rfl)
theorem dX5_goings_24 : decode cX5_goings 24 = .ok (.iload_n 3, 1) := dk_29 (dk_at dksX5_goings_1 0 rfl rfl)
theorem dX5_goings_25 : decode cX5_goings 25 = .ok (.i2l, 1) := dk_133 (dk_at dksX5_goings_1 1 rfl rfl)
theorem dX5_goings_26 : decode cX5_goings 26 = .ok (.lconst 1, 1) := dk_10 (dk_at dksX5_goings_1 2 rfl rfl)
theorem dX5_goings_27 : decode cX5_goings 27 = .ok (.ldc2_w 128, 3) := dk_20 0 128 (dk_at dksX5_goings_1 3 rfl rfl)
theorem dX5_goings_30 : decode cX5_goings 30 = .ok (.invokestatic 80, 3) := dk_184 0 80 (dk_at dksX5_goings_1 6 rfl rfl)
theorem dX5_goings_33 : decode cX5_goings 33 = .ok (.ifCond .eq 16, 3) := dk_153 0 16 (dk_at dksX5_goings_1 9 rfl rfl)
theorem dX5_goings_36 : decode cX5_goings 36 = .ok (.iload 4, 2) := dk_21 4 (dk_at dksX5_goings_1 12 rfl rfl)
theorem dX5_goings_38 : decode cX5_goings 38 = .ok (.i2l, 1) := dk_133 (dk_at dksX5_goings_1 14 rfl rfl)
theorem dX5_goings_39 : decode cX5_goings 39 = .ok (.lconst 0, 1) := dk_9 (dk_at dksX5_goings_1 15 rfl rfl)
theorem dX5_goings_40 : decode cX5_goings 40 = .ok (.ldc2_w 128, 3) := dk_20 0 128 (dk_at dksX5_goings_1 16 rfl rfl)
theorem dX5_goings_43 : decode cX5_goings 43 = .ok (.invokestatic 80, 3) := dk_184 0 80 (dk_at dksX5_goings_1 19 rfl rfl)
theorem dX5_goings_46 : decode cX5_goings 46 = .ok (.ifCond .ne 10, 3) := dk_154 0 10 (dk_at dksX5_goings_2 0 rfl rfl)
theorem dX5_goings_49 : decode cX5_goings 49 = .ok (.aload_n 0, 1) := dk_42 (dk_at dksX5_goings_2 3 rfl rfl)
theorem dX5_goings_50 : decode cX5_goings 50 = .ok (.bipush (-2), 2) := dk_16 254 (dk_at dksX5_goings_2 4 rfl rfl)
theorem dX5_goings_52 : decode cX5_goings 52 = .ok (.invokevirtual 93, 3) := dk_182 0 93 (dk_at dksX5_goings_2 6 rfl rfl)
theorem dX5_goings_55 : decode cX5_goings 55 = .ok (.ireturn, 1) := dk_172 (dk_at dksX5_goings_2 9 rfl rfl)
theorem dX5_goings_56 : decode cX5_goings 56 = .ok (.aload_n 0, 1) := dk_42 (dk_at dksX5_goings_2 10 rfl rfl)
theorem dX5_goings_57 : decode cX5_goings 57 = .ok (.iload_n 1, 1) := dk_27 (dk_at dksX5_goings_2 11 rfl rfl)
theorem dX5_goings_58 : decode cX5_goings 58 = .ok (.invokevirtual 97, 3) := dk_182 0 97 (dk_at dksX5_goings_2 12 rfl rfl)
theorem dX5_goings_61 : decode cX5_goings 61 = .ok (.istore 5, 2) := dk_54 5 (dk_at dksX5_goings_2 15 rfl rfl)
theorem dX5_goings_63 : decode cX5_goings 63 = .ok (.iload 5, 2) := dk_21 5 (dk_at dksX5_goings_2 17 rfl rfl)
theorem dX5_goings_65 : decode cX5_goings 65 = .ok (.ifCond .eq 6, 3) := dk_153 0 6 (dk_at dksX5_goings_2 19 rfl rfl)
theorem dX5_goings_68 : decode cX5_goings 68 = .ok (.iload 5, 2) := dk_21 5 (dk_at dksX5_goings_2 22 rfl rfl)
theorem dX5_goings_70 : decode cX5_goings 70 = .ok (.ireturn, 1) := dk_172 (dk_at dksX5_goings_3 0 rfl rfl)
theorem dX5_goings_71 : decode cX5_goings 71 = .ok (.aload_n 0, 1) := dk_42 (dk_at dksX5_goings_3 1 rfl rfl)
theorem dX5_goings_72 : decode cX5_goings 72 = .ok (.getfield 16, 3) := dk_180 0 16 (dk_at dksX5_goings_3 2 rfl rfl)
theorem dX5_goings_75 : decode cX5_goings 75 = .ok (.iload_n 1, 1) := dk_27 (dk_at dksX5_goings_3 5 rfl rfl)
theorem dX5_goings_76 : decode cX5_goings 76 = .ok (.iaload, 1) := dk_46 (dk_at dksX5_goings_3 6 rfl rfl)
theorem dX5_goings_77 : decode cX5_goings 77 = .ok (.iload_n 2, 1) := dk_28 (dk_at dksX5_goings_3 7 rfl rfl)
theorem dX5_goings_78 : decode cX5_goings 78 = .ok (.if_icmp .ge 10, 3) := dk_162 0 10 (dk_at dksX5_goings_3 8 rfl rfl)
theorem dX5_goings_81 : decode cX5_goings 81 = .ok (.aload_n 0, 1) := dk_42 (dk_at dksX5_goings_3 11 rfl rfl)
theorem dX5_goings_82 : decode cX5_goings 82 = .ok (.bipush (-2), 2) := dk_16 254 (dk_at dksX5_goings_3 12 rfl rfl)
theorem dX5_goings_84 : decode cX5_goings 84 = .ok (.invokevirtual 93, 3) := dk_182 0 93 (dk_at dksX5_goings_3 14 rfl rfl)
theorem dX5_goings_87 : decode cX5_goings 87 = .ok (.ireturn, 1) := dk_172 (dk_at dksX5_goings_3 17 rfl rfl)
theorem dX5_goings_88 : decode cX5_goings 88 = .ok (.iconst 0, 1) := dk_3 (dk_at dksX5_goings_3 18 rfl rfl)
theorem dX5_goings_89 : decode cX5_goings 89 = .ok (.istore 6, 2) := dk_54 6 (dk_at dksX5_goings_3 19 rfl rfl)
theorem dX5_goings_91 : decode cX5_goings 91 = .ok (.iload 6, 2) := dk_21 6 (dk_at dksX5_goings_3 21 rfl rfl)
theorem dX5_goings_93 : decode cX5_goings 93 = .ok (.iload_n 2, 1) := dk_28 (dk_at dksX5_goings_3 23 rfl rfl)
theorem dX5_goings_94 : decode cX5_goings 94 = .ok (.if_icmp .ge 35, 3) := dk_162 0 35 (dk_at dksX5_goings_4 0 rfl rfl)
theorem dX5_goings_97 : decode cX5_goings 97 = .ok (.aload_n 0, 1) := dk_42 (dk_at dksX5_goings_4 3 rfl rfl)
theorem dX5_goings_98 : decode cX5_goings 98 = .ok (.getfield 21, 3) := dk_180 0 21 (dk_at dksX5_goings_4 4 rfl rfl)
theorem dX5_goings_101 : decode cX5_goings 101 = .ok (.iload_n 1, 1) := dk_27 (dk_at dksX5_goings_4 7 rfl rfl)
theorem dX5_goings_102 : decode cX5_goings 102 = .ok (.aaload, 1) := dk_50 (dk_at dksX5_goings_4 8 rfl rfl)
theorem dX5_goings_103 : decode cX5_goings 103 = .ok (.iload 6, 2) := dk_21 6 (dk_at dksX5_goings_4 9 rfl rfl)
theorem dX5_goings_105 : decode cX5_goings 105 = .ok (.laload, 1) := dk_47 (dk_at dksX5_goings_4 11 rfl rfl)
theorem dX5_goings_106 : decode cX5_goings 106 = .ok (.lconst 0, 1) := dk_9 (dk_at dksX5_goings_4 12 rfl rfl)
theorem dX5_goings_107 : decode cX5_goings 107 = .ok (.ldc2_w 320, 3) := dk_20 1 64 (dk_at dksX5_goings_4 13 rfl rfl)
theorem dX5_goings_110 : decode cX5_goings 110 = .ok (.invokestatic 80, 3) := dk_184 0 80 (dk_at dksX5_goings_4 16 rfl rfl)
theorem dX5_goings_113 : decode cX5_goings 113 = .ok (.ifCond .ne 10, 3) := dk_154 0 10 (dk_at dksX5_goings_4 19 rfl rfl)
theorem dX5_goings_116 : decode cX5_goings 116 = .ok (.aload_n 0, 1) := dk_42 (dk_at dksX5_goings_4 22 rfl rfl)
theorem dX5_goings_117 : decode cX5_goings 117 = .ok (.bipush (-2), 2) := dk_16 254 (dk_at dksX5_goings_5 0 rfl rfl)
theorem dX5_goings_119 : decode cX5_goings 119 = .ok (.invokevirtual 93, 3) := dk_182 0 93 (dk_at dksX5_goings_5 2 rfl rfl)
theorem dX5_goings_122 : decode cX5_goings 122 = .ok (.ireturn, 1) := dk_172 (dk_at dksX5_goings_5 5 rfl rfl)
theorem dX5_goings_123 : decode cX5_goings 123 = .ok (.iinc 6 1, 3) := dk_132 6 1 (dk_at dksX5_goings_5 6 rfl rfl)
theorem dX5_goings_126 : decode cX5_goings 126 = .ok (.goto (-35), 3) := dk_167 255 221 (dk_at dksX5_goings_5 9 rfl rfl)
theorem dX5_goings_129 : decode cX5_goings 129 = .ok (.iconst 1, 1) := dk_4 (dk_at dksX5_goings_5 12 rfl rfl)
theorem dX5_goings_130 : decode cX5_goings 130 = .ok (.istore 6, 2) := dk_54 6 (dk_at dksX5_goings_5 13 rfl rfl)
theorem dX5_goings_132 : decode cX5_goings 132 = .ok (.iload 6, 2) := dk_21 6 (dk_at dksX5_goings_5 15 rfl rfl)
theorem dX5_goings_134 : decode cX5_goings 134 = .ok (.iload_n 2, 1) := dk_28 (dk_at dksX5_goings_5 17 rfl rfl)
theorem dX5_goings_135 : decode cX5_goings 135 = .ok (.if_icmp .ge 40, 3) := dk_162 0 40 (dk_at dksX5_goings_5 18 rfl rfl)
theorem dX5_goings_138 : decode cX5_goings 138 = .ok (.aload_n 0, 1) := dk_42 (dk_at dksX5_goings_5 21 rfl rfl)
theorem dX5_goings_139 : decode cX5_goings 139 = .ok (.getfield 21, 3) := dk_180 0 21 (dk_at dksX5_goings_6 0 rfl rfl)
theorem dX5_goings_142 : decode cX5_goings 142 = .ok (.iload_n 1, 1) := dk_27 (dk_at dksX5_goings_6 3 rfl rfl)
theorem dX5_goings_143 : decode cX5_goings 143 = .ok (.aaload, 1) := dk_50 (dk_at dksX5_goings_6 4 rfl rfl)
theorem dX5_goings_144 : decode cX5_goings 144 = .ok (.iload 6, 2) := dk_21 6 (dk_at dksX5_goings_6 5 rfl rfl)
theorem dX5_goings_146 : decode cX5_goings 146 = .ok (.laload, 1) := dk_47 (dk_at dksX5_goings_6 7 rfl rfl)
theorem dX5_goings_147 : decode cX5_goings 147 = .ok (.aload_n 0, 1) := dk_42 (dk_at dksX5_goings_6 8 rfl rfl)
theorem dX5_goings_148 : decode cX5_goings 148 = .ok (.getfield 21, 3) := dk_180 0 21 (dk_at dksX5_goings_6 9 rfl rfl)
theorem dX5_goings_151 : decode cX5_goings 151 = .ok (.iload_n 1, 1) := dk_27 (dk_at dksX5_goings_6 12 rfl rfl)
theorem dX5_goings_152 : decode cX5_goings 152 = .ok (.aaload, 1) := dk_50 (dk_at dksX5_goings_6 13 rfl rfl)
theorem dX5_goings_153 : decode cX5_goings 153 = .ok (.iload 6, 2) := dk_21 6 (dk_at dksX5_goings_6 14 rfl rfl)
theorem dX5_goings_155 : decode cX5_goings 155 = .ok (.iconst 1, 1) := dk_4 (dk_at dksX5_goings_6 16 rfl rfl)
theorem dX5_goings_156 : decode cX5_goings 156 = .ok (.isub, 1) := dk_100 (dk_at dksX5_goings_6 17 rfl rfl)
theorem dX5_goings_157 : decode cX5_goings 157 = .ok (.laload, 1) := dk_47 (dk_at dksX5_goings_6 18 rfl rfl)
theorem dX5_goings_158 : decode cX5_goings 158 = .ok (.lcmp, 1) := dk_148 (dk_at dksX5_goings_6 19 rfl rfl)
theorem dX5_goings_159 : decode cX5_goings 159 = .ok (.ifCond .ge 10, 3) := dk_156 0 10 (dk_at dksX5_goings_6 20 rfl rfl)
theorem dX5_goings_162 : decode cX5_goings 162 = .ok (.aload_n 0, 1) := dk_42 (dk_at dksX5_goings_6 23 rfl rfl)
theorem dX5_goings_163 : decode cX5_goings 163 = .ok (.bipush (-5), 2) := dk_16 251 (dk_at dksX5_goings_7 0 rfl rfl)
theorem dX5_goings_165 : decode cX5_goings 165 = .ok (.invokevirtual 93, 3) := dk_182 0 93 (dk_at dksX5_goings_7 2 rfl rfl)
theorem dX5_goings_168 : decode cX5_goings 168 = .ok (.ireturn, 1) := dk_172 (dk_at dksX5_goings_7 5 rfl rfl)
theorem dX5_goings_169 : decode cX5_goings 169 = .ok (.iinc 6 1, 3) := dk_132 6 1 (dk_at dksX5_goings_7 6 rfl rfl)
theorem dX5_goings_172 : decode cX5_goings 172 = .ok (.goto (-40), 3) := dk_167 255 216 (dk_at dksX5_goings_7 9 rfl rfl)
theorem dX5_goings_175 : decode cX5_goings 175 = .ok (.iconst 0, 1) := dk_3 (dk_at dksX5_goings_7 12 rfl rfl)
theorem dX5_goings_176 : decode cX5_goings 176 = .ok (.istore 6, 2) := dk_54 6 (dk_at dksX5_goings_7 13 rfl rfl)
theorem dX5_goings_178 : decode cX5_goings 178 = .ok (.iconst 0, 1) := dk_3 (dk_at dksX5_goings_7 15 rfl rfl)
theorem dX5_goings_179 : decode cX5_goings 179 = .ok (.istore 7, 2) := dk_54 7 (dk_at dksX5_goings_7 16 rfl rfl)
theorem dX5_goings_181 : decode cX5_goings 181 = .ok (.iload 7, 2) := dk_21 7 (dk_at dksX5_goings_7 18 rfl rfl)
theorem dX5_goings_183 : decode cX5_goings 183 = .ok (.iload_n 2, 1) := dk_28 (dk_at dksX5_goings_7 20 rfl rfl)
theorem dX5_goings_184 : decode cX5_goings 184 = .ok (.if_icmp .ge 60, 3) := dk_162 0 60 (dk_at dksX5_goings_7 21 rfl rfl)
theorem dX5_goings_187 : decode cX5_goings 187 = .ok (.iload 7, 2) := dk_21 7 (dk_at dksX5_goings_8 0 rfl rfl)
theorem dX5_goings_189 : decode cX5_goings 189 = .ok (.istore 8, 2) := dk_54 8 (dk_at dksX5_goings_8 2 rfl rfl)
theorem dX5_goings_191 : decode cX5_goings 191 = .ok (.iload 7, 2) := dk_21 7 (dk_at dksX5_goings_8 4 rfl rfl)
theorem dX5_goings_193 : decode cX5_goings 193 = .ok (.iload_n 2, 1) := dk_28 (dk_at dksX5_goings_8 6 rfl rfl)
theorem dX5_goings_194 : decode cX5_goings 194 = .ok (.if_icmp .ge 44, 3) := dk_162 0 44 (dk_at dksX5_goings_8 7 rfl rfl)
theorem dX5_goings_197 : decode cX5_goings 197 = .ok (.iload 7, 2) := dk_21 7 (dk_at dksX5_goings_8 10 rfl rfl)
theorem dX5_goings_199 : decode cX5_goings 199 = .ok (.iload 8, 2) := dk_21 8 (dk_at dksX5_goings_8 12 rfl rfl)
theorem dX5_goings_201 : decode cX5_goings 201 = .ok (.isub, 1) := dk_100 (dk_at dksX5_goings_8 14 rfl rfl)
theorem dX5_goings_202 : decode cX5_goings 202 = .ok (.iload_n 3, 1) := dk_29 (dk_at dksX5_goings_8 15 rfl rfl)
theorem dX5_goings_203 : decode cX5_goings 203 = .ok (.if_icmp .ge 35, 3) := dk_162 0 35 (dk_at dksX5_goings_8 16 rfl rfl)
theorem dX5_goings_206 : decode cX5_goings 206 = .ok (.aload_n 0, 1) := dk_42 (dk_at dksX5_goings_8 19 rfl rfl)
theorem dX5_goings_207 : decode cX5_goings 207 = .ok (.getfield 21, 3) := dk_180 0 21 (dk_at dksX5_goings_8 20 rfl rfl)
theorem dX5_goings_210 : decode cX5_goings 210 = .ok (.iload_n 1, 1) := dk_27 (dk_at dksX5_goings_8 23 rfl rfl)
theorem dX5_goings_211 : decode cX5_goings 211 = .ok (.aaload, 1) := dk_50 (dk_at dksX5_goings_9 0 rfl rfl)
theorem dX5_goings_212 : decode cX5_goings 212 = .ok (.iload 7, 2) := dk_21 7 (dk_at dksX5_goings_9 1 rfl rfl)
theorem dX5_goings_214 : decode cX5_goings 214 = .ok (.laload, 1) := dk_47 (dk_at dksX5_goings_9 3 rfl rfl)
theorem dX5_goings_215 : decode cX5_goings 215 = .ok (.aload_n 0, 1) := dk_42 (dk_at dksX5_goings_9 4 rfl rfl)
theorem dX5_goings_216 : decode cX5_goings 216 = .ok (.getfield 21, 3) := dk_180 0 21 (dk_at dksX5_goings_9 5 rfl rfl)
theorem dX5_goings_219 : decode cX5_goings 219 = .ok (.iload_n 1, 1) := dk_27 (dk_at dksX5_goings_9 8 rfl rfl)
theorem dX5_goings_220 : decode cX5_goings 220 = .ok (.aaload, 1) := dk_50 (dk_at dksX5_goings_9 9 rfl rfl)
theorem dX5_goings_221 : decode cX5_goings 221 = .ok (.iload 8, 2) := dk_21 8 (dk_at dksX5_goings_9 10 rfl rfl)
theorem dX5_goings_223 : decode cX5_goings 223 = .ok (.laload, 1) := dk_47 (dk_at dksX5_goings_9 12 rfl rfl)
theorem dX5_goings_224 : decode cX5_goings 224 = .ok (.iload 4, 2) := dk_21 4 (dk_at dksX5_goings_9 13 rfl rfl)
theorem dX5_goings_226 : decode cX5_goings 226 = .ok (.i2l, 1) := dk_133 (dk_at dksX5_goings_9 15 rfl rfl)
theorem dX5_goings_227 : decode cX5_goings 227 = .ok (.ladd, 1) := dk_97 (dk_at dksX5_goings_9 16 rfl rfl)
theorem dX5_goings_228 : decode cX5_goings 228 = .ok (.lcmp, 1) := dk_148 (dk_at dksX5_goings_9 17 rfl rfl)
theorem dX5_goings_229 : decode cX5_goings 229 = .ok (.ifCond .gt 9, 3) := dk_157 0 9 (dk_at dksX5_goings_9 18 rfl rfl)
theorem dX5_goings_232 : decode cX5_goings 232 = .ok (.iinc 7 1, 3) := dk_132 7 1 (dk_at dksX5_goings_9 21 rfl rfl)
theorem dX5_goings_235 : decode cX5_goings 235 = .ok (.goto (-44), 3) := dk_167 255 212 (dk_at dksX5_goings_10 0 rfl rfl)
theorem dX5_goings_238 : decode cX5_goings 238 = .ok (.iinc 6 1, 3) := dk_132 6 1 (dk_at dksX5_goings_10 3 rfl rfl)
theorem dX5_goings_241 : decode cX5_goings 241 = .ok (.goto (-60), 3) := dk_167 255 196 (dk_at dksX5_goings_10 6 rfl rfl)
theorem dX5_goings_244 : decode cX5_goings 244 = .ok (.iload 6, 2) := dk_21 6 (dk_at dksX5_goings_10 9 rfl rfl)
theorem dX5_goings_246 : decode cX5_goings 246 = .ok (.ireturn, 1) := dk_172 (dk_at dksX5_goings_10 11 rfl rfl)
abbrev cX5_week : ByteArray := prog_18_method_78_code
def yX5_week : MethodName := ⟨RX5, "week", "(I)I"⟩
def dkwX5_week_2 : List UInt8 := [180, 0, 56, 6, 46, 172]
abbrev dktX5_week_2 : List UInt8 := dkwX5_week_2 ++ []
def dkwX5_week_1 : List UInt8 := [42, 42, 180, 0, 56, 6, 46, 27, 182, 1, 66, 79, 42, 89, 180, 1, 69, 4, 96, 181, 1, 69, 42]
abbrev dktX5_week_1 : List UInt8 := dkwX5_week_1 ++ dktX5_week_2
def dkwX5_week_0 : List UInt8 := [27, 133, 9, 20, 1, 1, 184, 0, 80, 154, 0, 10, 42, 16, 254, 182, 0, 93, 172, 42, 180, 0, 56, 6]
abbrev dktX5_week_0 : List UInt8 := dkwX5_week_0 ++ dktX5_week_1
theorem dksX5_week_0 : cX5_week.data.toList.drop 0 = dktX5_week_0 := by decide +kernel
theorem dksX5_week_1 : cX5_week.data.toList.drop 24 = dktX5_week_1 := dk_seg dksX5_week_0 24 rfl rfl
theorem dksX5_week_2 : cX5_week.data.toList.drop 47 = dktX5_week_2 := dk_seg dksX5_week_1 23 rfl rfl
theorem dX5_week_0 : decode cX5_week 0 = .ok (.iload_n 1, 1) := dk_27 (dk_at dksX5_week_0 0 rfl rfl)
theorem dX5_week_1 : decode cX5_week 1 = .ok (.i2l, 1) := dk_133 (dk_at dksX5_week_0 1 rfl rfl)
theorem dX5_week_2 : decode cX5_week 2 = .ok (.lconst 0, 1) := dk_9 (dk_at dksX5_week_0 2 rfl rfl)
theorem dX5_week_3 : decode cX5_week 3 = .ok (.ldc2_w 257, 3) := dk_20 1 1 (dk_at dksX5_week_0 3 rfl rfl)
theorem dX5_week_6 : decode cX5_week 6 = .ok (.invokestatic 80, 3) := dk_184 0 80 (dk_at dksX5_week_0 6 rfl rfl)
theorem dX5_week_9 : decode cX5_week 9 = .ok (.ifCond .ne 10, 3) := dk_154 0 10 (dk_at dksX5_week_0 9 rfl rfl)
theorem dX5_week_12 : decode cX5_week 12 = .ok (.aload_n 0, 1) := dk_42 (dk_at dksX5_week_0 12 rfl rfl)
theorem dX5_week_13 : decode cX5_week 13 = .ok (.bipush (-2), 2) := dk_16 254 (dk_at dksX5_week_0 13 rfl rfl)
theorem dX5_week_15 : decode cX5_week 15 = .ok (.invokevirtual 93, 3) := dk_182 0 93 (dk_at dksX5_week_0 15 rfl rfl)
theorem dX5_week_18 : decode cX5_week 18 = .ok (.ireturn, 1) := dk_172 (dk_at dksX5_week_0 18 rfl rfl)
theorem dX5_week_19 : decode cX5_week 19 = .ok (.aload_n 0, 1) := dk_42 (dk_at dksX5_week_0 19 rfl rfl)
theorem dX5_week_20 : decode cX5_week 20 = .ok (.getfield 56, 3) := dk_180 0 56 (dk_at dksX5_week_0 20 rfl rfl)
theorem dX5_week_23 : decode cX5_week 23 = .ok (.iconst 3, 1) := dk_6 (dk_at dksX5_week_0 23 rfl rfl)
theorem dX5_week_24 : decode cX5_week 24 = .ok (.aload_n 0, 1) := dk_42 (dk_at dksX5_week_1 0 rfl rfl)
theorem dX5_week_25 : decode cX5_week 25 = .ok (.aload_n 0, 1) := dk_42 (dk_at dksX5_week_1 1 rfl rfl)
theorem dX5_week_26 : decode cX5_week 26 = .ok (.getfield 56, 3) := dk_180 0 56 (dk_at dksX5_week_1 2 rfl rfl)
theorem dX5_week_29 : decode cX5_week 29 = .ok (.iconst 3, 1) := dk_6 (dk_at dksX5_week_1 5 rfl rfl)
theorem dX5_week_30 : decode cX5_week 30 = .ok (.iaload, 1) := dk_46 (dk_at dksX5_week_1 6 rfl rfl)
theorem dX5_week_31 : decode cX5_week 31 = .ok (.iload_n 1, 1) := dk_27 (dk_at dksX5_week_1 7 rfl rfl)
theorem dX5_week_32 : decode cX5_week 32 = .ok (.invokevirtual 322, 3) := dk_182 1 66 (dk_at dksX5_week_1 8 rfl rfl)
theorem dX5_week_35 : decode cX5_week 35 = .ok (.iastore, 1) := dk_79 (dk_at dksX5_week_1 11 rfl rfl)
theorem dX5_week_36 : decode cX5_week 36 = .ok (.aload_n 0, 1) := dk_42 (dk_at dksX5_week_1 12 rfl rfl)
theorem dX5_week_37 : decode cX5_week 37 = .ok (.dup, 1) := dk_89 (dk_at dksX5_week_1 13 rfl rfl)
theorem dX5_week_38 : decode cX5_week 38 = .ok (.getfield 325, 3) := dk_180 1 69 (dk_at dksX5_week_1 14 rfl rfl)
theorem dX5_week_41 : decode cX5_week 41 = .ok (.iconst 1, 1) := dk_4 (dk_at dksX5_week_1 17 rfl rfl)
theorem dX5_week_42 : decode cX5_week 42 = .ok (.iadd, 1) := dk_96 (dk_at dksX5_week_1 18 rfl rfl)
theorem dX5_week_43 : decode cX5_week 43 = .ok (.putfield 325, 3) := dk_181 1 69 (dk_at dksX5_week_1 19 rfl rfl)
theorem dX5_week_46 : decode cX5_week 46 = .ok (.aload_n 0, 1) := dk_42 (dk_at dksX5_week_1 22 rfl rfl)
theorem dX5_week_47 : decode cX5_week 47 = .ok (.getfield 56, 3) := dk_180 0 56 (dk_at dksX5_week_2 0 rfl rfl)
theorem dX5_week_50 : decode cX5_week 50 = .ok (.iconst 3, 1) := dk_6 (dk_at dksX5_week_2 3 rfl rfl)
theorem dX5_week_51 : decode cX5_week 51 = .ok (.iaload, 1) := dk_46 (dk_at dksX5_week_2 4 rfl rfl)
theorem dX5_week_52 : decode cX5_week 52 = .ok (.ireturn, 1) := dk_172 (dk_at dksX5_week_2 5 rfl rfl)
abbrev cX5_healed : ByteArray := prog_18_method_77_code
def yX5_healed : MethodName := ⟨RX5, "healed", "(II)I"⟩
def dkwX5_healed_3 : List UInt8 := [21, 4, 172]
abbrev dktX5_healed_3 : List UInt8 := dkwX5_healed_3 ++ []
def dkwX5_healed_2 : List UInt8 := [54, 4, 21, 4, 156, 0, 7, 3, 167, 0, 17, 21, 4, 16, 100, 164, 0, 8, 16, 100, 167, 0, 5]
abbrev dktX5_healed_2 : List UInt8 := dkwX5_healed_2 ++ dktX5_healed_3
def dkwX5_healed_1 : List UInt8 := [167, 0, 19, 28, 42, 180, 0, 56, 7, 46, 162, 0, 7, 7, 167, 0, 5, 16, 250, 62, 27, 29, 96]
abbrev dktX5_healed_1 : List UInt8 := dkwX5_healed_1 ++ dktX5_healed_2
def dkwX5_healed_0 : List UInt8 := [28, 133, 42, 180, 0, 56, 7, 46, 133, 42, 180, 0, 56, 8, 46, 133, 184, 0, 80, 153, 0, 8, 16, 10]
abbrev dktX5_healed_0 : List UInt8 := dkwX5_healed_0 ++ dktX5_healed_1
theorem dksX5_healed_0 : cX5_healed.data.toList.drop 0 = dktX5_healed_0 := by decide +kernel
theorem dksX5_healed_1 : cX5_healed.data.toList.drop 24 = dktX5_healed_1 := dk_seg dksX5_healed_0 24 rfl rfl
theorem dksX5_healed_2 : cX5_healed.data.toList.drop 47 = dktX5_healed_2 := dk_seg dksX5_healed_1 23 rfl rfl
theorem dksX5_healed_3 : cX5_healed.data.toList.drop 70 = dktX5_healed_3 := dk_seg dksX5_healed_2 23 rfl rfl
theorem dX5_healed_0 : decode cX5_healed 0 = .ok (.iload_n 2, 1) := dk_28 (dk_at dksX5_healed_0 0 rfl rfl)
theorem dX5_healed_1 : decode cX5_healed 1 = .ok (.i2l, 1) := dk_133 (dk_at dksX5_healed_0 1 rfl rfl)
theorem dX5_healed_2 : decode cX5_healed 2 = .ok (.aload_n 0, 1) := dk_42 (dk_at dksX5_healed_0 2 rfl rfl)
theorem dX5_healed_3 : decode cX5_healed 3 = .ok (.getfield 56, 3) := dk_180 0 56 (dk_at dksX5_healed_0 3 rfl rfl)
theorem dX5_healed_6 : decode cX5_healed 6 = .ok (.iconst 4, 1) := dk_7 (dk_at dksX5_healed_0 6 rfl rfl)
theorem dX5_healed_7 : decode cX5_healed 7 = .ok (.iaload, 1) := dk_46 (dk_at dksX5_healed_0 7 rfl rfl)
theorem dX5_healed_8 : decode cX5_healed 8 = .ok (.i2l, 1) := dk_133 (dk_at dksX5_healed_0 8 rfl rfl)
theorem dX5_healed_9 : decode cX5_healed 9 = .ok (.aload_n 0, 1) := dk_42 (dk_at dksX5_healed_0 9 rfl rfl)
theorem dX5_healed_10 : decode cX5_healed 10 = .ok (.getfield 56, 3) := dk_180 0 56 (dk_at dksX5_healed_0 10 rfl rfl)
theorem dX5_healed_13 : decode cX5_healed 13 = .ok (.iconst 5, 1) := dk_8 (dk_at dksX5_healed_0 13 rfl rfl)
theorem dX5_healed_14 : decode cX5_healed 14 = .ok (.iaload, 1) := dk_46 (dk_at dksX5_healed_0 14 rfl rfl)
theorem dX5_healed_15 : decode cX5_healed 15 = .ok (.i2l, 1) := dk_133 (dk_at dksX5_healed_0 15 rfl rfl)
theorem dX5_healed_16 : decode cX5_healed 16 = .ok (.invokestatic 80, 3) := dk_184 0 80 (dk_at dksX5_healed_0 16 rfl rfl)
theorem dX5_healed_19 : decode cX5_healed 19 = .ok (.ifCond .eq 8, 3) := dk_153 0 8 (dk_at dksX5_healed_0 19 rfl rfl)
theorem dX5_healed_22 : decode cX5_healed 22 = .ok (.bipush 10, 2) := dk_16 10 (dk_at dksX5_healed_0 22 rfl rfl)
theorem dX5_healed_24 : decode cX5_healed 24 = .ok (.goto 19, 3) := dk_167 0 19 (dk_at dksX5_healed_1 0 rfl rfl)
theorem dX5_healed_27 : decode cX5_healed 27 = .ok (.iload_n 2, 1) := dk_28 (dk_at dksX5_healed_1 3 rfl rfl)
theorem dX5_healed_28 : decode cX5_healed 28 = .ok (.aload_n 0, 1) := dk_42 (dk_at dksX5_healed_1 4 rfl rfl)
theorem dX5_healed_29 : decode cX5_healed 29 = .ok (.getfield 56, 3) := dk_180 0 56 (dk_at dksX5_healed_1 5 rfl rfl)
theorem dX5_healed_32 : decode cX5_healed 32 = .ok (.iconst 4, 1) := dk_7 (dk_at dksX5_healed_1 8 rfl rfl)
theorem dX5_healed_33 : decode cX5_healed 33 = .ok (.iaload, 1) := dk_46 (dk_at dksX5_healed_1 9 rfl rfl)
theorem dX5_healed_34 : decode cX5_healed 34 = .ok (.if_icmp .ge 7, 3) := dk_162 0 7 (dk_at dksX5_healed_1 10 rfl rfl)
theorem dX5_healed_37 : decode cX5_healed 37 = .ok (.iconst 4, 1) := dk_7 (dk_at dksX5_healed_1 13 rfl rfl)
theorem dX5_healed_38 : decode cX5_healed 38 = .ok (.goto 5, 3) := dk_167 0 5 (dk_at dksX5_healed_1 14 rfl rfl)
theorem dX5_healed_41 : decode cX5_healed 41 = .ok (.bipush (-6), 2) := dk_16 250 (dk_at dksX5_healed_1 17 rfl rfl)
theorem dX5_healed_43 : decode cX5_healed 43 = .ok (.istore_n 3, 1) := dk_62 (dk_at dksX5_healed_1 19 rfl rfl)
theorem dX5_healed_44 : decode cX5_healed 44 = .ok (.iload_n 1, 1) := dk_27 (dk_at dksX5_healed_1 20 rfl rfl)
theorem dX5_healed_45 : decode cX5_healed 45 = .ok (.iload_n 3, 1) := dk_29 (dk_at dksX5_healed_1 21 rfl rfl)
theorem dX5_healed_46 : decode cX5_healed 46 = .ok (.iadd, 1) := dk_96 (dk_at dksX5_healed_1 22 rfl rfl)
theorem dX5_healed_47 : decode cX5_healed 47 = .ok (.istore 4, 2) := dk_54 4 (dk_at dksX5_healed_2 0 rfl rfl)
theorem dX5_healed_49 : decode cX5_healed 49 = .ok (.iload 4, 2) := dk_21 4 (dk_at dksX5_healed_2 2 rfl rfl)
theorem dX5_healed_51 : decode cX5_healed 51 = .ok (.ifCond .ge 7, 3) := dk_156 0 7 (dk_at dksX5_healed_2 4 rfl rfl)
theorem dX5_healed_54 : decode cX5_healed 54 = .ok (.iconst 0, 1) := dk_3 (dk_at dksX5_healed_2 7 rfl rfl)
theorem dX5_healed_55 : decode cX5_healed 55 = .ok (.goto 17, 3) := dk_167 0 17 (dk_at dksX5_healed_2 8 rfl rfl)
theorem dX5_healed_58 : decode cX5_healed 58 = .ok (.iload 4, 2) := dk_21 4 (dk_at dksX5_healed_2 11 rfl rfl)
theorem dX5_healed_60 : decode cX5_healed 60 = .ok (.bipush 100, 2) := dk_16 100 (dk_at dksX5_healed_2 13 rfl rfl)
theorem dX5_healed_62 : decode cX5_healed 62 = .ok (.if_icmp .le 8, 3) := dk_164 0 8 (dk_at dksX5_healed_2 15 rfl rfl)
theorem dX5_healed_65 : decode cX5_healed 65 = .ok (.bipush 100, 2) := dk_16 100 (dk_at dksX5_healed_2 18 rfl rfl)
theorem dX5_healed_67 : decode cX5_healed 67 = .ok (.goto 5, 3) := dk_167 0 5 (dk_at dksX5_healed_2 20 rfl rfl)
theorem dX5_healed_70 : decode cX5_healed 70 = .ok (.iload 4, 2) := dk_21 4 (dk_at dksX5_healed_3 0 rfl rfl)
theorem dX5_healed_72 : decode cX5_healed 72 = .ok (.ireturn, 1) := dk_172 (dk_at dksX5_healed_3 2 rfl rfl)
abbrev cX5_weeks : ByteArray := prog_18_method_80_code
def yX5_weeks : MethodName := ⟨RX5, "weeks", "(I)I"⟩
def dkwX5_weeks_1 : List UInt8 := [182, 0, 93, 172]
abbrev dktX5_weeks_1 : List UInt8 := dkwX5_weeks_1 ++ []
def dkwX5_weeks_0 : List UInt8 := [27, 133, 9, 20, 1, 1, 184, 0, 80, 153, 0, 11, 42, 27, 182, 1, 72, 167, 0, 9, 42, 16, 254]
abbrev dktX5_weeks_0 : List UInt8 := dkwX5_weeks_0 ++ dktX5_weeks_1
theorem dksX5_weeks_0 : cX5_weeks.data.toList.drop 0 = dktX5_weeks_0 := by decide +kernel
theorem dksX5_weeks_1 : cX5_weeks.data.toList.drop 23 = dktX5_weeks_1 := dk_seg dksX5_weeks_0 23 rfl rfl
theorem dX5_weeks_0 : decode cX5_weeks 0 = .ok (.iload_n 1, 1) := dk_27 (dk_at dksX5_weeks_0 0 rfl rfl)
theorem dX5_weeks_1 : decode cX5_weeks 1 = .ok (.i2l, 1) := dk_133 (dk_at dksX5_weeks_0 1 rfl rfl)
theorem dX5_weeks_2 : decode cX5_weeks 2 = .ok (.lconst 0, 1) := dk_9 (dk_at dksX5_weeks_0 2 rfl rfl)
theorem dX5_weeks_3 : decode cX5_weeks 3 = .ok (.ldc2_w 257, 3) := dk_20 1 1 (dk_at dksX5_weeks_0 3 rfl rfl)
theorem dX5_weeks_6 : decode cX5_weeks 6 = .ok (.invokestatic 80, 3) := dk_184 0 80 (dk_at dksX5_weeks_0 6 rfl rfl)
theorem dX5_weeks_9 : decode cX5_weeks 9 = .ok (.ifCond .eq 11, 3) := dk_153 0 11 (dk_at dksX5_weeks_0 9 rfl rfl)
theorem dX5_weeks_12 : decode cX5_weeks 12 = .ok (.aload_n 0, 1) := dk_42 (dk_at dksX5_weeks_0 12 rfl rfl)
theorem dX5_weeks_13 : decode cX5_weeks 13 = .ok (.iload_n 1, 1) := dk_27 (dk_at dksX5_weeks_0 13 rfl rfl)
theorem dX5_weeks_14 : decode cX5_weeks 14 = .ok (.invokevirtual 328, 3) := dk_182 1 72 (dk_at dksX5_weeks_0 14 rfl rfl)
theorem dX5_weeks_17 : decode cX5_weeks 17 = .ok (.goto 9, 3) := dk_167 0 9 (dk_at dksX5_weeks_0 17 rfl rfl)
theorem dX5_weeks_20 : decode cX5_weeks 20 = .ok (.aload_n 0, 1) := dk_42 (dk_at dksX5_weeks_0 20 rfl rfl)
theorem dX5_weeks_21 : decode cX5_weeks 21 = .ok (.bipush (-2), 2) := dk_16 254 (dk_at dksX5_weeks_0 21 rfl rfl)
theorem dX5_weeks_23 : decode cX5_weeks 23 = .ok (.invokevirtual 93, 3) := dk_182 0 93 (dk_at dksX5_weeks_1 0 rfl rfl)
theorem dX5_weeks_26 : decode cX5_weeks 26 = .ok (.ireturn, 1) := dk_172 (dk_at dksX5_weeks_1 3 rfl rfl)
abbrev cX5_weeksBy : ByteArray := prog_18_method_79_code
def yX5_weeksBy : MethodName := ⟨RX5, "weeksBy", "(I)I"⟩
def dkwX5_weeksBy_1 : List UInt8 := [28, 27, 182, 1, 66, 61, 132, 3, 1, 167, 255, 232, 2, 172]
abbrev dktX5_weeksBy_1 : List UInt8 := dkwX5_weeksBy_1 ++ []
def dkwX5_weeksBy_0 : List UInt8 := [42, 180, 0, 56, 6, 46, 61, 3, 62, 29, 16, 100, 163, 0, 24, 28, 16, 100, 160, 0, 5, 29, 172, 42]
abbrev dktX5_weeksBy_0 : List UInt8 := dkwX5_weeksBy_0 ++ dktX5_weeksBy_1
theorem dksX5_weeksBy_0 : cX5_weeksBy.data.toList.drop 0 = dktX5_weeksBy_0 := by decide +kernel
theorem dksX5_weeksBy_1 : cX5_weeksBy.data.toList.drop 24 = dktX5_weeksBy_1 := dk_seg dksX5_weeksBy_0 24 rfl rfl
theorem dX5_weeksBy_0 : decode cX5_weeksBy 0 = .ok (.aload_n 0, 1) := dk_42 (dk_at dksX5_weeksBy_0 0 rfl rfl)
theorem dX5_weeksBy_1 : decode cX5_weeksBy 1 = .ok (.getfield 56, 3) := dk_180 0 56 (dk_at dksX5_weeksBy_0 1 rfl rfl)
theorem dX5_weeksBy_4 : decode cX5_weeksBy 4 = .ok (.iconst 3, 1) := dk_6 (dk_at dksX5_weeksBy_0 4 rfl rfl)
theorem dX5_weeksBy_5 : decode cX5_weeksBy 5 = .ok (.iaload, 1) := dk_46 (dk_at dksX5_weeksBy_0 5 rfl rfl)
theorem dX5_weeksBy_6 : decode cX5_weeksBy 6 = .ok (.istore_n 2, 1) := dk_61 (dk_at dksX5_weeksBy_0 6 rfl rfl)
theorem dX5_weeksBy_7 : decode cX5_weeksBy 7 = .ok (.iconst 0, 1) := dk_3 (dk_at dksX5_weeksBy_0 7 rfl rfl)
theorem dX5_weeksBy_8 : decode cX5_weeksBy 8 = .ok (.istore_n 3, 1) := dk_62 (dk_at dksX5_weeksBy_0 8 rfl rfl)
theorem dX5_weeksBy_9 : decode cX5_weeksBy 9 = .ok (.iload_n 3, 1) := dk_29 (dk_at dksX5_weeksBy_0 9 rfl rfl)
theorem dX5_weeksBy_10 : decode cX5_weeksBy 10 = .ok (.bipush 100, 2) := dk_16 100 (dk_at dksX5_weeksBy_0 10 rfl rfl)
theorem dX5_weeksBy_12 : decode cX5_weeksBy 12 = .ok (.if_icmp .gt 24, 3) := dk_163 0 24 (dk_at dksX5_weeksBy_0 12 rfl rfl)
theorem dX5_weeksBy_15 : decode cX5_weeksBy 15 = .ok (.iload_n 2, 1) := dk_28 (dk_at dksX5_weeksBy_0 15 rfl rfl)
theorem dX5_weeksBy_16 : decode cX5_weeksBy 16 = .ok (.bipush 100, 2) := dk_16 100 (dk_at dksX5_weeksBy_0 16 rfl rfl)
theorem dX5_weeksBy_18 : decode cX5_weeksBy 18 = .ok (.if_icmp .ne 5, 3) := dk_160 0 5 (dk_at dksX5_weeksBy_0 18 rfl rfl)
theorem dX5_weeksBy_21 : decode cX5_weeksBy 21 = .ok (.iload_n 3, 1) := dk_29 (dk_at dksX5_weeksBy_0 21 rfl rfl)
theorem dX5_weeksBy_22 : decode cX5_weeksBy 22 = .ok (.ireturn, 1) := dk_172 (dk_at dksX5_weeksBy_0 22 rfl rfl)
theorem dX5_weeksBy_23 : decode cX5_weeksBy 23 = .ok (.aload_n 0, 1) := dk_42 (dk_at dksX5_weeksBy_0 23 rfl rfl)
theorem dX5_weeksBy_24 : decode cX5_weeksBy 24 = .ok (.iload_n 2, 1) := dk_28 (dk_at dksX5_weeksBy_1 0 rfl rfl)
theorem dX5_weeksBy_25 : decode cX5_weeksBy 25 = .ok (.iload_n 1, 1) := dk_27 (dk_at dksX5_weeksBy_1 1 rfl rfl)
theorem dX5_weeksBy_26 : decode cX5_weeksBy 26 = .ok (.invokevirtual 322, 3) := dk_182 1 66 (dk_at dksX5_weeksBy_1 2 rfl rfl)
theorem dX5_weeksBy_29 : decode cX5_weeksBy 29 = .ok (.istore_n 2, 1) := dk_61 (dk_at dksX5_weeksBy_1 5 rfl rfl)
theorem dX5_weeksBy_30 : decode cX5_weeksBy 30 = .ok (.iinc 3 1, 3) := dk_132 3 1 (dk_at dksX5_weeksBy_1 6 rfl rfl)
theorem dX5_weeksBy_33 : decode cX5_weeksBy 33 = .ok (.goto (-24), 3) := dk_167 255 232 (dk_at dksX5_weeksBy_1 9 rfl rfl)
theorem dX5_weeksBy_36 : decode cX5_weeksBy 36 = .ok (.iconst (-1), 1) := dk_2 (dk_at dksX5_weeksBy_1 12 rfl rfl)
theorem dX5_weeksBy_37 : decode cX5_weeksBy 37 = .ok (.ireturn, 1) := dk_172 (dk_at dksX5_weeksBy_1 13 rfl rfl)
abbrev cX5_when : ByteArray := prog_18_method_81_code
def yX5_when : MethodName := ⟨RX5, "when", "(III)I"⟩
def dkwX5_when_7 : List UInt8 := [21, 6, 4, 96, 172, 132, 6, 1, 167, 255, 212, 21, 5, 29, 161, 0, 7, 3, 167, 0, 4, 2, 172]
abbrev dktX5_when_7 : List UInt8 := dkwX5_when_7 ++ []
def dkwX5_when_6 : List UInt8 := [21, 5, 42, 180, 0, 21, 27, 50, 21, 6, 47, 136, 182, 1, 66, 54, 5, 21, 5, 29, 161, 0, 8]
abbrev dktX5_when_6 : List UInt8 := dkwX5_when_6 ++ dktX5_when_7
def dkwX5_when_5 : List UInt8 := [180, 0, 56, 6, 46, 54, 5, 3, 54, 6, 21, 6, 28, 162, 0, 44, 21, 5, 29, 162, 0, 38, 42]
abbrev dktX5_when_5 : List UInt8 := dkwX5_when_5 ++ dktX5_when_6
def dkwX5_when_4 : List UInt8 := [20, 1, 1, 184, 0, 80, 154, 0, 10, 42, 16, 254, 182, 0, 93, 172, 132, 5, 1, 167, 255, 221, 42]
abbrev dktX5_when_4 : List UInt8 := dkwX5_when_4 ++ dktX5_when_5
def dkwX5_when_3 : List UInt8 := [182, 0, 93, 172, 3, 54, 5, 21, 5, 28, 162, 0, 35, 42, 180, 0, 21, 27, 50, 21, 5, 47, 9]
abbrev dktX5_when_3 : List UInt8 := dkwX5_when_3 ++ dktX5_when_4
def dkwX5_when_2 : List UInt8 := [54, 4, 21, 4, 153, 0, 6, 21, 4, 172, 42, 180, 0, 16, 27, 46, 28, 162, 0, 10, 42, 16, 254]
abbrev dktX5_when_2 : List UInt8 := dkwX5_when_2 ++ dktX5_when_3
def dkwX5_when_1 : List UInt8 := [29, 133, 9, 20, 1, 41, 184, 0, 80, 154, 0, 10, 42, 16, 254, 182, 0, 93, 172, 42, 27, 182, 0, 97]
abbrev dktX5_when_1 : List UInt8 := dkwX5_when_1 ++ dktX5_when_2
def dkwX5_when_0 : List UInt8 := [27, 133, 9, 20, 0, 87, 184, 0, 80, 153, 0, 27, 28, 133, 9, 20, 0, 91, 184, 0, 80, 153, 0, 15]
abbrev dktX5_when_0 : List UInt8 := dkwX5_when_0 ++ dktX5_when_1
theorem dksX5_when_0 : cX5_when.data.toList.drop 0 = dktX5_when_0 := by decide +kernel
theorem dksX5_when_1 : cX5_when.data.toList.drop 24 = dktX5_when_1 := dk_seg dksX5_when_0 24 rfl rfl
theorem dksX5_when_2 : cX5_when.data.toList.drop 48 = dktX5_when_2 := dk_seg dksX5_when_1 24 rfl rfl
theorem dksX5_when_3 : cX5_when.data.toList.drop 71 = dktX5_when_3 := dk_seg dksX5_when_2 23 rfl rfl
theorem dksX5_when_4 : cX5_when.data.toList.drop 94 = dktX5_when_4 := dk_seg dksX5_when_3 23 rfl rfl
theorem dksX5_when_5 : cX5_when.data.toList.drop 117 = dktX5_when_5 := dk_seg dksX5_when_4 23 rfl rfl
theorem dksX5_when_6 : cX5_when.data.toList.drop 140 = dktX5_when_6 := dk_seg dksX5_when_5 23 rfl rfl
theorem dksX5_when_7 : cX5_when.data.toList.drop 163 = dktX5_when_7 := dk_seg dksX5_when_6 23 rfl rfl
theorem dX5_when_0 : decode cX5_when 0 = .ok (.iload_n 1, 1) := dk_27 (dk_at dksX5_when_0 0 rfl rfl)
theorem dX5_when_1 : decode cX5_when 1 = .ok (.i2l, 1) := dk_133 (dk_at dksX5_when_0 1 rfl rfl)
theorem dX5_when_2 : decode cX5_when 2 = .ok (.lconst 0, 1) := dk_9 (dk_at dksX5_when_0 2 rfl rfl)
theorem dX5_when_3 : decode cX5_when 3 = .ok (.ldc2_w 87, 3) := dk_20 0 87 (dk_at dksX5_when_0 3 rfl rfl)
theorem dX5_when_6 : decode cX5_when 6 = .ok (.invokestatic 80, 3) := dk_184 0 80 (dk_at dksX5_when_0 6 rfl rfl)
theorem dX5_when_9 : decode cX5_when 9 = .ok (.ifCond .eq 27, 3) := dk_153 0 27 (dk_at dksX5_when_0 9 rfl rfl)
theorem dX5_when_12 : decode cX5_when 12 = .ok (.iload_n 2, 1) := dk_28 (dk_at dksX5_when_0 12 rfl rfl)
theorem dX5_when_13 : decode cX5_when 13 = .ok (.i2l, 1) := dk_133 (dk_at dksX5_when_0 13 rfl rfl)
theorem dX5_when_14 : decode cX5_when 14 = .ok (.lconst 0, 1) := dk_9 (dk_at dksX5_when_0 14 rfl rfl)
theorem dX5_when_15 : decode cX5_when 15 = .ok (.ldc2_w 91, 3) := dk_20 0 91 (dk_at dksX5_when_0 15 rfl rfl)
theorem dX5_when_18 : decode cX5_when 18 = .ok (.invokestatic 80, 3) := dk_184 0 80 (dk_at dksX5_when_0 18 rfl rfl)
theorem dX5_when_21 : decode cX5_when 21 = .ok (.ifCond .eq 15, 3) := dk_153 0 15 (dk_at dksX5_when_0 21 rfl rfl)
theorem dX5_when_24 : decode cX5_when 24 = .ok (.iload_n 3, 1) := dk_29 (dk_at dksX5_when_1 0 rfl rfl)
theorem dX5_when_25 : decode cX5_when 25 = .ok (.i2l, 1) := dk_133 (dk_at dksX5_when_1 1 rfl rfl)
theorem dX5_when_26 : decode cX5_when 26 = .ok (.lconst 0, 1) := dk_9 (dk_at dksX5_when_1 2 rfl rfl)
theorem dX5_when_27 : decode cX5_when 27 = .ok (.ldc2_w 297, 3) := dk_20 1 41 (dk_at dksX5_when_1 3 rfl rfl)
theorem dX5_when_30 : decode cX5_when 30 = .ok (.invokestatic 80, 3) := dk_184 0 80 (dk_at dksX5_when_1 6 rfl rfl)
theorem dX5_when_33 : decode cX5_when 33 = .ok (.ifCond .ne 10, 3) := dk_154 0 10 (dk_at dksX5_when_1 9 rfl rfl)
theorem dX5_when_36 : decode cX5_when 36 = .ok (.aload_n 0, 1) := dk_42 (dk_at dksX5_when_1 12 rfl rfl)
theorem dX5_when_37 : decode cX5_when 37 = .ok (.bipush (-2), 2) := dk_16 254 (dk_at dksX5_when_1 13 rfl rfl)
theorem dX5_when_39 : decode cX5_when 39 = .ok (.invokevirtual 93, 3) := dk_182 0 93 (dk_at dksX5_when_1 15 rfl rfl)
theorem dX5_when_42 : decode cX5_when 42 = .ok (.ireturn, 1) := dk_172 (dk_at dksX5_when_1 18 rfl rfl)
theorem dX5_when_43 : decode cX5_when 43 = .ok (.aload_n 0, 1) := dk_42 (dk_at dksX5_when_1 19 rfl rfl)
theorem dX5_when_44 : decode cX5_when 44 = .ok (.iload_n 1, 1) := dk_27 (dk_at dksX5_when_1 20 rfl rfl)
theorem dX5_when_45 : decode cX5_when 45 = .ok (.invokevirtual 97, 3) := dk_182 0 97 (dk_at dksX5_when_1 21 rfl rfl)
theorem dX5_when_48 : decode cX5_when 48 = .ok (.istore 4, 2) := dk_54 4 (dk_at dksX5_when_2 0 rfl rfl)
theorem dX5_when_50 : decode cX5_when 50 = .ok (.iload 4, 2) := dk_21 4 (dk_at dksX5_when_2 2 rfl rfl)
theorem dX5_when_52 : decode cX5_when 52 = .ok (.ifCond .eq 6, 3) := dk_153 0 6 (dk_at dksX5_when_2 4 rfl rfl)
theorem dX5_when_55 : decode cX5_when 55 = .ok (.iload 4, 2) := dk_21 4 (dk_at dksX5_when_2 7 rfl rfl)
theorem dX5_when_57 : decode cX5_when 57 = .ok (.ireturn, 1) := dk_172 (dk_at dksX5_when_2 9 rfl rfl)
theorem dX5_when_58 : decode cX5_when 58 = .ok (.aload_n 0, 1) := dk_42 (dk_at dksX5_when_2 10 rfl rfl)
theorem dX5_when_59 : decode cX5_when 59 = .ok (.getfield 16, 3) := dk_180 0 16 (dk_at dksX5_when_2 11 rfl rfl)
theorem dX5_when_62 : decode cX5_when 62 = .ok (.iload_n 1, 1) := dk_27 (dk_at dksX5_when_2 14 rfl rfl)
theorem dX5_when_63 : decode cX5_when 63 = .ok (.iaload, 1) := dk_46 (dk_at dksX5_when_2 15 rfl rfl)
theorem dX5_when_64 : decode cX5_when 64 = .ok (.iload_n 2, 1) := dk_28 (dk_at dksX5_when_2 16 rfl rfl)
theorem dX5_when_65 : decode cX5_when 65 = .ok (.if_icmp .ge 10, 3) := dk_162 0 10 (dk_at dksX5_when_2 17 rfl rfl)
theorem dX5_when_68 : decode cX5_when 68 = .ok (.aload_n 0, 1) := dk_42 (dk_at dksX5_when_2 20 rfl rfl)
theorem dX5_when_69 : decode cX5_when 69 = .ok (.bipush (-2), 2) := dk_16 254 (dk_at dksX5_when_2 21 rfl rfl)
theorem dX5_when_71 : decode cX5_when 71 = .ok (.invokevirtual 93, 3) := dk_182 0 93 (dk_at dksX5_when_3 0 rfl rfl)
theorem dX5_when_74 : decode cX5_when 74 = .ok (.ireturn, 1) := dk_172 (dk_at dksX5_when_3 3 rfl rfl)
theorem dX5_when_75 : decode cX5_when 75 = .ok (.iconst 0, 1) := dk_3 (dk_at dksX5_when_3 4 rfl rfl)
theorem dX5_when_76 : decode cX5_when 76 = .ok (.istore 5, 2) := dk_54 5 (dk_at dksX5_when_3 5 rfl rfl)
theorem dX5_when_78 : decode cX5_when 78 = .ok (.iload 5, 2) := dk_21 5 (dk_at dksX5_when_3 7 rfl rfl)
theorem dX5_when_80 : decode cX5_when 80 = .ok (.iload_n 2, 1) := dk_28 (dk_at dksX5_when_3 9 rfl rfl)
theorem dX5_when_81 : decode cX5_when 81 = .ok (.if_icmp .ge 35, 3) := dk_162 0 35 (dk_at dksX5_when_3 10 rfl rfl)
theorem dX5_when_84 : decode cX5_when 84 = .ok (.aload_n 0, 1) := dk_42 (dk_at dksX5_when_3 13 rfl rfl)
theorem dX5_when_85 : decode cX5_when 85 = .ok (.getfield 21, 3) := dk_180 0 21 (dk_at dksX5_when_3 14 rfl rfl)
theorem dX5_when_88 : decode cX5_when 88 = .ok (.iload_n 1, 1) := dk_27 (dk_at dksX5_when_3 17 rfl rfl)
theorem dX5_when_89 : decode cX5_when 89 = .ok (.aaload, 1) := dk_50 (dk_at dksX5_when_3 18 rfl rfl)
theorem dX5_when_90 : decode cX5_when 90 = .ok (.iload 5, 2) := dk_21 5 (dk_at dksX5_when_3 19 rfl rfl)
theorem dX5_when_92 : decode cX5_when 92 = .ok (.laload, 1) := dk_47 (dk_at dksX5_when_3 21 rfl rfl)
theorem dX5_when_93 : decode cX5_when 93 = .ok (.lconst 0, 1) := dk_9 (dk_at dksX5_when_3 22 rfl rfl)
theorem dX5_when_94 : decode cX5_when 94 = .ok (.ldc2_w 257, 3) := dk_20 1 1 (dk_at dksX5_when_4 0 rfl rfl)
theorem dX5_when_97 : decode cX5_when 97 = .ok (.invokestatic 80, 3) := dk_184 0 80 (dk_at dksX5_when_4 3 rfl rfl)
theorem dX5_when_100 : decode cX5_when 100 = .ok (.ifCond .ne 10, 3) := dk_154 0 10 (dk_at dksX5_when_4 6 rfl rfl)
theorem dX5_when_103 : decode cX5_when 103 = .ok (.aload_n 0, 1) := dk_42 (dk_at dksX5_when_4 9 rfl rfl)
theorem dX5_when_104 : decode cX5_when 104 = .ok (.bipush (-2), 2) := dk_16 254 (dk_at dksX5_when_4 10 rfl rfl)
theorem dX5_when_106 : decode cX5_when 106 = .ok (.invokevirtual 93, 3) := dk_182 0 93 (dk_at dksX5_when_4 12 rfl rfl)
theorem dX5_when_109 : decode cX5_when 109 = .ok (.ireturn, 1) := dk_172 (dk_at dksX5_when_4 15 rfl rfl)
theorem dX5_when_110 : decode cX5_when 110 = .ok (.iinc 5 1, 3) := dk_132 5 1 (dk_at dksX5_when_4 16 rfl rfl)
theorem dX5_when_113 : decode cX5_when 113 = .ok (.goto (-35), 3) := dk_167 255 221 (dk_at dksX5_when_4 19 rfl rfl)
theorem dX5_when_116 : decode cX5_when 116 = .ok (.aload_n 0, 1) := dk_42 (dk_at dksX5_when_4 22 rfl rfl)
theorem dX5_when_117 : decode cX5_when 117 = .ok (.getfield 56, 3) := dk_180 0 56 (dk_at dksX5_when_5 0 rfl rfl)
theorem dX5_when_120 : decode cX5_when 120 = .ok (.iconst 3, 1) := dk_6 (dk_at dksX5_when_5 3 rfl rfl)
theorem dX5_when_121 : decode cX5_when 121 = .ok (.iaload, 1) := dk_46 (dk_at dksX5_when_5 4 rfl rfl)
theorem dX5_when_122 : decode cX5_when 122 = .ok (.istore 5, 2) := dk_54 5 (dk_at dksX5_when_5 5 rfl rfl)
theorem dX5_when_124 : decode cX5_when 124 = .ok (.iconst 0, 1) := dk_3 (dk_at dksX5_when_5 7 rfl rfl)
theorem dX5_when_125 : decode cX5_when 125 = .ok (.istore 6, 2) := dk_54 6 (dk_at dksX5_when_5 8 rfl rfl)
theorem dX5_when_127 : decode cX5_when 127 = .ok (.iload 6, 2) := dk_21 6 (dk_at dksX5_when_5 10 rfl rfl)
theorem dX5_when_129 : decode cX5_when 129 = .ok (.iload_n 2, 1) := dk_28 (dk_at dksX5_when_5 12 rfl rfl)
theorem dX5_when_130 : decode cX5_when 130 = .ok (.if_icmp .ge 44, 3) := dk_162 0 44 (dk_at dksX5_when_5 13 rfl rfl)
theorem dX5_when_133 : decode cX5_when 133 = .ok (.iload 5, 2) := dk_21 5 (dk_at dksX5_when_5 16 rfl rfl)
theorem dX5_when_135 : decode cX5_when 135 = .ok (.iload_n 3, 1) := dk_29 (dk_at dksX5_when_5 18 rfl rfl)
theorem dX5_when_136 : decode cX5_when 136 = .ok (.if_icmp .ge 38, 3) := dk_162 0 38 (dk_at dksX5_when_5 19 rfl rfl)
theorem dX5_when_139 : decode cX5_when 139 = .ok (.aload_n 0, 1) := dk_42 (dk_at dksX5_when_5 22 rfl rfl)
theorem dX5_when_140 : decode cX5_when 140 = .ok (.iload 5, 2) := dk_21 5 (dk_at dksX5_when_6 0 rfl rfl)
theorem dX5_when_142 : decode cX5_when 142 = .ok (.aload_n 0, 1) := dk_42 (dk_at dksX5_when_6 2 rfl rfl)
theorem dX5_when_143 : decode cX5_when 143 = .ok (.getfield 21, 3) := dk_180 0 21 (dk_at dksX5_when_6 3 rfl rfl)
theorem dX5_when_146 : decode cX5_when 146 = .ok (.iload_n 1, 1) := dk_27 (dk_at dksX5_when_6 6 rfl rfl)
theorem dX5_when_147 : decode cX5_when 147 = .ok (.aaload, 1) := dk_50 (dk_at dksX5_when_6 7 rfl rfl)
theorem dX5_when_148 : decode cX5_when 148 = .ok (.iload 6, 2) := dk_21 6 (dk_at dksX5_when_6 8 rfl rfl)
theorem dX5_when_150 : decode cX5_when 150 = .ok (.laload, 1) := dk_47 (dk_at dksX5_when_6 10 rfl rfl)
theorem dX5_when_151 : decode cX5_when 151 = .ok (.l2i, 1) := dk_136 (dk_at dksX5_when_6 11 rfl rfl)
theorem dX5_when_152 : decode cX5_when 152 = .ok (.invokevirtual 322, 3) := dk_182 1 66 (dk_at dksX5_when_6 12 rfl rfl)
theorem dX5_when_155 : decode cX5_when 155 = .ok (.istore 5, 2) := dk_54 5 (dk_at dksX5_when_6 15 rfl rfl)
theorem dX5_when_157 : decode cX5_when 157 = .ok (.iload 5, 2) := dk_21 5 (dk_at dksX5_when_6 17 rfl rfl)
theorem dX5_when_159 : decode cX5_when 159 = .ok (.iload_n 3, 1) := dk_29 (dk_at dksX5_when_6 19 rfl rfl)
theorem dX5_when_160 : decode cX5_when 160 = .ok (.if_icmp .lt 8, 3) := dk_161 0 8 (dk_at dksX5_when_6 20 rfl rfl)
theorem dX5_when_163 : decode cX5_when 163 = .ok (.iload 6, 2) := dk_21 6 (dk_at dksX5_when_7 0 rfl rfl)
theorem dX5_when_165 : decode cX5_when 165 = .ok (.iconst 1, 1) := dk_4 (dk_at dksX5_when_7 2 rfl rfl)
theorem dX5_when_166 : decode cX5_when 166 = .ok (.iadd, 1) := dk_96 (dk_at dksX5_when_7 3 rfl rfl)
theorem dX5_when_167 : decode cX5_when 167 = .ok (.ireturn, 1) := dk_172 (dk_at dksX5_when_7 4 rfl rfl)
theorem dX5_when_168 : decode cX5_when 168 = .ok (.iinc 6 1, 3) := dk_132 6 1 (dk_at dksX5_when_7 5 rfl rfl)
theorem dX5_when_171 : decode cX5_when 171 = .ok (.goto (-44), 3) := dk_167 255 212 (dk_at dksX5_when_7 8 rfl rfl)
theorem dX5_when_174 : decode cX5_when 174 = .ok (.iload 5, 2) := dk_21 5 (dk_at dksX5_when_7 11 rfl rfl)
theorem dX5_when_176 : decode cX5_when 176 = .ok (.iload_n 3, 1) := dk_29 (dk_at dksX5_when_7 13 rfl rfl)
theorem dX5_when_177 : decode cX5_when 177 = .ok (.if_icmp .lt 7, 3) := dk_161 0 7 (dk_at dksX5_when_7 14 rfl rfl)
theorem dX5_when_180 : decode cX5_when 180 = .ok (.iconst 0, 1) := dk_3 (dk_at dksX5_when_7 17 rfl rfl)
theorem dX5_when_181 : decode cX5_when 181 = .ok (.goto 4, 3) := dk_167 0 4 (dk_at dksX5_when_7 18 rfl rfl)
theorem dX5_when_184 : decode cX5_when 184 = .ok (.iconst (-1), 1) := dk_2 (dk_at dksX5_when_7 21 rfl rfl)
theorem dX5_when_185 : decode cX5_when 185 = .ok (.ireturn, 1) := dk_172 (dk_at dksX5_when_7 22 rfl rfl)
abbrev cX5_soonest : ByteArray := prog_18_method_82_code
def yX5_soonest : MethodName := ⟨RX5, "soonest", "()I"⟩
def dkwX5_soonest_3 : List UInt8 := [29, 27, 162, 0, 7, 29, 167, 0, 4, 27, 60, 132, 2, 1, 167, 255, 197, 27, 172]
abbrev dktX5_soonest_3 : List UInt8 := dkwX5_soonest_3 ++ []
def dkwX5_soonest_2 : List UInt8 := [167, 0, 13, 42, 42, 28, 3, 182, 0, 121, 182, 1, 72, 62, 29, 2, 159, 0, 17, 27, 2, 159, 0, 8]
abbrev dktX5_soonest_2 : List UInt8 := dkwX5_soonest_2 ++ dktX5_soonest_3
def dkwX5_soonest_1 : List UInt8 := [61, 28, 42, 180, 0, 84, 162, 0, 57, 42, 28, 3, 182, 0, 121, 17, 0, 200, 164, 0, 7, 2]
abbrev dktX5_soonest_1 : List UInt8 := dkwX5_soonest_1 ++ dktX5_soonest_2
def dkwX5_soonest_0 : List UInt8 := [42, 180, 0, 77, 153, 0, 10, 42, 180, 0, 84, 154, 0, 10, 42, 16, 251, 182, 0, 93, 172, 2, 60, 3]
abbrev dktX5_soonest_0 : List UInt8 := dkwX5_soonest_0 ++ dktX5_soonest_1
theorem dksX5_soonest_0 : cX5_soonest.data.toList.drop 0 = dktX5_soonest_0 := by decide +kernel
theorem dksX5_soonest_1 : cX5_soonest.data.toList.drop 24 = dktX5_soonest_1 := dk_seg dksX5_soonest_0 24 rfl rfl
theorem dksX5_soonest_2 : cX5_soonest.data.toList.drop 46 = dktX5_soonest_2 := dk_seg dksX5_soonest_1 22 rfl rfl
theorem dksX5_soonest_3 : cX5_soonest.data.toList.drop 70 = dktX5_soonest_3 := dk_seg dksX5_soonest_2 24 rfl rfl
theorem dX5_soonest_0 : decode cX5_soonest 0 = .ok (.aload_n 0, 1) := dk_42 (dk_at dksX5_soonest_0 0 rfl rfl)
theorem dX5_soonest_1 : decode cX5_soonest 1 = .ok (.getfield 77, 3) := dk_180 0 77 (dk_at dksX5_soonest_0 1 rfl rfl)
theorem dX5_soonest_4 : decode cX5_soonest 4 = .ok (.ifCond .eq 10, 3) := dk_153 0 10 (dk_at dksX5_soonest_0 4 rfl rfl)
theorem dX5_soonest_7 : decode cX5_soonest 7 = .ok (.aload_n 0, 1) := dk_42 (dk_at dksX5_soonest_0 7 rfl rfl)
theorem dX5_soonest_8 : decode cX5_soonest 8 = .ok (.getfield 84, 3) := dk_180 0 84 (dk_at dksX5_soonest_0 8 rfl rfl)
theorem dX5_soonest_11 : decode cX5_soonest 11 = .ok (.ifCond .ne 10, 3) := dk_154 0 10 (dk_at dksX5_soonest_0 11 rfl rfl)
theorem dX5_soonest_14 : decode cX5_soonest 14 = .ok (.aload_n 0, 1) := dk_42 (dk_at dksX5_soonest_0 14 rfl rfl)
theorem dX5_soonest_15 : decode cX5_soonest 15 = .ok (.bipush (-5), 2) := dk_16 251 (dk_at dksX5_soonest_0 15 rfl rfl)
theorem dX5_soonest_17 : decode cX5_soonest 17 = .ok (.invokevirtual 93, 3) := dk_182 0 93 (dk_at dksX5_soonest_0 17 rfl rfl)
theorem dX5_soonest_20 : decode cX5_soonest 20 = .ok (.ireturn, 1) := dk_172 (dk_at dksX5_soonest_0 20 rfl rfl)
theorem dX5_soonest_21 : decode cX5_soonest 21 = .ok (.iconst (-1), 1) := dk_2 (dk_at dksX5_soonest_0 21 rfl rfl)
theorem dX5_soonest_22 : decode cX5_soonest 22 = .ok (.istore_n 1, 1) := dk_60 (dk_at dksX5_soonest_0 22 rfl rfl)
theorem dX5_soonest_23 : decode cX5_soonest 23 = .ok (.iconst 0, 1) := dk_3 (dk_at dksX5_soonest_0 23 rfl rfl)
theorem dX5_soonest_24 : decode cX5_soonest 24 = .ok (.istore_n 2, 1) := dk_61 (dk_at dksX5_soonest_1 0 rfl rfl)
theorem dX5_soonest_25 : decode cX5_soonest 25 = .ok (.iload_n 2, 1) := dk_28 (dk_at dksX5_soonest_1 1 rfl rfl)
theorem dX5_soonest_26 : decode cX5_soonest 26 = .ok (.aload_n 0, 1) := dk_42 (dk_at dksX5_soonest_1 2 rfl rfl)
theorem dX5_soonest_27 : decode cX5_soonest 27 = .ok (.getfield 84, 3) := dk_180 0 84 (dk_at dksX5_soonest_1 3 rfl rfl)
theorem dX5_soonest_30 : decode cX5_soonest 30 = .ok (.if_icmp .ge 57, 3) := dk_162 0 57 (dk_at dksX5_soonest_1 6 rfl rfl)
theorem dX5_soonest_33 : decode cX5_soonest 33 = .ok (.aload_n 0, 1) := dk_42 (dk_at dksX5_soonest_1 9 rfl rfl)
theorem dX5_soonest_34 : decode cX5_soonest 34 = .ok (.iload_n 2, 1) := dk_28 (dk_at dksX5_soonest_1 10 rfl rfl)
theorem dX5_soonest_35 : decode cX5_soonest 35 = .ok (.iconst 0, 1) := dk_3 (dk_at dksX5_soonest_1 11 rfl rfl)
theorem dX5_soonest_36 : decode cX5_soonest 36 = .ok (.invokevirtual 121, 3) := dk_182 0 121 (dk_at dksX5_soonest_1 12 rfl rfl)
theorem dX5_soonest_39 : decode cX5_soonest 39 = .ok (.sipush 200, 3) := dk_17 0 200 (dk_at dksX5_soonest_1 15 rfl rfl)
theorem dX5_soonest_42 : decode cX5_soonest 42 = .ok (.if_icmp .le 7, 3) := dk_164 0 7 (dk_at dksX5_soonest_1 18 rfl rfl)
theorem dX5_soonest_45 : decode cX5_soonest 45 = .ok (.iconst (-1), 1) := dk_2 (dk_at dksX5_soonest_1 21 rfl rfl)
theorem dX5_soonest_46 : decode cX5_soonest 46 = .ok (.goto 13, 3) := dk_167 0 13 (dk_at dksX5_soonest_2 0 rfl rfl)
theorem dX5_soonest_49 : decode cX5_soonest 49 = .ok (.aload_n 0, 1) := dk_42 (dk_at dksX5_soonest_2 3 rfl rfl)
theorem dX5_soonest_50 : decode cX5_soonest 50 = .ok (.aload_n 0, 1) := dk_42 (dk_at dksX5_soonest_2 4 rfl rfl)
theorem dX5_soonest_51 : decode cX5_soonest 51 = .ok (.iload_n 2, 1) := dk_28 (dk_at dksX5_soonest_2 5 rfl rfl)
theorem dX5_soonest_52 : decode cX5_soonest 52 = .ok (.iconst 0, 1) := dk_3 (dk_at dksX5_soonest_2 6 rfl rfl)
theorem dX5_soonest_53 : decode cX5_soonest 53 = .ok (.invokevirtual 121, 3) := dk_182 0 121 (dk_at dksX5_soonest_2 7 rfl rfl)
theorem dX5_soonest_56 : decode cX5_soonest 56 = .ok (.invokevirtual 328, 3) := dk_182 1 72 (dk_at dksX5_soonest_2 10 rfl rfl)
theorem dX5_soonest_59 : decode cX5_soonest 59 = .ok (.istore_n 3, 1) := dk_62 (dk_at dksX5_soonest_2 13 rfl rfl)
theorem dX5_soonest_60 : decode cX5_soonest 60 = .ok (.iload_n 3, 1) := dk_29 (dk_at dksX5_soonest_2 14 rfl rfl)
theorem dX5_soonest_61 : decode cX5_soonest 61 = .ok (.iconst (-1), 1) := dk_2 (dk_at dksX5_soonest_2 15 rfl rfl)
theorem dX5_soonest_62 : decode cX5_soonest 62 = .ok (.if_icmp .eq 17, 3) := dk_159 0 17 (dk_at dksX5_soonest_2 16 rfl rfl)
theorem dX5_soonest_65 : decode cX5_soonest 65 = .ok (.iload_n 1, 1) := dk_27 (dk_at dksX5_soonest_2 19 rfl rfl)
theorem dX5_soonest_66 : decode cX5_soonest 66 = .ok (.iconst (-1), 1) := dk_2 (dk_at dksX5_soonest_2 20 rfl rfl)
theorem dX5_soonest_67 : decode cX5_soonest 67 = .ok (.if_icmp .eq 8, 3) := dk_159 0 8 (dk_at dksX5_soonest_2 21 rfl rfl)
theorem dX5_soonest_70 : decode cX5_soonest 70 = .ok (.iload_n 3, 1) := dk_29 (dk_at dksX5_soonest_3 0 rfl rfl)
theorem dX5_soonest_71 : decode cX5_soonest 71 = .ok (.iload_n 1, 1) := dk_27 (dk_at dksX5_soonest_3 1 rfl rfl)
theorem dX5_soonest_72 : decode cX5_soonest 72 = .ok (.if_icmp .ge 7, 3) := dk_162 0 7 (dk_at dksX5_soonest_3 2 rfl rfl)
theorem dX5_soonest_75 : decode cX5_soonest 75 = .ok (.iload_n 3, 1) := dk_29 (dk_at dksX5_soonest_3 5 rfl rfl)
theorem dX5_soonest_76 : decode cX5_soonest 76 = .ok (.goto 4, 3) := dk_167 0 4 (dk_at dksX5_soonest_3 6 rfl rfl)
theorem dX5_soonest_79 : decode cX5_soonest 79 = .ok (.iload_n 1, 1) := dk_27 (dk_at dksX5_soonest_3 9 rfl rfl)
theorem dX5_soonest_80 : decode cX5_soonest 80 = .ok (.istore_n 1, 1) := dk_60 (dk_at dksX5_soonest_3 10 rfl rfl)
theorem dX5_soonest_81 : decode cX5_soonest 81 = .ok (.iinc 2 1, 3) := dk_132 2 1 (dk_at dksX5_soonest_3 11 rfl rfl)
theorem dX5_soonest_84 : decode cX5_soonest 84 = .ok (.goto (-59), 3) := dk_167 255 197 (dk_at dksX5_soonest_3 14 rfl rfl)
theorem dX5_soonest_87 : decode cX5_soonest 87 = .ok (.iload_n 1, 1) := dk_27 (dk_at dksX5_soonest_3 17 rfl rfl)
theorem dX5_soonest_88 : decode cX5_soonest 88 = .ok (.ireturn, 1) := dk_172 (dk_at dksX5_soonest_3 18 rfl rfl)
abbrev cX5_climbs : ByteArray := prog_18_method_86_code
def yX5_climbs : MethodName := ⟨RX5, "climbs", "(I)I"⟩
def dkwX5_climbs_2 : List UInt8 := [29, 182, 1, 85, 153, 0, 9, 132, 3, 1, 167, 255, 228, 42, 29, 182, 1, 88, 172]
abbrev dktX5_climbs_2 : List UInt8 := dkwX5_climbs_2 ++ []
def dkwX5_climbs_1 : List UInt8 := [182, 0, 93, 172, 3, 62, 29, 42, 180, 0, 77, 162, 0, 26, 42, 42, 180, 0, 21, 27, 50, 29, 47, 136]
abbrev dktX5_climbs_1 : List UInt8 := dkwX5_climbs_1 ++ dktX5_climbs_2
def dkwX5_climbs_0 : List UInt8 := [42, 27, 182, 1, 14, 61, 28, 153, 0, 5, 28, 172, 42, 27, 182, 1, 17, 2, 159, 0, 10, 42, 16, 251]
abbrev dktX5_climbs_0 : List UInt8 := dkwX5_climbs_0 ++ dktX5_climbs_1
theorem dksX5_climbs_0 : cX5_climbs.data.toList.drop 0 = dktX5_climbs_0 := by decide +kernel
theorem dksX5_climbs_1 : cX5_climbs.data.toList.drop 24 = dktX5_climbs_1 := dk_seg dksX5_climbs_0 24 rfl rfl
theorem dksX5_climbs_2 : cX5_climbs.data.toList.drop 48 = dktX5_climbs_2 := dk_seg dksX5_climbs_1 24 rfl rfl
theorem dX5_climbs_0 : decode cX5_climbs 0 = .ok (.aload_n 0, 1) := dk_42 (dk_at dksX5_climbs_0 0 rfl rfl)
theorem dX5_climbs_1 : decode cX5_climbs 1 = .ok (.iload_n 1, 1) := dk_27 (dk_at dksX5_climbs_0 1 rfl rfl)
theorem dX5_climbs_2 : decode cX5_climbs 2 = .ok (.invokevirtual 270, 3) := dk_182 1 14 (dk_at dksX5_climbs_0 2 rfl rfl)
theorem dX5_climbs_5 : decode cX5_climbs 5 = .ok (.istore_n 2, 1) := dk_61 (dk_at dksX5_climbs_0 5 rfl rfl)
theorem dX5_climbs_6 : decode cX5_climbs 6 = .ok (.iload_n 2, 1) := dk_28 (dk_at dksX5_climbs_0 6 rfl rfl)
theorem dX5_climbs_7 : decode cX5_climbs 7 = .ok (.ifCond .eq 5, 3) := dk_153 0 5 (dk_at dksX5_climbs_0 7 rfl rfl)
theorem dX5_climbs_10 : decode cX5_climbs 10 = .ok (.iload_n 2, 1) := dk_28 (dk_at dksX5_climbs_0 10 rfl rfl)
theorem dX5_climbs_11 : decode cX5_climbs 11 = .ok (.ireturn, 1) := dk_172 (dk_at dksX5_climbs_0 11 rfl rfl)
theorem dX5_climbs_12 : decode cX5_climbs 12 = .ok (.aload_n 0, 1) := dk_42 (dk_at dksX5_climbs_0 12 rfl rfl)
theorem dX5_climbs_13 : decode cX5_climbs 13 = .ok (.iload_n 1, 1) := dk_27 (dk_at dksX5_climbs_0 13 rfl rfl)
theorem dX5_climbs_14 : decode cX5_climbs 14 = .ok (.invokevirtual 273, 3) := dk_182 1 17 (dk_at dksX5_climbs_0 14 rfl rfl)
theorem dX5_climbs_17 : decode cX5_climbs 17 = .ok (.iconst (-1), 1) := dk_2 (dk_at dksX5_climbs_0 17 rfl rfl)
theorem dX5_climbs_18 : decode cX5_climbs 18 = .ok (.if_icmp .eq 10, 3) := dk_159 0 10 (dk_at dksX5_climbs_0 18 rfl rfl)
theorem dX5_climbs_21 : decode cX5_climbs 21 = .ok (.aload_n 0, 1) := dk_42 (dk_at dksX5_climbs_0 21 rfl rfl)
theorem dX5_climbs_22 : decode cX5_climbs 22 = .ok (.bipush (-5), 2) := dk_16 251 (dk_at dksX5_climbs_0 22 rfl rfl)
theorem dX5_climbs_24 : decode cX5_climbs 24 = .ok (.invokevirtual 93, 3) := dk_182 0 93 (dk_at dksX5_climbs_1 0 rfl rfl)
theorem dX5_climbs_27 : decode cX5_climbs 27 = .ok (.ireturn, 1) := dk_172 (dk_at dksX5_climbs_1 3 rfl rfl)
theorem dX5_climbs_28 : decode cX5_climbs 28 = .ok (.iconst 0, 1) := dk_3 (dk_at dksX5_climbs_1 4 rfl rfl)
theorem dX5_climbs_29 : decode cX5_climbs 29 = .ok (.istore_n 3, 1) := dk_62 (dk_at dksX5_climbs_1 5 rfl rfl)
theorem dX5_climbs_30 : decode cX5_climbs 30 = .ok (.iload_n 3, 1) := dk_29 (dk_at dksX5_climbs_1 6 rfl rfl)
theorem dX5_climbs_31 : decode cX5_climbs 31 = .ok (.aload_n 0, 1) := dk_42 (dk_at dksX5_climbs_1 7 rfl rfl)
theorem dX5_climbs_32 : decode cX5_climbs 32 = .ok (.getfield 77, 3) := dk_180 0 77 (dk_at dksX5_climbs_1 8 rfl rfl)
theorem dX5_climbs_35 : decode cX5_climbs 35 = .ok (.if_icmp .ge 26, 3) := dk_162 0 26 (dk_at dksX5_climbs_1 11 rfl rfl)
theorem dX5_climbs_38 : decode cX5_climbs 38 = .ok (.aload_n 0, 1) := dk_42 (dk_at dksX5_climbs_1 14 rfl rfl)
theorem dX5_climbs_39 : decode cX5_climbs 39 = .ok (.aload_n 0, 1) := dk_42 (dk_at dksX5_climbs_1 15 rfl rfl)
theorem dX5_climbs_40 : decode cX5_climbs 40 = .ok (.getfield 21, 3) := dk_180 0 21 (dk_at dksX5_climbs_1 16 rfl rfl)
theorem dX5_climbs_43 : decode cX5_climbs 43 = .ok (.iload_n 1, 1) := dk_27 (dk_at dksX5_climbs_1 19 rfl rfl)
theorem dX5_climbs_44 : decode cX5_climbs 44 = .ok (.aaload, 1) := dk_50 (dk_at dksX5_climbs_1 20 rfl rfl)
theorem dX5_climbs_45 : decode cX5_climbs 45 = .ok (.iload_n 3, 1) := dk_29 (dk_at dksX5_climbs_1 21 rfl rfl)
theorem dX5_climbs_46 : decode cX5_climbs 46 = .ok (.laload, 1) := dk_47 (dk_at dksX5_climbs_1 22 rfl rfl)
theorem dX5_climbs_47 : decode cX5_climbs 47 = .ok (.l2i, 1) := dk_136 (dk_at dksX5_climbs_1 23 rfl rfl)
theorem dX5_climbs_48 : decode cX5_climbs 48 = .ok (.iload_n 3, 1) := dk_29 (dk_at dksX5_climbs_2 0 rfl rfl)
theorem dX5_climbs_49 : decode cX5_climbs 49 = .ok (.invokevirtual 341, 3) := dk_182 1 85 (dk_at dksX5_climbs_2 1 rfl rfl)
theorem dX5_climbs_52 : decode cX5_climbs 52 = .ok (.ifCond .eq 9, 3) := dk_153 0 9 (dk_at dksX5_climbs_2 4 rfl rfl)
theorem dX5_climbs_55 : decode cX5_climbs 55 = .ok (.iinc 3 1, 3) := dk_132 3 1 (dk_at dksX5_climbs_2 7 rfl rfl)
theorem dX5_climbs_58 : decode cX5_climbs 58 = .ok (.goto (-28), 3) := dk_167 255 228 (dk_at dksX5_climbs_2 10 rfl rfl)
theorem dX5_climbs_61 : decode cX5_climbs 61 = .ok (.aload_n 0, 1) := dk_42 (dk_at dksX5_climbs_2 13 rfl rfl)
theorem dX5_climbs_62 : decode cX5_climbs 62 = .ok (.iload_n 3, 1) := dk_29 (dk_at dksX5_climbs_2 14 rfl rfl)
theorem dX5_climbs_63 : decode cX5_climbs 63 = .ok (.invokevirtual 344, 3) := dk_182 1 88 (dk_at dksX5_climbs_2 15 rfl rfl)
theorem dX5_climbs_66 : decode cX5_climbs 66 = .ok (.ireturn, 1) := dk_172 (dk_at dksX5_climbs_2 18 rfl rfl)
abbrev cX5_goesUp : ByteArray := prog_18_method_84_code
def yX5_goesUp : MethodName := ⟨RX5, "goesUp", "(II)Z"⟩
def dkwX5_goesUp_0 : List UInt8 := [42, 16, 100, 182, 1, 76, 42, 27, 28, 182, 0, 114, 161, 0, 7, 4, 167, 0, 4, 3, 172]
abbrev dktX5_goesUp_0 : List UInt8 := dkwX5_goesUp_0 ++ []
theorem dksX5_goesUp_0 : cX5_goesUp.data.toList.drop 0 = dktX5_goesUp_0 := by decide +kernel
theorem dX5_goesUp_0 : decode cX5_goesUp 0 = .ok (.aload_n 0, 1) := dk_42 (dk_at dksX5_goesUp_0 0 rfl rfl)
theorem dX5_goesUp_1 : decode cX5_goesUp 1 = .ok (.bipush 100, 2) := dk_16 100 (dk_at dksX5_goesUp_0 1 rfl rfl)
theorem dX5_goesUp_3 : decode cX5_goesUp 3 = .ok (.invokevirtual 332, 3) := dk_182 1 76 (dk_at dksX5_goesUp_0 3 rfl rfl)
theorem dX5_goesUp_6 : decode cX5_goesUp 6 = .ok (.aload_n 0, 1) := dk_42 (dk_at dksX5_goesUp_0 6 rfl rfl)
theorem dX5_goesUp_7 : decode cX5_goesUp 7 = .ok (.iload_n 1, 1) := dk_27 (dk_at dksX5_goesUp_0 7 rfl rfl)
theorem dX5_goesUp_8 : decode cX5_goesUp 8 = .ok (.iload_n 2, 1) := dk_28 (dk_at dksX5_goesUp_0 8 rfl rfl)
theorem dX5_goesUp_9 : decode cX5_goesUp 9 = .ok (.invokevirtual 114, 3) := dk_182 0 114 (dk_at dksX5_goesUp_0 9 rfl rfl)
theorem dX5_goesUp_12 : decode cX5_goesUp 12 = .ok (.if_icmp .lt 7, 3) := dk_161 0 7 (dk_at dksX5_goesUp_0 12 rfl rfl)
theorem dX5_goesUp_15 : decode cX5_goesUp 15 = .ok (.iconst 1, 1) := dk_4 (dk_at dksX5_goesUp_0 15 rfl rfl)
theorem dX5_goesUp_16 : decode cX5_goesUp 16 = .ok (.goto 4, 3) := dk_167 0 4 (dk_at dksX5_goesUp_0 16 rfl rfl)
theorem dX5_goesUp_19 : decode cX5_goesUp 19 = .ok (.iconst 0, 1) := dk_3 (dk_at dksX5_goesUp_0 19 rfl rfl)
theorem dX5_goesUp_20 : decode cX5_goesUp 20 = .ok (.ireturn, 1) := dk_172 (dk_at dksX5_goesUp_0 20 rfl rfl)
abbrev cX5_draw : ByteArray := prog_18_method_83_code
def yX5_draw : MethodName := ⟨RX5, "draw", "(I)I"⟩
def dkwX5_draw_1 : List UInt8 := [112, 172]
abbrev dktX5_draw_1 : List UInt8 := dkwX5_draw_1 ++ []
def dkwX5_draw_0 : List UInt8 := [42, 42, 180, 0, 59, 19, 1, 75, 104, 17, 48, 57, 96, 181, 0, 59, 42, 180, 0, 59, 16, 16, 124, 27]
abbrev dktX5_draw_0 : List UInt8 := dkwX5_draw_0 ++ dktX5_draw_1
theorem dksX5_draw_0 : cX5_draw.data.toList.drop 0 = dktX5_draw_0 := by decide +kernel
theorem dksX5_draw_1 : cX5_draw.data.toList.drop 24 = dktX5_draw_1 := dk_seg dksX5_draw_0 24 rfl rfl
theorem dX5_draw_0 : decode cX5_draw 0 = .ok (.aload_n 0, 1) := dk_42 (dk_at dksX5_draw_0 0 rfl rfl)
theorem dX5_draw_1 : decode cX5_draw 1 = .ok (.aload_n 0, 1) := dk_42 (dk_at dksX5_draw_0 1 rfl rfl)
theorem dX5_draw_2 : decode cX5_draw 2 = .ok (.getfield 59, 3) := dk_180 0 59 (dk_at dksX5_draw_0 2 rfl rfl)
theorem dX5_draw_5 : decode cX5_draw 5 = .ok (.ldc_w 331, 3) := dk_19 1 75 (dk_at dksX5_draw_0 5 rfl rfl)
theorem dX5_draw_8 : decode cX5_draw 8 = .ok (.imul, 1) := dk_104 (dk_at dksX5_draw_0 8 rfl rfl)
theorem dX5_draw_9 : decode cX5_draw 9 = .ok (.sipush 12345, 3) := dk_17 48 57 (dk_at dksX5_draw_0 9 rfl rfl)
theorem dX5_draw_12 : decode cX5_draw 12 = .ok (.iadd, 1) := dk_96 (dk_at dksX5_draw_0 12 rfl rfl)
theorem dX5_draw_13 : decode cX5_draw 13 = .ok (.putfield 59, 3) := dk_181 0 59 (dk_at dksX5_draw_0 13 rfl rfl)
theorem dX5_draw_16 : decode cX5_draw 16 = .ok (.aload_n 0, 1) := dk_42 (dk_at dksX5_draw_0 16 rfl rfl)
theorem dX5_draw_17 : decode cX5_draw 17 = .ok (.getfield 59, 3) := dk_180 0 59 (dk_at dksX5_draw_0 17 rfl rfl)
theorem dX5_draw_20 : decode cX5_draw 20 = .ok (.bipush 16, 2) := dk_16 16 (dk_at dksX5_draw_0 20 rfl rfl)
theorem dX5_draw_22 : decode cX5_draw 22 = .ok (.iushr, 1) := dk_124 (dk_at dksX5_draw_0 22 rfl rfl)
theorem dX5_draw_23 : decode cX5_draw 23 = .ok (.iload_n 1, 1) := dk_27 (dk_at dksX5_draw_0 23 rfl rfl)
theorem dX5_draw_24 : decode cX5_draw 24 = .ok (.irem, 1) := dk_112 (dk_at dksX5_draw_1 0 rfl rfl)
theorem dX5_draw_25 : decode cX5_draw 25 = .ok (.ireturn, 1) := dk_172 (dk_at dksX5_draw_1 1 rfl rfl)
abbrev cX5_ended : ByteArray := prog_18_method_85_code
def yX5_ended : MethodName := ⟨RX5, "ended", "(I)I"⟩
def dkwX5_ended_1 : List UInt8 := [167, 0, 4, 3, 96, 181, 1, 82, 27, 172]
abbrev dktX5_ended_1 : List UInt8 := dkwX5_ended_1 ++ []
def dkwX5_ended_0 : List UInt8 := [42, 89, 180, 1, 79, 4, 96, 181, 1, 79, 42, 89, 180, 1, 82, 27, 42, 180, 0, 77, 160, 0, 7, 4]
abbrev dktX5_ended_0 : List UInt8 := dkwX5_ended_0 ++ dktX5_ended_1
theorem dksX5_ended_0 : cX5_ended.data.toList.drop 0 = dktX5_ended_0 := by decide +kernel
theorem dksX5_ended_1 : cX5_ended.data.toList.drop 24 = dktX5_ended_1 := dk_seg dksX5_ended_0 24 rfl rfl
theorem dX5_ended_0 : decode cX5_ended 0 = .ok (.aload_n 0, 1) := dk_42 (dk_at dksX5_ended_0 0 rfl rfl)
theorem dX5_ended_1 : decode cX5_ended 1 = .ok (.dup, 1) := dk_89 (dk_at dksX5_ended_0 1 rfl rfl)
theorem dX5_ended_2 : decode cX5_ended 2 = .ok (.getfield 335, 3) := dk_180 1 79 (dk_at dksX5_ended_0 2 rfl rfl)
theorem dX5_ended_5 : decode cX5_ended 5 = .ok (.iconst 1, 1) := dk_4 (dk_at dksX5_ended_0 5 rfl rfl)
theorem dX5_ended_6 : decode cX5_ended 6 = .ok (.iadd, 1) := dk_96 (dk_at dksX5_ended_0 6 rfl rfl)
theorem dX5_ended_7 : decode cX5_ended 7 = .ok (.putfield 335, 3) := dk_181 1 79 (dk_at dksX5_ended_0 7 rfl rfl)
theorem dX5_ended_10 : decode cX5_ended 10 = .ok (.aload_n 0, 1) := dk_42 (dk_at dksX5_ended_0 10 rfl rfl)
theorem dX5_ended_11 : decode cX5_ended 11 = .ok (.dup, 1) := dk_89 (dk_at dksX5_ended_0 11 rfl rfl)
theorem dX5_ended_12 : decode cX5_ended 12 = .ok (.getfield 338, 3) := dk_180 1 82 (dk_at dksX5_ended_0 12 rfl rfl)
theorem dX5_ended_15 : decode cX5_ended 15 = .ok (.iload_n 1, 1) := dk_27 (dk_at dksX5_ended_0 15 rfl rfl)
theorem dX5_ended_16 : decode cX5_ended 16 = .ok (.aload_n 0, 1) := dk_42 (dk_at dksX5_ended_0 16 rfl rfl)
theorem dX5_ended_17 : decode cX5_ended 17 = .ok (.getfield 77, 3) := dk_180 0 77 (dk_at dksX5_ended_0 17 rfl rfl)
theorem dX5_ended_20 : decode cX5_ended 20 = .ok (.if_icmp .ne 7, 3) := dk_160 0 7 (dk_at dksX5_ended_0 20 rfl rfl)
theorem dX5_ended_23 : decode cX5_ended 23 = .ok (.iconst 1, 1) := dk_4 (dk_at dksX5_ended_0 23 rfl rfl)
theorem dX5_ended_24 : decode cX5_ended 24 = .ok (.goto 4, 3) := dk_167 0 4 (dk_at dksX5_ended_1 0 rfl rfl)
theorem dX5_ended_27 : decode cX5_ended 27 = .ok (.iconst 0, 1) := dk_3 (dk_at dksX5_ended_1 3 rfl rfl)
theorem dX5_ended_28 : decode cX5_ended 28 = .ok (.iadd, 1) := dk_96 (dk_at dksX5_ended_1 4 rfl rfl)
theorem dX5_ended_29 : decode cX5_ended 29 = .ok (.putfield 338, 3) := dk_181 1 82 (dk_at dksX5_ended_1 5 rfl rfl)
theorem dX5_ended_32 : decode cX5_ended 32 = .ok (.iload_n 1, 1) := dk_27 (dk_at dksX5_ended_1 8 rfl rfl)
theorem dX5_ended_33 : decode cX5_ended 33 = .ok (.ireturn, 1) := dk_172 (dk_at dksX5_ended_1 9 rfl rfl)
abbrev cX5_goes : ByteArray := prog_18_method_87_code
def yX5_goes : MethodName := ⟨RX5, "goes", "()I"⟩
def dkwX5_goes_3 : List UInt8 := [132, 2, 1, 167, 255, 214, 42, 28, 182, 1, 88, 172]
abbrev dktX5_goes_3 : List UInt8 := dkwX5_goes_3 ++ []
def dkwX5_goes_2 : List UInt8 := [46, 28, 182, 1, 85, 153, 0, 24, 42, 42, 180, 0, 65, 28, 50, 27, 46, 28, 27, 182, 1, 10, 60]
abbrev dktX5_goes_2 : List UInt8 := dkwX5_goes_2 ++ dktX5_goes_3
def dkwX5_goes_1 : List UInt8 := [180, 0, 56, 5, 46, 60, 3, 61, 28, 42, 180, 0, 77, 162, 0, 40, 42, 42, 180, 0, 65, 28, 50, 27]
abbrev dktX5_goes_1 : List UInt8 := dkwX5_goes_1 ++ dktX5_goes_2
def dkwX5_goes_0 : List UInt8 := [42, 16, 100, 4, 182, 1, 34, 42, 182, 1, 28, 153, 0, 10, 42, 16, 251, 182, 0, 93, 172, 42]
abbrev dktX5_goes_0 : List UInt8 := dkwX5_goes_0 ++ dktX5_goes_1
theorem dksX5_goes_0 : cX5_goes.data.toList.drop 0 = dktX5_goes_0 := by decide +kernel
theorem dksX5_goes_1 : cX5_goes.data.toList.drop 22 = dktX5_goes_1 := dk_seg dksX5_goes_0 22 rfl rfl
theorem dksX5_goes_2 : cX5_goes.data.toList.drop 46 = dktX5_goes_2 := dk_seg dksX5_goes_1 24 rfl rfl
theorem dksX5_goes_3 : cX5_goes.data.toList.drop 69 = dktX5_goes_3 := dk_seg dksX5_goes_2 23 rfl rfl
theorem dX5_goes_0 : decode cX5_goes 0 = .ok (.aload_n 0, 1) := dk_42 (dk_at dksX5_goes_0 0 rfl rfl)
theorem dX5_goes_1 : decode cX5_goes 1 = .ok (.bipush 100, 2) := dk_16 100 (dk_at dksX5_goes_0 1 rfl rfl)
theorem dX5_goes_3 : decode cX5_goes 3 = .ok (.iconst 1, 1) := dk_4 (dk_at dksX5_goes_0 3 rfl rfl)
theorem dX5_goes_4 : decode cX5_goes 4 = .ok (.invokevirtual 290, 3) := dk_182 1 34 (dk_at dksX5_goes_0 4 rfl rfl)
theorem dX5_goes_7 : decode cX5_goes 7 = .ok (.aload_n 0, 1) := dk_42 (dk_at dksX5_goes_0 7 rfl rfl)
theorem dX5_goes_8 : decode cX5_goes 8 = .ok (.invokevirtual 284, 3) := dk_182 1 28 (dk_at dksX5_goes_0 8 rfl rfl)
theorem dX5_goes_11 : decode cX5_goes 11 = .ok (.ifCond .eq 10, 3) := dk_153 0 10 (dk_at dksX5_goes_0 11 rfl rfl)
theorem dX5_goes_14 : decode cX5_goes 14 = .ok (.aload_n 0, 1) := dk_42 (dk_at dksX5_goes_0 14 rfl rfl)
theorem dX5_goes_15 : decode cX5_goes 15 = .ok (.bipush (-5), 2) := dk_16 251 (dk_at dksX5_goes_0 15 rfl rfl)
theorem dX5_goes_17 : decode cX5_goes 17 = .ok (.invokevirtual 93, 3) := dk_182 0 93 (dk_at dksX5_goes_0 17 rfl rfl)
theorem dX5_goes_20 : decode cX5_goes 20 = .ok (.ireturn, 1) := dk_172 (dk_at dksX5_goes_0 20 rfl rfl)
theorem dX5_goes_21 : decode cX5_goes 21 = .ok (.aload_n 0, 1) := dk_42 (dk_at dksX5_goes_0 21 rfl rfl)
theorem dX5_goes_22 : decode cX5_goes 22 = .ok (.getfield 56, 3) := dk_180 0 56 (dk_at dksX5_goes_1 0 rfl rfl)
theorem dX5_goes_25 : decode cX5_goes 25 = .ok (.iconst 2, 1) := dk_5 (dk_at dksX5_goes_1 3 rfl rfl)
theorem dX5_goes_26 : decode cX5_goes 26 = .ok (.iaload, 1) := dk_46 (dk_at dksX5_goes_1 4 rfl rfl)
theorem dX5_goes_27 : decode cX5_goes 27 = .ok (.istore_n 1, 1) := dk_60 (dk_at dksX5_goes_1 5 rfl rfl)
theorem dX5_goes_28 : decode cX5_goes 28 = .ok (.iconst 0, 1) := dk_3 (dk_at dksX5_goes_1 6 rfl rfl)
theorem dX5_goes_29 : decode cX5_goes 29 = .ok (.istore_n 2, 1) := dk_61 (dk_at dksX5_goes_1 7 rfl rfl)
theorem dX5_goes_30 : decode cX5_goes 30 = .ok (.iload_n 2, 1) := dk_28 (dk_at dksX5_goes_1 8 rfl rfl)
theorem dX5_goes_31 : decode cX5_goes 31 = .ok (.aload_n 0, 1) := dk_42 (dk_at dksX5_goes_1 9 rfl rfl)
theorem dX5_goes_32 : decode cX5_goes 32 = .ok (.getfield 77, 3) := dk_180 0 77 (dk_at dksX5_goes_1 10 rfl rfl)
theorem dX5_goes_35 : decode cX5_goes 35 = .ok (.if_icmp .ge 40, 3) := dk_162 0 40 (dk_at dksX5_goes_1 13 rfl rfl)
theorem dX5_goes_38 : decode cX5_goes 38 = .ok (.aload_n 0, 1) := dk_42 (dk_at dksX5_goes_1 16 rfl rfl)
theorem dX5_goes_39 : decode cX5_goes 39 = .ok (.aload_n 0, 1) := dk_42 (dk_at dksX5_goes_1 17 rfl rfl)
theorem dX5_goes_40 : decode cX5_goes 40 = .ok (.getfield 65, 3) := dk_180 0 65 (dk_at dksX5_goes_1 18 rfl rfl)
theorem dX5_goes_43 : decode cX5_goes 43 = .ok (.iload_n 2, 1) := dk_28 (dk_at dksX5_goes_1 21 rfl rfl)
theorem dX5_goes_44 : decode cX5_goes 44 = .ok (.aaload, 1) := dk_50 (dk_at dksX5_goes_1 22 rfl rfl)
theorem dX5_goes_45 : decode cX5_goes 45 = .ok (.iload_n 1, 1) := dk_27 (dk_at dksX5_goes_1 23 rfl rfl)
theorem dX5_goes_46 : decode cX5_goes 46 = .ok (.iaload, 1) := dk_46 (dk_at dksX5_goes_2 0 rfl rfl)
theorem dX5_goes_47 : decode cX5_goes 47 = .ok (.iload_n 2, 1) := dk_28 (dk_at dksX5_goes_2 1 rfl rfl)
theorem dX5_goes_48 : decode cX5_goes 48 = .ok (.invokevirtual 341, 3) := dk_182 1 85 (dk_at dksX5_goes_2 2 rfl rfl)
theorem dX5_goes_51 : decode cX5_goes 51 = .ok (.ifCond .eq 24, 3) := dk_153 0 24 (dk_at dksX5_goes_2 5 rfl rfl)
theorem dX5_goes_54 : decode cX5_goes 54 = .ok (.aload_n 0, 1) := dk_42 (dk_at dksX5_goes_2 8 rfl rfl)
theorem dX5_goes_55 : decode cX5_goes 55 = .ok (.aload_n 0, 1) := dk_42 (dk_at dksX5_goes_2 9 rfl rfl)
theorem dX5_goes_56 : decode cX5_goes 56 = .ok (.getfield 65, 3) := dk_180 0 65 (dk_at dksX5_goes_2 10 rfl rfl)
theorem dX5_goes_59 : decode cX5_goes 59 = .ok (.iload_n 2, 1) := dk_28 (dk_at dksX5_goes_2 13 rfl rfl)
theorem dX5_goes_60 : decode cX5_goes 60 = .ok (.aaload, 1) := dk_50 (dk_at dksX5_goes_2 14 rfl rfl)
theorem dX5_goes_61 : decode cX5_goes 61 = .ok (.iload_n 1, 1) := dk_27 (dk_at dksX5_goes_2 15 rfl rfl)
theorem dX5_goes_62 : decode cX5_goes 62 = .ok (.iaload, 1) := dk_46 (dk_at dksX5_goes_2 16 rfl rfl)
theorem dX5_goes_63 : decode cX5_goes 63 = .ok (.iload_n 2, 1) := dk_28 (dk_at dksX5_goes_2 17 rfl rfl)
theorem dX5_goes_64 : decode cX5_goes 64 = .ok (.iload_n 1, 1) := dk_27 (dk_at dksX5_goes_2 18 rfl rfl)
theorem dX5_goes_65 : decode cX5_goes 65 = .ok (.invokevirtual 266, 3) := dk_182 1 10 (dk_at dksX5_goes_2 19 rfl rfl)
theorem dX5_goes_68 : decode cX5_goes 68 = .ok (.istore_n 1, 1) := dk_60 (dk_at dksX5_goes_2 22 rfl rfl)
theorem dX5_goes_69 : decode cX5_goes 69 = .ok (.iinc 2 1, 3) := dk_132 2 1 (dk_at dksX5_goes_3 0 rfl rfl)
theorem dX5_goes_72 : decode cX5_goes 72 = .ok (.goto (-42), 3) := dk_167 255 214 (dk_at dksX5_goes_3 3 rfl rfl)
theorem dX5_goes_75 : decode cX5_goes 75 = .ok (.aload_n 0, 1) := dk_42 (dk_at dksX5_goes_3 6 rfl rfl)
theorem dX5_goes_76 : decode cX5_goes 76 = .ok (.iload_n 2, 1) := dk_28 (dk_at dksX5_goes_3 7 rfl rfl)
theorem dX5_goes_77 : decode cX5_goes 77 = .ok (.invokevirtual 344, 3) := dk_182 1 88 (dk_at dksX5_goes_3 8 rfl rfl)
theorem dX5_goes_80 : decode cX5_goes 80 = .ok (.ireturn, 1) := dk_172 (dk_at dksX5_goes_3 11 rfl rfl)
abbrev cX5_seed : ByteArray := prog_18_method_88_code
def yX5_seed : MethodName := ⟨RX5, "seed", "(I)I"⟩
def dkwX5_seed_0 : List UInt8 := [42, 180, 0, 59, 61, 42, 27, 181, 0, 59, 28, 172]
abbrev dktX5_seed_0 : List UInt8 := dkwX5_seed_0 ++ []
theorem dksX5_seed_0 : cX5_seed.data.toList.drop 0 = dktX5_seed_0 := by decide +kernel
theorem dX5_seed_0 : decode cX5_seed 0 = .ok (.aload_n 0, 1) := dk_42 (dk_at dksX5_seed_0 0 rfl rfl)
theorem dX5_seed_1 : decode cX5_seed 1 = .ok (.getfield 59, 3) := dk_180 0 59 (dk_at dksX5_seed_0 1 rfl rfl)
theorem dX5_seed_4 : decode cX5_seed 4 = .ok (.istore_n 2, 1) := dk_61 (dk_at dksX5_seed_0 4 rfl rfl)
theorem dX5_seed_5 : decode cX5_seed 5 = .ok (.aload_n 0, 1) := dk_42 (dk_at dksX5_seed_0 5 rfl rfl)
theorem dX5_seed_6 : decode cX5_seed 6 = .ok (.iload_n 1, 1) := dk_27 (dk_at dksX5_seed_0 6 rfl rfl)
theorem dX5_seed_7 : decode cX5_seed 7 = .ok (.putfield 59, 3) := dk_181 0 59 (dk_at dksX5_seed_0 7 rfl rfl)
theorem dX5_seed_10 : decode cX5_seed 10 = .ok (.iload_n 2, 1) := dk_28 (dk_at dksX5_seed_0 10 rfl rfl)
theorem dX5_seed_11 : decode cX5_seed 11 = .ok (.ireturn, 1) := dk_172 (dk_at dksX5_seed_0 11 rfl rfl)
abbrev cX5_image : ByteArray := prog_18_method_90_code
def yX5_image : MethodName := ⟨RX5, "image", "()I"⟩
def dkwX5_image_1 : List UInt8 := [182, 0, 245, 4, 172]
abbrev dktX5_image_1 : List UInt8 := dkwX5_image_1 ++ []
def dkwX5_image_0 : List UInt8 := [42, 180, 1, 91, 199, 0, 14, 42, 187, 0, 8, 89, 183, 1, 47, 181, 1, 91, 42, 180, 1, 91, 42]
abbrev dktX5_image_0 : List UInt8 := dkwX5_image_0 ++ dktX5_image_1
theorem dksX5_image_0 : cX5_image.data.toList.drop 0 = dktX5_image_0 := by decide +kernel
theorem dksX5_image_1 : cX5_image.data.toList.drop 23 = dktX5_image_1 := dk_seg dksX5_image_0 23 rfl rfl
theorem dX5_image_0 : decode cX5_image 0 = .ok (.aload_n 0, 1) := dk_42 (dk_at dksX5_image_0 0 rfl rfl)
theorem dX5_image_1 : decode cX5_image 1 = .ok (.getfield 347, 3) := dk_180 1 91 (dk_at dksX5_image_0 1 rfl rfl)
theorem dX5_image_4 : decode cX5_image 4 = .ok (.ifnonnull 14, 3) := dk_199 0 14 (dk_at dksX5_image_0 4 rfl rfl)
theorem dX5_image_7 : decode cX5_image 7 = .ok (.aload_n 0, 1) := dk_42 (dk_at dksX5_image_0 7 rfl rfl)
theorem dX5_image_8 : decode cX5_image 8 = .ok (.new 8, 3) := dk_187 0 8 (dk_at dksX5_image_0 8 rfl rfl)
theorem dX5_image_11 : decode cX5_image 11 = .ok (.dup, 1) := dk_89 (dk_at dksX5_image_0 11 rfl rfl)
theorem dX5_image_12 : decode cX5_image 12 = .ok (.invokespecial 303, 3) := dk_183 1 47 (dk_at dksX5_image_0 12 rfl rfl)
theorem dX5_image_15 : decode cX5_image 15 = .ok (.putfield 347, 3) := dk_181 1 91 (dk_at dksX5_image_0 15 rfl rfl)
theorem dX5_image_18 : decode cX5_image 18 = .ok (.aload_n 0, 1) := dk_42 (dk_at dksX5_image_0 18 rfl rfl)
theorem dX5_image_19 : decode cX5_image 19 = .ok (.getfield 347, 3) := dk_180 1 91 (dk_at dksX5_image_0 19 rfl rfl)
theorem dX5_image_22 : decode cX5_image 22 = .ok (.aload_n 0, 1) := dk_42 (dk_at dksX5_image_0 22 rfl rfl)
theorem dX5_image_23 : decode cX5_image 23 = .ok (.invokevirtual 245, 3) := dk_182 0 245 (dk_at dksX5_image_1 0 rfl rfl)
theorem dX5_image_26 : decode cX5_image 26 = .ok (.iconst 1, 1) := dk_4 (dk_at dksX5_image_1 3 rfl rfl)
theorem dX5_image_27 : decode cX5_image 27 = .ok (.ireturn, 1) := dk_172 (dk_at dksX5_image_1 4 rfl rfl)
abbrev cX5_back : ByteArray := prog_18_method_91_code
def yX5_back : MethodName := ⟨RX5, "back", "()I"⟩
def dkwX5_back_2 : List UInt8 := [180, 0, 84, 161, 0, 10, 42, 180, 0, 7, 27, 3, 79, 132, 1, 1, 167, 255, 217, 4, 172]
abbrev dktX5_back_2 : List UInt8 := dkwX5_back_2 ++ []
def dkwX5_back_1 : List UInt8 := [27, 16, 8, 162, 0, 39, 42, 180, 0, 7, 27, 46, 5, 160, 0, 23, 42, 180, 0, 28, 27, 46, 42]
abbrev dktX5_back_1 : List UInt8 := dkwX5_back_1 ++ dktX5_back_2
def dkwX5_back_0 : List UInt8 := [42, 180, 1, 91, 199, 0, 10, 42, 16, 251, 182, 0, 93, 172, 42, 42, 180, 1, 91, 182, 0, 245, 3, 60]
abbrev dktX5_back_0 : List UInt8 := dkwX5_back_0 ++ dktX5_back_1
theorem dksX5_back_0 : cX5_back.data.toList.drop 0 = dktX5_back_0 := by decide +kernel
theorem dksX5_back_1 : cX5_back.data.toList.drop 24 = dktX5_back_1 := dk_seg dksX5_back_0 24 rfl rfl
theorem dksX5_back_2 : cX5_back.data.toList.drop 47 = dktX5_back_2 := dk_seg dksX5_back_1 23 rfl rfl
theorem dX5_back_0 : decode cX5_back 0 = .ok (.aload_n 0, 1) := dk_42 (dk_at dksX5_back_0 0 rfl rfl)
theorem dX5_back_1 : decode cX5_back 1 = .ok (.getfield 347, 3) := dk_180 1 91 (dk_at dksX5_back_0 1 rfl rfl)
theorem dX5_back_4 : decode cX5_back 4 = .ok (.ifnonnull 10, 3) := dk_199 0 10 (dk_at dksX5_back_0 4 rfl rfl)
theorem dX5_back_7 : decode cX5_back 7 = .ok (.aload_n 0, 1) := dk_42 (dk_at dksX5_back_0 7 rfl rfl)
theorem dX5_back_8 : decode cX5_back 8 = .ok (.bipush (-5), 2) := dk_16 251 (dk_at dksX5_back_0 8 rfl rfl)
theorem dX5_back_10 : decode cX5_back 10 = .ok (.invokevirtual 93, 3) := dk_182 0 93 (dk_at dksX5_back_0 10 rfl rfl)
theorem dX5_back_13 : decode cX5_back 13 = .ok (.ireturn, 1) := dk_172 (dk_at dksX5_back_0 13 rfl rfl)
theorem dX5_back_14 : decode cX5_back 14 = .ok (.aload_n 0, 1) := dk_42 (dk_at dksX5_back_0 14 rfl rfl)
theorem dX5_back_15 : decode cX5_back 15 = .ok (.aload_n 0, 1) := dk_42 (dk_at dksX5_back_0 15 rfl rfl)
theorem dX5_back_16 : decode cX5_back 16 = .ok (.getfield 347, 3) := dk_180 1 91 (dk_at dksX5_back_0 16 rfl rfl)
theorem dX5_back_19 : decode cX5_back 19 = .ok (.invokevirtual 245, 3) := dk_182 0 245 (dk_at dksX5_back_0 19 rfl rfl)
theorem dX5_back_22 : decode cX5_back 22 = .ok (.iconst 0, 1) := dk_3 (dk_at dksX5_back_0 22 rfl rfl)
theorem dX5_back_23 : decode cX5_back 23 = .ok (.istore_n 1, 1) := dk_60 (dk_at dksX5_back_0 23 rfl rfl)
theorem dX5_back_24 : decode cX5_back 24 = .ok (.iload_n 1, 1) := dk_27 (dk_at dksX5_back_1 0 rfl rfl)
theorem dX5_back_25 : decode cX5_back 25 = .ok (.bipush 8, 2) := dk_16 8 (dk_at dksX5_back_1 1 rfl rfl)
theorem dX5_back_27 : decode cX5_back 27 = .ok (.if_icmp .ge 39, 3) := dk_162 0 39 (dk_at dksX5_back_1 3 rfl rfl)
theorem dX5_back_30 : decode cX5_back 30 = .ok (.aload_n 0, 1) := dk_42 (dk_at dksX5_back_1 6 rfl rfl)
theorem dX5_back_31 : decode cX5_back 31 = .ok (.getfield 7, 3) := dk_180 0 7 (dk_at dksX5_back_1 7 rfl rfl)
theorem dX5_back_34 : decode cX5_back 34 = .ok (.iload_n 1, 1) := dk_27 (dk_at dksX5_back_1 10 rfl rfl)
theorem dX5_back_35 : decode cX5_back 35 = .ok (.iaload, 1) := dk_46 (dk_at dksX5_back_1 11 rfl rfl)
theorem dX5_back_36 : decode cX5_back 36 = .ok (.iconst 2, 1) := dk_5 (dk_at dksX5_back_1 12 rfl rfl)
theorem dX5_back_37 : decode cX5_back 37 = .ok (.if_icmp .ne 23, 3) := dk_160 0 23 (dk_at dksX5_back_1 13 rfl rfl)
theorem dX5_back_40 : decode cX5_back 40 = .ok (.aload_n 0, 1) := dk_42 (dk_at dksX5_back_1 16 rfl rfl)
theorem dX5_back_41 : decode cX5_back 41 = .ok (.getfield 28, 3) := dk_180 0 28 (dk_at dksX5_back_1 17 rfl rfl)
theorem dX5_back_44 : decode cX5_back 44 = .ok (.iload_n 1, 1) := dk_27 (dk_at dksX5_back_1 20 rfl rfl)
theorem dX5_back_45 : decode cX5_back 45 = .ok (.iaload, 1) := dk_46 (dk_at dksX5_back_1 21 rfl rfl)
theorem dX5_back_46 : decode cX5_back 46 = .ok (.aload_n 0, 1) := dk_42 (dk_at dksX5_back_1 22 rfl rfl)
theorem dX5_back_47 : decode cX5_back 47 = .ok (.getfield 84, 3) := dk_180 0 84 (dk_at dksX5_back_2 0 rfl rfl)
theorem dX5_back_50 : decode cX5_back 50 = .ok (.if_icmp .lt 10, 3) := dk_161 0 10 (dk_at dksX5_back_2 3 rfl rfl)
theorem dX5_back_53 : decode cX5_back 53 = .ok (.aload_n 0, 1) := dk_42 (dk_at dksX5_back_2 6 rfl rfl)
theorem dX5_back_54 : decode cX5_back 54 = .ok (.getfield 7, 3) := dk_180 0 7 (dk_at dksX5_back_2 7 rfl rfl)
theorem dX5_back_57 : decode cX5_back 57 = .ok (.iload_n 1, 1) := dk_27 (dk_at dksX5_back_2 10 rfl rfl)
theorem dX5_back_58 : decode cX5_back 58 = .ok (.iconst 0, 1) := dk_3 (dk_at dksX5_back_2 11 rfl rfl)
theorem dX5_back_59 : decode cX5_back 59 = .ok (.iastore, 1) := dk_79 (dk_at dksX5_back_2 12 rfl rfl)
theorem dX5_back_60 : decode cX5_back 60 = .ok (.iinc 1 1, 3) := dk_132 1 1 (dk_at dksX5_back_2 13 rfl rfl)
theorem dX5_back_63 : decode cX5_back 63 = .ok (.goto (-39), 3) := dk_167 255 217 (dk_at dksX5_back_2 16 rfl rfl)
theorem dX5_back_66 : decode cX5_back 66 = .ok (.iconst 1, 1) := dk_4 (dk_at dksX5_back_2 19 rfl rfl)
theorem dX5_back_67 : decode cX5_back 67 = .ok (.ireturn, 1) := dk_172 (dk_at dksX5_back_2 20 rfl rfl)
abbrev cX5_status : ByteArray := prog_18_method_92_code
def yX5_status : MethodName := ⟨RX5, "status", "(I)I"⟩
def dkwX5_status_7 : List UInt8 := [167, 0, 4, 2, 172]
abbrev dktX5_status_7 : List UInt8 := dkwX5_status_7 ++ []
def dkwX5_status_6 : List UInt8 := [27, 133, 20, 1, 62, 20, 1, 94, 184, 0, 80, 153, 0, 15, 42, 180, 0, 34, 27, 16, 10, 100, 46]
abbrev dktX5_status_6 : List UInt8 := dkwX5_status_6 ++ dktX5_status_7
def dkwX5_status_5 : List UInt8 := [42, 180, 0, 7, 29, 46, 153, 0, 7, 4, 167, 0, 4, 3, 96, 61, 132, 3, 1, 167, 255, 230, 28, 172]
abbrev dktX5_status_5 : List UInt8 := dkwX5_status_5 ++ dktX5_status_6
def dkwX5_status_4 : List UInt8 := [167, 255, 236, 28, 172, 42, 180, 0, 144, 172, 42, 180, 0, 59, 172, 3, 62, 29, 16, 8, 162, 0, 26, 28]
abbrev dktX5_status_4 : List UInt8 := dkwX5_status_4 ++ dktX5_status_5
def dkwX5_status_3 : List UInt8 := [172, 3, 62, 29, 42, 180, 0, 77, 162, 0, 18, 28, 42, 180, 0, 37, 29, 46, 96, 61, 132, 3, 1]
abbrev dktX5_status_3 : List UInt8 := dkwX5_status_3 ++ dktX5_status_4
def dkwX5_status_2 : List UInt8 := [42, 180, 0, 77, 172, 42, 180, 0, 84, 172, 42, 180, 1, 79, 172, 42, 180, 1, 82, 172, 42, 180, 1, 69]
abbrev dktX5_status_2 : List UInt8 := dkwX5_status_2 ++ dktX5_status_3
def dkwX5_status_1 : List UInt8 := [170, 0, 0, 0, 144, 0, 0, 0, 0, 0, 0, 0, 8, 0, 0, 0, 49, 0, 0, 0, 54, 0, 0, 0, 59, 0, 0, 0, 64, 0, 0, 0, 69, 0, 0, 0, 74, 0, 0, 0, 101, 0, 0, 0, 106, 0, 0, 0, 111]
abbrev dktX5_status_1 : List UInt8 := dkwX5_status_1 ++ dktX5_status_2
def dkwX5_status_0 : List UInt8 := [3, 61, 27]
abbrev dktX5_status_0 : List UInt8 := dkwX5_status_0 ++ dktX5_status_1
theorem dksX5_status_0 : cX5_status.data.toList.drop 0 = dktX5_status_0 := by decide +kernel
theorem dksX5_status_1 : cX5_status.data.toList.drop 3 = dktX5_status_1 := dk_seg dksX5_status_0 3 rfl rfl
theorem dksX5_status_2 : cX5_status.data.toList.drop 52 = dktX5_status_2 := dk_seg dksX5_status_1 49 rfl rfl
theorem dksX5_status_3 : cX5_status.data.toList.drop 76 = dktX5_status_3 := dk_seg dksX5_status_2 24 rfl rfl
theorem dksX5_status_4 : cX5_status.data.toList.drop 99 = dktX5_status_4 := dk_seg dksX5_status_3 23 rfl rfl
theorem dksX5_status_5 : cX5_status.data.toList.drop 123 = dktX5_status_5 := dk_seg dksX5_status_4 24 rfl rfl
theorem dksX5_status_6 : cX5_status.data.toList.drop 147 = dktX5_status_6 := dk_seg dksX5_status_5 24 rfl rfl
theorem dksX5_status_7 : cX5_status.data.toList.drop 170 = dktX5_status_7 := dk_seg dksX5_status_6 23 rfl rfl
theorem dX5_status_0 : decode cX5_status 0 = .ok (.iconst 0, 1) := dk_3 (dk_at dksX5_status_0 0 rfl rfl)
theorem dX5_status_1 : decode cX5_status 1 = .ok (.istore_n 2, 1) := dk_61 (dk_at dksX5_status_0 1 rfl rfl)
theorem dX5_status_2 : decode cX5_status 2 = .ok (.iload_n 1, 1) := dk_27 (dk_at dksX5_status_0 2 rfl rfl)
theorem dX5_status_3 : decode cX5_status 3 = .ok (.tableswitch 144 0 8 #[49, 54, 59, 64, 69, 74, 101, 106, 111], 49) := by decide +kernel
theorem dX5_status_52 : decode cX5_status 52 = .ok (.aload_n 0, 1) := dk_42 (dk_at dksX5_status_2 0 rfl rfl)
theorem dX5_status_53 : decode cX5_status 53 = .ok (.getfield 77, 3) := dk_180 0 77 (dk_at dksX5_status_2 1 rfl rfl)
theorem dX5_status_56 : decode cX5_status 56 = .ok (.ireturn, 1) := dk_172 (dk_at dksX5_status_2 4 rfl rfl)
theorem dX5_status_57 : decode cX5_status 57 = .ok (.aload_n 0, 1) := dk_42 (dk_at dksX5_status_2 5 rfl rfl)
theorem dX5_status_58 : decode cX5_status 58 = .ok (.getfield 84, 3) := dk_180 0 84 (dk_at dksX5_status_2 6 rfl rfl)
theorem dX5_status_61 : decode cX5_status 61 = .ok (.ireturn, 1) := dk_172 (dk_at dksX5_status_2 9 rfl rfl)
theorem dX5_status_62 : decode cX5_status 62 = .ok (.aload_n 0, 1) := dk_42 (dk_at dksX5_status_2 10 rfl rfl)
theorem dX5_status_63 : decode cX5_status 63 = .ok (.getfield 335, 3) := dk_180 1 79 (dk_at dksX5_status_2 11 rfl rfl)
theorem dX5_status_66 : decode cX5_status 66 = .ok (.ireturn, 1) := dk_172 (dk_at dksX5_status_2 14 rfl rfl)
theorem dX5_status_67 : decode cX5_status 67 = .ok (.aload_n 0, 1) := dk_42 (dk_at dksX5_status_2 15 rfl rfl)
theorem dX5_status_68 : decode cX5_status 68 = .ok (.getfield 338, 3) := dk_180 1 82 (dk_at dksX5_status_2 16 rfl rfl)
theorem dX5_status_71 : decode cX5_status 71 = .ok (.ireturn, 1) := dk_172 (dk_at dksX5_status_2 19 rfl rfl)
theorem dX5_status_72 : decode cX5_status 72 = .ok (.aload_n 0, 1) := dk_42 (dk_at dksX5_status_2 20 rfl rfl)
theorem dX5_status_73 : decode cX5_status 73 = .ok (.getfield 325, 3) := dk_180 1 69 (dk_at dksX5_status_2 21 rfl rfl)
theorem dX5_status_76 : decode cX5_status 76 = .ok (.ireturn, 1) := dk_172 (dk_at dksX5_status_3 0 rfl rfl)
theorem dX5_status_77 : decode cX5_status 77 = .ok (.iconst 0, 1) := dk_3 (dk_at dksX5_status_3 1 rfl rfl)
theorem dX5_status_78 : decode cX5_status 78 = .ok (.istore_n 3, 1) := dk_62 (dk_at dksX5_status_3 2 rfl rfl)
theorem dX5_status_79 : decode cX5_status 79 = .ok (.iload_n 3, 1) := dk_29 (dk_at dksX5_status_3 3 rfl rfl)
theorem dX5_status_80 : decode cX5_status 80 = .ok (.aload_n 0, 1) := dk_42 (dk_at dksX5_status_3 4 rfl rfl)
theorem dX5_status_81 : decode cX5_status 81 = .ok (.getfield 77, 3) := dk_180 0 77 (dk_at dksX5_status_3 5 rfl rfl)
theorem dX5_status_84 : decode cX5_status 84 = .ok (.if_icmp .ge 18, 3) := dk_162 0 18 (dk_at dksX5_status_3 8 rfl rfl)
theorem dX5_status_87 : decode cX5_status 87 = .ok (.iload_n 2, 1) := dk_28 (dk_at dksX5_status_3 11 rfl rfl)
theorem dX5_status_88 : decode cX5_status 88 = .ok (.aload_n 0, 1) := dk_42 (dk_at dksX5_status_3 12 rfl rfl)
theorem dX5_status_89 : decode cX5_status 89 = .ok (.getfield 37, 3) := dk_180 0 37 (dk_at dksX5_status_3 13 rfl rfl)
theorem dX5_status_92 : decode cX5_status 92 = .ok (.iload_n 3, 1) := dk_29 (dk_at dksX5_status_3 16 rfl rfl)
theorem dX5_status_93 : decode cX5_status 93 = .ok (.iaload, 1) := dk_46 (dk_at dksX5_status_3 17 rfl rfl)
theorem dX5_status_94 : decode cX5_status 94 = .ok (.iadd, 1) := dk_96 (dk_at dksX5_status_3 18 rfl rfl)
theorem dX5_status_95 : decode cX5_status 95 = .ok (.istore_n 2, 1) := dk_61 (dk_at dksX5_status_3 19 rfl rfl)
theorem dX5_status_96 : decode cX5_status 96 = .ok (.iinc 3 1, 3) := dk_132 3 1 (dk_at dksX5_status_3 20 rfl rfl)
theorem dX5_status_99 : decode cX5_status 99 = .ok (.goto (-20), 3) := dk_167 255 236 (dk_at dksX5_status_4 0 rfl rfl)
theorem dX5_status_102 : decode cX5_status 102 = .ok (.iload_n 2, 1) := dk_28 (dk_at dksX5_status_4 3 rfl rfl)
theorem dX5_status_103 : decode cX5_status 103 = .ok (.ireturn, 1) := dk_172 (dk_at dksX5_status_4 4 rfl rfl)
theorem dX5_status_104 : decode cX5_status 104 = .ok (.aload_n 0, 1) := dk_42 (dk_at dksX5_status_4 5 rfl rfl)
theorem dX5_status_105 : decode cX5_status 105 = .ok (.getfield 144, 3) := dk_180 0 144 (dk_at dksX5_status_4 6 rfl rfl)
theorem dX5_status_108 : decode cX5_status 108 = .ok (.ireturn, 1) := dk_172 (dk_at dksX5_status_4 9 rfl rfl)
theorem dX5_status_109 : decode cX5_status 109 = .ok (.aload_n 0, 1) := dk_42 (dk_at dksX5_status_4 10 rfl rfl)
theorem dX5_status_110 : decode cX5_status 110 = .ok (.getfield 59, 3) := dk_180 0 59 (dk_at dksX5_status_4 11 rfl rfl)
theorem dX5_status_113 : decode cX5_status 113 = .ok (.ireturn, 1) := dk_172 (dk_at dksX5_status_4 14 rfl rfl)
theorem dX5_status_114 : decode cX5_status 114 = .ok (.iconst 0, 1) := dk_3 (dk_at dksX5_status_4 15 rfl rfl)
theorem dX5_status_115 : decode cX5_status 115 = .ok (.istore_n 3, 1) := dk_62 (dk_at dksX5_status_4 16 rfl rfl)
theorem dX5_status_116 : decode cX5_status 116 = .ok (.iload_n 3, 1) := dk_29 (dk_at dksX5_status_4 17 rfl rfl)
theorem dX5_status_117 : decode cX5_status 117 = .ok (.bipush 8, 2) := dk_16 8 (dk_at dksX5_status_4 18 rfl rfl)
theorem dX5_status_119 : decode cX5_status 119 = .ok (.if_icmp .ge 26, 3) := dk_162 0 26 (dk_at dksX5_status_4 20 rfl rfl)
theorem dX5_status_122 : decode cX5_status 122 = .ok (.iload_n 2, 1) := dk_28 (dk_at dksX5_status_4 23 rfl rfl)
theorem dX5_status_123 : decode cX5_status 123 = .ok (.aload_n 0, 1) := dk_42 (dk_at dksX5_status_5 0 rfl rfl)
theorem dX5_status_124 : decode cX5_status 124 = .ok (.getfield 7, 3) := dk_180 0 7 (dk_at dksX5_status_5 1 rfl rfl)
theorem dX5_status_127 : decode cX5_status 127 = .ok (.iload_n 3, 1) := dk_29 (dk_at dksX5_status_5 4 rfl rfl)
theorem dX5_status_128 : decode cX5_status 128 = .ok (.iaload, 1) := dk_46 (dk_at dksX5_status_5 5 rfl rfl)
theorem dX5_status_129 : decode cX5_status 129 = .ok (.ifCond .eq 7, 3) := dk_153 0 7 (dk_at dksX5_status_5 6 rfl rfl)
theorem dX5_status_132 : decode cX5_status 132 = .ok (.iconst 1, 1) := dk_4 (dk_at dksX5_status_5 9 rfl rfl)
theorem dX5_status_133 : decode cX5_status 133 = .ok (.goto 4, 3) := dk_167 0 4 (dk_at dksX5_status_5 10 rfl rfl)
theorem dX5_status_136 : decode cX5_status 136 = .ok (.iconst 0, 1) := dk_3 (dk_at dksX5_status_5 13 rfl rfl)
theorem dX5_status_137 : decode cX5_status 137 = .ok (.iadd, 1) := dk_96 (dk_at dksX5_status_5 14 rfl rfl)
theorem dX5_status_138 : decode cX5_status 138 = .ok (.istore_n 2, 1) := dk_61 (dk_at dksX5_status_5 15 rfl rfl)
theorem dX5_status_139 : decode cX5_status 139 = .ok (.iinc 3 1, 3) := dk_132 3 1 (dk_at dksX5_status_5 16 rfl rfl)
theorem dX5_status_142 : decode cX5_status 142 = .ok (.goto (-26), 3) := dk_167 255 230 (dk_at dksX5_status_5 19 rfl rfl)
theorem dX5_status_145 : decode cX5_status 145 = .ok (.iload_n 2, 1) := dk_28 (dk_at dksX5_status_5 22 rfl rfl)
theorem dX5_status_146 : decode cX5_status 146 = .ok (.ireturn, 1) := dk_172 (dk_at dksX5_status_5 23 rfl rfl)
theorem dX5_status_147 : decode cX5_status 147 = .ok (.iload_n 1, 1) := dk_27 (dk_at dksX5_status_6 0 rfl rfl)
theorem dX5_status_148 : decode cX5_status 148 = .ok (.i2l, 1) := dk_133 (dk_at dksX5_status_6 1 rfl rfl)
theorem dX5_status_149 : decode cX5_status 149 = .ok (.ldc2_w 318, 3) := dk_20 1 62 (dk_at dksX5_status_6 2 rfl rfl)
theorem dX5_status_152 : decode cX5_status 152 = .ok (.ldc2_w 350, 3) := dk_20 1 94 (dk_at dksX5_status_6 5 rfl rfl)
theorem dX5_status_155 : decode cX5_status 155 = .ok (.invokestatic 80, 3) := dk_184 0 80 (dk_at dksX5_status_6 8 rfl rfl)
theorem dX5_status_158 : decode cX5_status 158 = .ok (.ifCond .eq 15, 3) := dk_153 0 15 (dk_at dksX5_status_6 11 rfl rfl)
theorem dX5_status_161 : decode cX5_status 161 = .ok (.aload_n 0, 1) := dk_42 (dk_at dksX5_status_6 14 rfl rfl)
theorem dX5_status_162 : decode cX5_status 162 = .ok (.getfield 34, 3) := dk_180 0 34 (dk_at dksX5_status_6 15 rfl rfl)
theorem dX5_status_165 : decode cX5_status 165 = .ok (.iload_n 1, 1) := dk_27 (dk_at dksX5_status_6 18 rfl rfl)
theorem dX5_status_166 : decode cX5_status 166 = .ok (.bipush 10, 2) := dk_16 10 (dk_at dksX5_status_6 19 rfl rfl)
theorem dX5_status_168 : decode cX5_status 168 = .ok (.isub, 1) := dk_100 (dk_at dksX5_status_6 21 rfl rfl)
theorem dX5_status_169 : decode cX5_status 169 = .ok (.iaload, 1) := dk_46 (dk_at dksX5_status_6 22 rfl rfl)
theorem dX5_status_170 : decode cX5_status 170 = .ok (.goto 4, 3) := dk_167 0 4 (dk_at dksX5_status_7 0 rfl rfl)
theorem dX5_status_173 : decode cX5_status 173 = .ok (.iconst (-1), 1) := dk_2 (dk_at dksX5_status_7 3 rfl rfl)
theorem dX5_status_174 : decode cX5_status 174 = .ok (.ireturn, 1) := dk_172 (dk_at dksX5_status_7 4 rfl rfl)
theorem q79 : (Jvm.Cond.initialized "StairOnSticksModel") ∈ lw_all := lw_g (lw_at lw_m1 6 rfl) rfl
theorem q1502 : (Jvm.Cond.instantiable "StairOnSticksModel" (36 : Nat)) ∈ lw_all := lw_g (lw_at lw_m6 229 rfl) rfl
theorem q1504 : (Jvm.Cond.instanceMethod ({ cls := "StairOnSticksModel", name := "<init>", desc := "()V" } : Jvm.MethodName)) ∈ lw_all := lw_g (lw_at lw_m6 231 rfl) rfl
theorem q1505 : (Jvm.Cond.code ({ cls := "StairOnSticksModel", name := "<init>", desc := "()V" } : Jvm.MethodName) prog_18_method_1_code (1 : Nat) (Option.none : Option Jvm.ClassFile.FieldType)) ∈ lw_all := lw_g (lw_at lw_m6 232 rfl) rfl
theorem q1506 : (Jvm.Cond.methodLink "StairOnSticksModel" (1 : Nat) ({ cls := "java/lang/Object", name := "<init>", desc := "()V" } : Jvm.MethodName)) ∈ lw_all := lw_g (lw_at lw_m6 233 rfl) rfl
theorem q1507 : (Jvm.Cond.classLink "StairOnSticksModel" (19 : Nat) "[[J") ∈ lw_all := lw_g (lw_at lw_m6 234 rfl) rfl
theorem q1509 : (Jvm.Cond.classLink "StairOnSticksModel" (63 : Nat) "[[I") ∈ lw_all := lw_g (lw_at lw_m6 236 rfl) rfl
theorem q1510 : (Jvm.Cond.fieldLink "StairOnSticksModel" (7 : Nat) "StairOnSticksModel" "shelf" "[I") ∈ lw_all := lw_g (lw_at lw_m6 237 rfl) rfl
theorem q1511 : (Jvm.Cond.fieldLink "StairOnSticksModel" (13 : Nat) "StairOnSticksModel" "rowSort" "[I") ∈ lw_all := lw_g (lw_at lw_m6 238 rfl) rfl
theorem q1512 : (Jvm.Cond.fieldLink "StairOnSticksModel" (16 : Nat) "StairOnSticksModel" "rowSize" "[I") ∈ lw_all := lw_g (lw_at lw_m6 239 rfl) rfl
theorem q1513 : (Jvm.Cond.fieldLink "StairOnSticksModel" (21 : Nat) "StairOnSticksModel" "rows" "[[J") ∈ lw_all := lw_g (lw_at lw_m7 0 rfl) rfl
theorem q1514 : (Jvm.Cond.fieldLink "StairOnSticksModel" (24 : Nat) "StairOnSticksModel" "moved" "[J") ∈ lw_all := lw_g (lw_at lw_m7 1 rfl) rfl
theorem q1515 : (Jvm.Cond.fieldLink "StairOnSticksModel" (28 : Nat) "StairOnSticksModel" "shown" "[I") ∈ lw_all := lw_g (lw_at lw_m7 2 rfl) rfl
theorem q1516 : (Jvm.Cond.fieldLink "StairOnSticksModel" (31 : Nat) "StairOnSticksModel" "tape" "[I") ∈ lw_all := lw_g (lw_at lw_m7 3 rfl) rfl
theorem q1517 : (Jvm.Cond.fieldLink "StairOnSticksModel" (144 : Nat) "StairOnSticksModel" "tapeSize" "I") ∈ lw_all := lw_g (lw_at lw_m7 4 rfl) rfl
theorem q1518 : (Jvm.Cond.fieldLink "StairOnSticksModel" (34 : Nat) "StairOnSticksModel" "refused" "[I") ∈ lw_all := lw_g (lw_at lw_m7 5 rfl) rfl
theorem q1519 : (Jvm.Cond.fieldLink "StairOnSticksModel" (77 : Nat) "StairOnSticksModel" "steps" "I") ∈ lw_all := lw_g (lw_at lw_m7 6 rfl) rfl
theorem q1520 : (Jvm.Cond.fieldLink "StairOnSticksModel" (37 : Nat) "StairOnSticksModel" "rise" "[I") ∈ lw_all := lw_g (lw_at lw_m7 7 rfl) rfl
theorem q1521 : (Jvm.Cond.fieldLink "StairOnSticksModel" (40 : Nat) "StairOnSticksModel" "rail" "[Z") ∈ lw_all := lw_g (lw_at lw_m7 8 rfl) rfl
theorem q1522 : (Jvm.Cond.fieldLink "StairOnSticksModel" (44 : Nat) "StairOnSticksModel" "chair" "[Z") ∈ lw_all := lw_g (lw_at lw_m7 9 rfl) rfl
theorem q1523 : (Jvm.Cond.fieldLink "StairOnSticksModel" (47 : Nat) "StairOnSticksModel" "wet" "[Z") ∈ lw_all := lw_g (lw_at lw_m7 10 rfl) rfl
theorem q1524 : (Jvm.Cond.fieldLink "StairOnSticksModel" (84 : Nat) "StairOnSticksModel" "ways" "I") ∈ lw_all := lw_g (lw_at lw_m7 11 rfl) rfl
theorem q1525 : (Jvm.Cond.fieldLink "StairOnSticksModel" (50 : Nat) "StairOnSticksModel" "kind" "[I") ∈ lw_all := lw_g (lw_at lw_m7 12 rfl) rfl
theorem q1526 : (Jvm.Cond.fieldLink "StairOnSticksModel" (53 : Nat) "StairOnSticksModel" "by" "[I") ∈ lw_all := lw_g (lw_at lw_m7 13 rfl) rfl
theorem q1527 : (Jvm.Cond.fieldLink "StairOnSticksModel" (56 : Nat) "StairOnSticksModel" "asked" "[I") ∈ lw_all := lw_g (lw_at lw_m7 14 rfl) rfl
theorem q1528 : (Jvm.Cond.fieldLink "StairOnSticksModel" (335 : Nat) "StairOnSticksModel" "climbed" "I") ∈ lw_all := lw_g (lw_at lw_m7 15 rfl) rfl
theorem q1529 : (Jvm.Cond.fieldLink "StairOnSticksModel" (338 : Nat) "StairOnSticksModel" "came" "I") ∈ lw_all := lw_g (lw_at lw_m7 16 rfl) rfl
theorem q1530 : (Jvm.Cond.fieldLink "StairOnSticksModel" (325 : Nat) "StairOnSticksModel" "weeksGone" "I") ∈ lw_all := lw_g (lw_at lw_m7 17 rfl) rfl
theorem q1531 : (Jvm.Cond.fieldLink "StairOnSticksModel" (59 : Nat) "StairOnSticksModel" "seed" "I") ∈ lw_all := lw_g (lw_at lw_m7 18 rfl) rfl
theorem q1532 : (Jvm.Cond.fieldLink "StairOnSticksModel" (347 : Nat) "StairOnSticksModel" "kept" "LStairOnSticksModel;") ∈ lw_all := lw_g (lw_at lw_m7 19 rfl) rfl
theorem q1533 : (Jvm.Cond.fieldLink "StairOnSticksModel" (299 : Nat) "StairOnSticksModel" "tried" "LStairOnSticksModel;") ∈ lw_all := lw_g (lw_at lw_m7 20 rfl) rfl
theorem q1534 : (Jvm.Cond.fieldLink "StairOnSticksModel" (147 : Nat) "StairOnSticksModel" "at" "I") ∈ lw_all := lw_g (lw_at lw_m7 21 rfl) rfl
theorem q1535 : (Jvm.Cond.fieldLink "StairOnSticksModel" (156 : Nat) "StairOnSticksModel" "token" "I") ∈ lw_all := lw_g (lw_at lw_m7 22 rfl) rfl
theorem q1536 : (Jvm.Cond.fieldLink "StairOnSticksModel" (150 : Nat) "StairOnSticksModel" "from" "I") ∈ lw_all := lw_g (lw_at lw_m7 23 rfl) rfl
theorem q1537 : (Jvm.Cond.fieldLink "StairOnSticksModel" (153 : Nat) "StairOnSticksModel" "figures" "I") ∈ lw_all := lw_g (lw_at lw_m7 24 rfl) rfl
theorem q1538 : (Jvm.Cond.fieldLink "StairOnSticksModel" (166 : Nat) "StairOnSticksModel" "fault" "I") ∈ lw_all := lw_g (lw_at lw_m7 25 rfl) rfl
theorem q1539 : (Jvm.Cond.fieldLink "StairOnSticksModel" (183 : Nat) "StairOnSticksModel" "told" "I") ∈ lw_all := lw_g (lw_at lw_m7 26 rfl) rfl
theorem q1540 : (Jvm.Cond.fieldLink "StairOnSticksModel" (232 : Nat) "StairOnSticksModel" "statements" "I") ∈ lw_all := lw_g (lw_at lw_m7 27 rfl) rfl
theorem q1541 : (Jvm.Cond.fieldLink "StairOnSticksModel" (263 : Nat) "StairOnSticksModel" "armsLeft" "I") ∈ lw_all := lw_g (lw_at lw_m7 28 rfl) rfl
theorem q1542 : (Jvm.Cond.fieldLink "StairOnSticksModel" (65 : Nat) "StairOnSticksModel" "bestWay" "[[I") ∈ lw_all := lw_g (lw_at lw_m7 29 rfl) rfl
theorem q1543 : (Jvm.Cond.fieldLink "StairOnSticksModel" (68 : Nat) "StairOnSticksModel" "bestSlips" "[[I") ∈ lw_all := lw_g (lw_at lw_m7 30 rfl) rfl
theorem q1544 : (Jvm.Cond.fieldLink "StairOnSticksModel" (71 : Nat) "StairOnSticksModel" "bestTires" "[[I") ∈ lw_all := lw_g (lw_at lw_m7 31 rfl) rfl
theorem q1545 : (Jvm.Cond.fieldLink "StairOnSticksModel" (74 : Nat) "StairOnSticksModel" "place" "[I") ∈ lw_all := lw_g (lw_at lw_m7 32 rfl) rfl
theorem q1546 : (Jvm.Cond.laysFinal "StairOnSticksModel" "StairOnSticksModel" "shelf" "[I") ∈ lw_all := lw_g (lw_at lw_m7 33 rfl) rfl
theorem q1547 : (Jvm.Cond.soleField "StairOnSticksModel" "shelf") ∈ lw_all := lw_g (lw_at lw_m7 34 rfl) rfl
theorem q1548 : (Jvm.Cond.laysFinal "StairOnSticksModel" "StairOnSticksModel" "rowSort" "[I") ∈ lw_all := lw_g (lw_at lw_m7 35 rfl) rfl
theorem q1549 : (Jvm.Cond.soleField "StairOnSticksModel" "rowSort") ∈ lw_all := lw_g (lw_at lw_m7 36 rfl) rfl
theorem q1550 : (Jvm.Cond.laysFinal "StairOnSticksModel" "StairOnSticksModel" "rowSize" "[I") ∈ lw_all := lw_g (lw_at lw_m7 37 rfl) rfl
theorem q1551 : (Jvm.Cond.soleField "StairOnSticksModel" "rowSize") ∈ lw_all := lw_g (lw_at lw_m7 38 rfl) rfl
theorem q1552 : (Jvm.Cond.laysFinal "StairOnSticksModel" "StairOnSticksModel" "rows" "[[J") ∈ lw_all := lw_g (lw_at lw_m7 39 rfl) rfl
theorem q1553 : (Jvm.Cond.soleField "StairOnSticksModel" "rows") ∈ lw_all := lw_g (lw_at lw_m7 40 rfl) rfl
theorem q1554 : (Jvm.Cond.laysFinal "StairOnSticksModel" "StairOnSticksModel" "moved" "[J") ∈ lw_all := lw_g (lw_at lw_m7 41 rfl) rfl
theorem q1555 : (Jvm.Cond.soleField "StairOnSticksModel" "moved") ∈ lw_all := lw_g (lw_at lw_m7 42 rfl) rfl
theorem q1556 : (Jvm.Cond.laysFinal "StairOnSticksModel" "StairOnSticksModel" "shown" "[I") ∈ lw_all := lw_g (lw_at lw_m7 43 rfl) rfl
theorem q1557 : (Jvm.Cond.soleField "StairOnSticksModel" "shown") ∈ lw_all := lw_g (lw_at lw_m7 44 rfl) rfl
theorem q1558 : (Jvm.Cond.laysFinal "StairOnSticksModel" "StairOnSticksModel" "tape" "[I") ∈ lw_all := lw_g (lw_at lw_m7 45 rfl) rfl
theorem q1559 : (Jvm.Cond.soleField "StairOnSticksModel" "tape") ∈ lw_all := lw_g (lw_at lw_m7 46 rfl) rfl
theorem q1560 : (Jvm.Cond.lays "StairOnSticksModel" "StairOnSticksModel" "tapeSize" "I") ∈ lw_all := lw_g (lw_at lw_m7 47 rfl) rfl
theorem q1561 : (Jvm.Cond.soleField "StairOnSticksModel" "tapeSize") ∈ lw_all := lw_g (lw_at lw_m7 48 rfl) rfl
theorem q1562 : (Jvm.Cond.laysFinal "StairOnSticksModel" "StairOnSticksModel" "refused" "[I") ∈ lw_all := lw_g (lw_at lw_m7 49 rfl) rfl
theorem q1563 : (Jvm.Cond.soleField "StairOnSticksModel" "refused") ∈ lw_all := lw_g (lw_at lw_m7 50 rfl) rfl
theorem q1564 : (Jvm.Cond.lays "StairOnSticksModel" "StairOnSticksModel" "steps" "I") ∈ lw_all := lw_g (lw_at lw_m7 51 rfl) rfl
theorem q1565 : (Jvm.Cond.soleField "StairOnSticksModel" "steps") ∈ lw_all := lw_g (lw_at lw_m7 52 rfl) rfl
theorem q1566 : (Jvm.Cond.laysFinal "StairOnSticksModel" "StairOnSticksModel" "rise" "[I") ∈ lw_all := lw_g (lw_at lw_m7 53 rfl) rfl
theorem q1567 : (Jvm.Cond.soleField "StairOnSticksModel" "rise") ∈ lw_all := lw_g (lw_at lw_m7 54 rfl) rfl
theorem q1568 : (Jvm.Cond.laysFinal "StairOnSticksModel" "StairOnSticksModel" "rail" "[Z") ∈ lw_all := lw_g (lw_at lw_m7 55 rfl) rfl
theorem q1569 : (Jvm.Cond.soleField "StairOnSticksModel" "rail") ∈ lw_all := lw_g (lw_at lw_m7 56 rfl) rfl
theorem q1570 : (Jvm.Cond.laysFinal "StairOnSticksModel" "StairOnSticksModel" "chair" "[Z") ∈ lw_all := lw_g (lw_at lw_m7 57 rfl) rfl
theorem q1571 : (Jvm.Cond.soleField "StairOnSticksModel" "chair") ∈ lw_all := lw_g (lw_at lw_m7 58 rfl) rfl
theorem q1572 : (Jvm.Cond.laysFinal "StairOnSticksModel" "StairOnSticksModel" "wet" "[Z") ∈ lw_all := lw_g (lw_at lw_m7 59 rfl) rfl
theorem q1573 : (Jvm.Cond.soleField "StairOnSticksModel" "wet") ∈ lw_all := lw_g (lw_at lw_m7 60 rfl) rfl
theorem q1574 : (Jvm.Cond.lays "StairOnSticksModel" "StairOnSticksModel" "ways" "I") ∈ lw_all := lw_g (lw_at lw_m7 61 rfl) rfl
theorem q1575 : (Jvm.Cond.soleField "StairOnSticksModel" "ways") ∈ lw_all := lw_g (lw_at lw_m7 62 rfl) rfl
theorem q1576 : (Jvm.Cond.laysFinal "StairOnSticksModel" "StairOnSticksModel" "kind" "[I") ∈ lw_all := lw_g (lw_at lw_m7 63 rfl) rfl
theorem q1577 : (Jvm.Cond.soleField "StairOnSticksModel" "kind") ∈ lw_all := lw_g (lw_at lw_m7 64 rfl) rfl
theorem q1578 : (Jvm.Cond.laysFinal "StairOnSticksModel" "StairOnSticksModel" "by" "[I") ∈ lw_all := lw_g (lw_at lw_m7 65 rfl) rfl
theorem q1579 : (Jvm.Cond.soleField "StairOnSticksModel" "by") ∈ lw_all := lw_g (lw_at lw_m7 66 rfl) rfl
theorem q1580 : (Jvm.Cond.laysFinal "StairOnSticksModel" "StairOnSticksModel" "asked" "[I") ∈ lw_all := lw_g (lw_at lw_m7 67 rfl) rfl
theorem q1581 : (Jvm.Cond.soleField "StairOnSticksModel" "asked") ∈ lw_all := lw_g (lw_at lw_m7 68 rfl) rfl
theorem q1582 : (Jvm.Cond.lays "StairOnSticksModel" "StairOnSticksModel" "climbed" "I") ∈ lw_all := lw_g (lw_at lw_m7 69 rfl) rfl
theorem q1583 : (Jvm.Cond.soleField "StairOnSticksModel" "climbed") ∈ lw_all := lw_g (lw_at lw_m7 70 rfl) rfl
theorem q1584 : (Jvm.Cond.lays "StairOnSticksModel" "StairOnSticksModel" "came" "I") ∈ lw_all := lw_g (lw_at lw_m7 71 rfl) rfl
theorem q1585 : (Jvm.Cond.soleField "StairOnSticksModel" "came") ∈ lw_all := lw_g (lw_at lw_m7 72 rfl) rfl
theorem q1586 : (Jvm.Cond.lays "StairOnSticksModel" "StairOnSticksModel" "weeksGone" "I") ∈ lw_all := lw_g (lw_at lw_m7 73 rfl) rfl
theorem q1587 : (Jvm.Cond.soleField "StairOnSticksModel" "weeksGone") ∈ lw_all := lw_g (lw_at lw_m7 74 rfl) rfl
theorem q1588 : (Jvm.Cond.lays "StairOnSticksModel" "StairOnSticksModel" "seed" "I") ∈ lw_all := lw_g (lw_at lw_m7 75 rfl) rfl
theorem q1589 : (Jvm.Cond.soleField "StairOnSticksModel" "seed") ∈ lw_all := lw_g (lw_at lw_m7 76 rfl) rfl
theorem q1590 : (Jvm.Cond.lays "StairOnSticksModel" "StairOnSticksModel" "kept" "LStairOnSticksModel;") ∈ lw_all := lw_g (lw_at lw_m7 77 rfl) rfl
theorem q1591 : (Jvm.Cond.soleField "StairOnSticksModel" "kept") ∈ lw_all := lw_g (lw_at lw_m7 78 rfl) rfl
theorem q1592 : (Jvm.Cond.lays "StairOnSticksModel" "StairOnSticksModel" "tried" "LStairOnSticksModel;") ∈ lw_all := lw_g (lw_at lw_m7 79 rfl) rfl
theorem q1593 : (Jvm.Cond.soleField "StairOnSticksModel" "tried") ∈ lw_all := lw_g (lw_at lw_m7 80 rfl) rfl
theorem q1594 : (Jvm.Cond.lays "StairOnSticksModel" "StairOnSticksModel" "at" "I") ∈ lw_all := lw_g (lw_at lw_m7 81 rfl) rfl
theorem q1595 : (Jvm.Cond.soleField "StairOnSticksModel" "at") ∈ lw_all := lw_g (lw_at lw_m7 82 rfl) rfl
theorem q1596 : (Jvm.Cond.lays "StairOnSticksModel" "StairOnSticksModel" "token" "I") ∈ lw_all := lw_g (lw_at lw_m7 83 rfl) rfl
theorem q1597 : (Jvm.Cond.soleField "StairOnSticksModel" "token") ∈ lw_all := lw_g (lw_at lw_m7 84 rfl) rfl
theorem q1598 : (Jvm.Cond.lays "StairOnSticksModel" "StairOnSticksModel" "from" "I") ∈ lw_all := lw_g (lw_at lw_m7 85 rfl) rfl
theorem q1599 : (Jvm.Cond.soleField "StairOnSticksModel" "from") ∈ lw_all := lw_g (lw_at lw_m7 86 rfl) rfl
theorem q1600 : (Jvm.Cond.lays "StairOnSticksModel" "StairOnSticksModel" "figures" "I") ∈ lw_all := lw_g (lw_at lw_m7 87 rfl) rfl
theorem q1601 : (Jvm.Cond.soleField "StairOnSticksModel" "figures") ∈ lw_all := lw_g (lw_at lw_m7 88 rfl) rfl
theorem q1602 : (Jvm.Cond.lays "StairOnSticksModel" "StairOnSticksModel" "fault" "I") ∈ lw_all := lw_g (lw_at lw_m7 89 rfl) rfl
theorem q1603 : (Jvm.Cond.soleField "StairOnSticksModel" "fault") ∈ lw_all := lw_g (lw_at lw_m7 90 rfl) rfl
theorem q1604 : (Jvm.Cond.lays "StairOnSticksModel" "StairOnSticksModel" "told" "I") ∈ lw_all := lw_g (lw_at lw_m7 91 rfl) rfl
theorem q1605 : (Jvm.Cond.soleField "StairOnSticksModel" "told") ∈ lw_all := lw_g (lw_at lw_m7 92 rfl) rfl
theorem q1606 : (Jvm.Cond.lays "StairOnSticksModel" "StairOnSticksModel" "statements" "I") ∈ lw_all := lw_g (lw_at lw_m7 93 rfl) rfl
theorem q1607 : (Jvm.Cond.soleField "StairOnSticksModel" "statements") ∈ lw_all := lw_g (lw_at lw_m7 94 rfl) rfl
theorem q1608 : (Jvm.Cond.lays "StairOnSticksModel" "StairOnSticksModel" "armsLeft" "I") ∈ lw_all := lw_g (lw_at lw_m7 95 rfl) rfl
theorem q1609 : (Jvm.Cond.soleField "StairOnSticksModel" "armsLeft") ∈ lw_all := lw_g (lw_at lw_m7 96 rfl) rfl
theorem q1610 : (Jvm.Cond.laysFinal "StairOnSticksModel" "StairOnSticksModel" "bestWay" "[[I") ∈ lw_all := lw_g (lw_at lw_m7 97 rfl) rfl
theorem q1611 : (Jvm.Cond.soleField "StairOnSticksModel" "bestWay") ∈ lw_all := lw_g (lw_at lw_m7 98 rfl) rfl
theorem q1612 : (Jvm.Cond.laysFinal "StairOnSticksModel" "StairOnSticksModel" "bestSlips" "[[I") ∈ lw_all := lw_g (lw_at lw_m7 99 rfl) rfl
theorem q1613 : (Jvm.Cond.soleField "StairOnSticksModel" "bestSlips") ∈ lw_all := lw_g (lw_at lw_m7 100 rfl) rfl
theorem q1614 : (Jvm.Cond.laysFinal "StairOnSticksModel" "StairOnSticksModel" "bestTires" "[[I") ∈ lw_all := lw_g (lw_at lw_m7 101 rfl) rfl
theorem q1615 : (Jvm.Cond.soleField "StairOnSticksModel" "bestTires") ∈ lw_all := lw_g (lw_at lw_m7 102 rfl) rfl
theorem q1616 : (Jvm.Cond.laysFinal "StairOnSticksModel" "StairOnSticksModel" "place" "[I") ∈ lw_all := lw_g (lw_at lw_m7 103 rfl) rfl
theorem q1617 : (Jvm.Cond.soleField "StairOnSticksModel" "place") ∈ lw_all := lw_g (lw_at lw_m7 104 rfl) rfl
theorem q1618 : (Jvm.Cond.superclass "StairOnSticksModel" "java/lang/Object") ∈ lw_all := lw_g (lw_at lw_m7 105 rfl) rfl
theorem q1620 : (Jvm.Cond.instanceMethod ({ cls := "StairOnSticksModel", name := "row", desc := "(III)I" } : Jvm.MethodName)) ∈ lw_all := lw_g (lw_at lw_m7 107 rfl) rfl
theorem q1621 : (Jvm.Cond.selects "StairOnSticksModel" ({ cls := "StairOnSticksModel", name := "row", desc := "(III)I" } : Jvm.MethodName) ({ cls := "StairOnSticksModel", name := "row", desc := "(III)I" } : Jvm.MethodName)) ∈ lw_all := lw_g (lw_at lw_m7 108 rfl) rfl
theorem q1622 : (Jvm.Cond.code ({ cls := "StairOnSticksModel", name := "row", desc := "(III)I" } : Jvm.MethodName) prog_18_method_6_code (5 : Nat) (Option.some Jvm.ClassFile.FieldType.int)) ∈ lw_all := lw_g (lw_at lw_m7 109 rfl) rfl
theorem q1623 : (Jvm.Cond.constantLong "StairOnSticksModel" (87 : Nat) (7 : Int64)) ∈ lw_all := lw_g (lw_at lw_m7 110 rfl) rfl
theorem q1624 : (Jvm.Cond.methodLink "StairOnSticksModel" (80 : Nat) ({ cls := "StairOnSticksModel", name := "in", desc := "(JJJ)Z" } : Jvm.MethodName)) ∈ lw_all := lw_g (lw_at lw_m7 111 rfl) rfl
theorem q1625 : (Jvm.Cond.static ({ cls := "StairOnSticksModel", name := "in", desc := "(JJJ)Z" } : Jvm.MethodName)) ∈ lw_all := lw_g (lw_at lw_m7 112 rfl) rfl
theorem q1626 : (Jvm.Cond.code ({ cls := "StairOnSticksModel", name := "in", desc := "(JJJ)Z" } : Jvm.MethodName) prog_18_method_3_code (6 : Nat) (Option.some Jvm.ClassFile.FieldType.boolean)) ∈ lw_all := lw_g (lw_at lw_m7 113 rfl) rfl
theorem q1627 : (Jvm.Cond.constantLong "StairOnSticksModel" (89 : Nat) (4 : Int64)) ∈ lw_all := lw_g (lw_at lw_m7 114 rfl) rfl
theorem q1628 : (Jvm.Cond.constantLong "StairOnSticksModel" (91 : Nat) (40 : Int64)) ∈ lw_all := lw_g (lw_at lw_m7 115 rfl) rfl
theorem q1629 : (Jvm.Cond.methodLink "StairOnSticksModel" (93 : Nat) ({ cls := "StairOnSticksModel", name := "refuse", desc := "(I)I" } : Jvm.MethodName)) ∈ lw_all := lw_g (lw_at lw_m7 116 rfl) rfl
theorem q1630 : (Jvm.Cond.privateMethod ({ cls := "StairOnSticksModel", name := "refuse", desc := "(I)I" } : Jvm.MethodName)) ∈ lw_tbl := lw_at lw_m7 117 rfl
theorem q1631 : (Jvm.Cond.instanceMethod ({ cls := "StairOnSticksModel", name := "refuse", desc := "(I)I" } : Jvm.MethodName)) ∈ lw_all := lw_g (lw_at lw_m7 118 rfl) rfl
theorem q1632 : (Jvm.Cond.code ({ cls := "StairOnSticksModel", name := "refuse", desc := "(I)I" } : Jvm.MethodName) prog_18_method_2_code (2 : Nat) (Option.some Jvm.ClassFile.FieldType.int)) ∈ lw_all := lw_g (lw_at lw_m7 119 rfl) rfl
theorem q1634 : (Jvm.Cond.instanceMethod ({ cls := "StairOnSticksModel", name := "set", desc := "(IIJ)I" } : Jvm.MethodName)) ∈ lw_all := lw_g (lw_at lw_m7 121 rfl) rfl
theorem q1635 : (Jvm.Cond.selects "StairOnSticksModel" ({ cls := "StairOnSticksModel", name := "set", desc := "(IIJ)I" } : Jvm.MethodName) ({ cls := "StairOnSticksModel", name := "set", desc := "(IIJ)I" } : Jvm.MethodName)) ∈ lw_all := lw_g (lw_at lw_m7 122 rfl) rfl
theorem q1636 : (Jvm.Cond.code ({ cls := "StairOnSticksModel", name := "set", desc := "(IIJ)I" } : Jvm.MethodName) prog_18_method_9_code (6 : Nat) (Option.some Jvm.ClassFile.FieldType.int)) ∈ lw_all := lw_g (lw_at lw_m7 123 rfl) rfl
theorem q1637 : (Jvm.Cond.methodLink "StairOnSticksModel" (97 : Nat) ({ cls := "StairOnSticksModel", name := "noRow", desc := "(I)I" } : Jvm.MethodName)) ∈ lw_all := lw_g (lw_at lw_m7 124 rfl) rfl
theorem q1638 : (Jvm.Cond.privateMethod ({ cls := "StairOnSticksModel", name := "noRow", desc := "(I)I" } : Jvm.MethodName)) ∈ lw_tbl := lw_at lw_m7 125 rfl
theorem q1639 : (Jvm.Cond.instanceMethod ({ cls := "StairOnSticksModel", name := "noRow", desc := "(I)I" } : Jvm.MethodName)) ∈ lw_all := lw_g (lw_at lw_m7 126 rfl) rfl
theorem q1640 : (Jvm.Cond.code ({ cls := "StairOnSticksModel", name := "noRow", desc := "(I)I" } : Jvm.MethodName) prog_18_method_8_code (2 : Nat) (Option.some Jvm.ClassFile.FieldType.int)) ∈ lw_all := lw_g (lw_at lw_m7 127 rfl) rfl
theorem q1641 : (Jvm.Cond.methodLink "StairOnSticksModel" (100 : Nat) ({ cls := "StairOnSticksModel", name := "fit", desc := "(IJ)J" } : Jvm.MethodName)) ∈ lw_all := lw_g (lw_at lw_m7 128 rfl) rfl
theorem q1642 : (Jvm.Cond.static ({ cls := "StairOnSticksModel", name := "fit", desc := "(IJ)J" } : Jvm.MethodName)) ∈ lw_all := lw_g (lw_at lw_m7 129 rfl) rfl
theorem q1643 : (Jvm.Cond.code ({ cls := "StairOnSticksModel", name := "fit", desc := "(IJ)J" } : Jvm.MethodName) prog_18_method_7_code (3 : Nat) (Option.some Jvm.ClassFile.FieldType.long)) ∈ lw_all := lw_g (lw_at lw_m7 130 rfl) rfl
theorem q1645 : (Jvm.Cond.instanceMethod ({ cls := "StairOnSticksModel", name := "copy", desc := "(IIIII)I" } : Jvm.MethodName)) ∈ lw_all := lw_g (lw_at lw_m7 132 rfl) rfl
theorem q1646 : (Jvm.Cond.selects "StairOnSticksModel" ({ cls := "StairOnSticksModel", name := "copy", desc := "(IIIII)I" } : Jvm.MethodName) ({ cls := "StairOnSticksModel", name := "copy", desc := "(IIIII)I" } : Jvm.MethodName)) ∈ lw_all := lw_g (lw_at lw_m7 133 rfl) rfl
theorem q1647 : (Jvm.Cond.code ({ cls := "StairOnSticksModel", name := "copy", desc := "(IIIII)I" } : Jvm.MethodName) prog_18_method_10_code (7 : Nat) (Option.some Jvm.ClassFile.FieldType.int)) ∈ lw_all := lw_g (lw_at lw_m7 134 rfl) rfl
theorem q1649 : (Jvm.Cond.instanceMethod ({ cls := "StairOnSticksModel", name := "element", desc := "(II)J" } : Jvm.MethodName)) ∈ lw_all := lw_g (lw_at lw_m7 136 rfl) rfl
theorem q1650 : (Jvm.Cond.selects "StairOnSticksModel" ({ cls := "StairOnSticksModel", name := "element", desc := "(II)J" } : Jvm.MethodName) ({ cls := "StairOnSticksModel", name := "element", desc := "(II)J" } : Jvm.MethodName)) ∈ lw_all := lw_g (lw_at lw_m7 137 rfl) rfl
theorem q1651 : (Jvm.Cond.code ({ cls := "StairOnSticksModel", name := "element", desc := "(II)J" } : Jvm.MethodName) prog_18_method_11_code (3 : Nat) (Option.some Jvm.ClassFile.FieldType.long)) ∈ lw_all := lw_g (lw_at lw_m7 138 rfl) rfl
theorem q1653 : (Jvm.Cond.instanceMethod ({ cls := "StairOnSticksModel", name := "holds", desc := "(I)I" } : Jvm.MethodName)) ∈ lw_all := lw_g (lw_at lw_m7 140 rfl) rfl
theorem q1654 : (Jvm.Cond.selects "StairOnSticksModel" ({ cls := "StairOnSticksModel", name := "holds", desc := "(I)I" } : Jvm.MethodName) ({ cls := "StairOnSticksModel", name := "holds", desc := "(I)I" } : Jvm.MethodName)) ∈ lw_all := lw_g (lw_at lw_m7 141 rfl) rfl
theorem q1655 : (Jvm.Cond.code ({ cls := "StairOnSticksModel", name := "holds", desc := "(I)I" } : Jvm.MethodName) prog_18_method_12_code (2 : Nat) (Option.some Jvm.ClassFile.FieldType.int)) ∈ lw_all := lw_g (lw_at lw_m7 142 rfl) rfl
theorem q1657 : (Jvm.Cond.instanceMethod ({ cls := "StairOnSticksModel", name := "show", desc := "(II)I" } : Jvm.MethodName)) ∈ lw_all := lw_g (lw_at lw_m7 144 rfl) rfl
theorem q1658 : (Jvm.Cond.selects "StairOnSticksModel" ({ cls := "StairOnSticksModel", name := "show", desc := "(II)I" } : Jvm.MethodName) ({ cls := "StairOnSticksModel", name := "show", desc := "(II)I" } : Jvm.MethodName)) ∈ lw_all := lw_g (lw_at lw_m7 145 rfl) rfl
theorem q1659 : (Jvm.Cond.code ({ cls := "StairOnSticksModel", name := "show", desc := "(II)I" } : Jvm.MethodName) prog_18_method_13_code (3 : Nat) (Option.some Jvm.ClassFile.FieldType.int)) ∈ lw_all := lw_g (lw_at lw_m7 146 rfl) rfl
theorem q1660 : (Jvm.Cond.methodLink "StairOnSticksModel" (104 : Nat) ({ cls := "StairOnSticksModel", name := "isWay", desc := "(J)Z" } : Jvm.MethodName)) ∈ lw_all := lw_g (lw_at lw_m7 147 rfl) rfl
theorem q1661 : (Jvm.Cond.privateMethod ({ cls := "StairOnSticksModel", name := "isWay", desc := "(J)Z" } : Jvm.MethodName)) ∈ lw_tbl := lw_at lw_m7 148 rfl
theorem q1662 : (Jvm.Cond.instanceMethod ({ cls := "StairOnSticksModel", name := "isWay", desc := "(J)Z" } : Jvm.MethodName)) ∈ lw_all := lw_g (lw_at lw_m7 149 rfl) rfl
theorem q1663 : (Jvm.Cond.code ({ cls := "StairOnSticksModel", name := "isWay", desc := "(J)Z" } : Jvm.MethodName) prog_18_method_5_code (3 : Nat) (Option.some Jvm.ClassFile.FieldType.boolean)) ∈ lw_all := lw_g (lw_at lw_m7 150 rfl) rfl
theorem q1665 : (Jvm.Cond.instanceMethod ({ cls := "StairOnSticksModel", name := "says", desc := "(II)I" } : Jvm.MethodName)) ∈ lw_all := lw_g (lw_at lw_m7 152 rfl) rfl
theorem q1666 : (Jvm.Cond.selects "StairOnSticksModel" ({ cls := "StairOnSticksModel", name := "says", desc := "(II)I" } : Jvm.MethodName) ({ cls := "StairOnSticksModel", name := "says", desc := "(II)I" } : Jvm.MethodName)) ∈ lw_all := lw_g (lw_at lw_m7 153 rfl) rfl
theorem q1667 : (Jvm.Cond.code ({ cls := "StairOnSticksModel", name := "says", desc := "(II)I" } : Jvm.MethodName) prog_18_method_15_code (4 : Nat) (Option.some Jvm.ClassFile.FieldType.int)) ∈ lw_all := lw_g (lw_at lw_m7 154 rfl) rfl
theorem q1668 : (Jvm.Cond.constantLong "StairOnSticksModel" (108 : Nat) (5 : Int64)) ∈ lw_all := lw_g (lw_at lw_m7 155 rfl) rfl
theorem q1669 : (Jvm.Cond.methodLink "StairOnSticksModel" (110 : Nat) ({ cls := "StairOnSticksModel", name := "isUnder", desc := "(II)Z" } : Jvm.MethodName)) ∈ lw_all := lw_g (lw_at lw_m7 156 rfl) rfl
theorem q1670 : (Jvm.Cond.static ({ cls := "StairOnSticksModel", name := "isUnder", desc := "(II)Z" } : Jvm.MethodName)) ∈ lw_all := lw_g (lw_at lw_m7 157 rfl) rfl
theorem q1671 : (Jvm.Cond.code ({ cls := "StairOnSticksModel", name := "isUnder", desc := "(II)Z" } : Jvm.MethodName) prog_18_method_14_code (2 : Nat) (Option.some Jvm.ClassFile.FieldType.boolean)) ∈ lw_all := lw_g (lw_at lw_m7 158 rfl) rfl
theorem q1672 : (Jvm.Cond.methodLink "StairOnSticksModel" (114 : Nat) ({ cls := "StairOnSticksModel", name := "slips", desc := "(II)I" } : Jvm.MethodName)) ∈ lw_all := lw_g (lw_at lw_m7 159 rfl) rfl
theorem q1673 : (Jvm.Cond.privateMethod ({ cls := "StairOnSticksModel", name := "slips", desc := "(II)I" } : Jvm.MethodName)) ∈ lw_tbl := lw_at lw_m7 160 rfl
theorem q1674 : (Jvm.Cond.instanceMethod ({ cls := "StairOnSticksModel", name := "slips", desc := "(II)I" } : Jvm.MethodName)) ∈ lw_all := lw_g (lw_at lw_m7 161 rfl) rfl
theorem q1675 : (Jvm.Cond.code ({ cls := "StairOnSticksModel", name := "slips", desc := "(II)I" } : Jvm.MethodName) prog_18_method_45_code (5 : Nat) (Option.some Jvm.ClassFile.FieldType.int)) ∈ lw_all := lw_g (lw_at lw_m7 162 rfl) rfl
theorem q1676 : (Jvm.Cond.methodLink "StairOnSticksModel" (251 : Nat) ({ cls := "StairOnSticksModel", name := "isRailed", desc := "(II)Z" } : Jvm.MethodName)) ∈ lw_all := lw_g (lw_at lw_m7 163 rfl) rfl
theorem q1677 : (Jvm.Cond.privateMethod ({ cls := "StairOnSticksModel", name := "isRailed", desc := "(II)Z" } : Jvm.MethodName)) ∈ lw_tbl := lw_at lw_m7 164 rfl
theorem q1678 : (Jvm.Cond.instanceMethod ({ cls := "StairOnSticksModel", name := "isRailed", desc := "(II)Z" } : Jvm.MethodName)) ∈ lw_all := lw_g (lw_at lw_m7 165 rfl) rfl
theorem q1679 : (Jvm.Cond.code ({ cls := "StairOnSticksModel", name := "isRailed", desc := "(II)Z" } : Jvm.MethodName) prog_18_method_41_code (3 : Nat) (Option.some Jvm.ClassFile.FieldType.boolean)) ∈ lw_all := lw_g (lw_at lw_m7 166 rfl) rfl
theorem q1680 : (Jvm.Cond.methodLink "StairOnSticksModel" (118 : Nat) ({ cls := "StairOnSticksModel", name := "tires", desc := "(II)I" } : Jvm.MethodName)) ∈ lw_all := lw_g (lw_at lw_m7 167 rfl) rfl
theorem q1681 : (Jvm.Cond.privateMethod ({ cls := "StairOnSticksModel", name := "tires", desc := "(II)I" } : Jvm.MethodName)) ∈ lw_tbl := lw_at lw_m7 168 rfl
theorem q1682 : (Jvm.Cond.instanceMethod ({ cls := "StairOnSticksModel", name := "tires", desc := "(II)I" } : Jvm.MethodName)) ∈ lw_all := lw_g (lw_at lw_m7 169 rfl) rfl
theorem q1683 : (Jvm.Cond.code ({ cls := "StairOnSticksModel", name := "tires", desc := "(II)I" } : Jvm.MethodName) prog_18_method_44_code (4 : Nat) (Option.some Jvm.ClassFile.FieldType.int)) ∈ lw_all := lw_g (lw_at lw_m7 170 rfl) rfl
theorem q1684 : (Jvm.Cond.methodLink "StairOnSticksModel" (121 : Nat) ({ cls := "StairOnSticksModel", name := "load", desc := "(II)I" } : Jvm.MethodName)) ∈ lw_all := lw_g (lw_at lw_m7 171 rfl) rfl
theorem q1685 : (Jvm.Cond.privateMethod ({ cls := "StairOnSticksModel", name := "load", desc := "(II)I" } : Jvm.MethodName)) ∈ lw_tbl := lw_at lw_m7 172 rfl
theorem q1686 : (Jvm.Cond.instanceMethod ({ cls := "StairOnSticksModel", name := "load", desc := "(II)I" } : Jvm.MethodName)) ∈ lw_all := lw_g (lw_at lw_m7 173 rfl) rfl
theorem q1687 : (Jvm.Cond.code ({ cls := "StairOnSticksModel", name := "load", desc := "(II)I" } : Jvm.MethodName) prog_18_method_42_code (4 : Nat) (Option.some Jvm.ClassFile.FieldType.int)) ∈ lw_all := lw_g (lw_at lw_m7 174 rfl) rfl
theorem q1689 : (Jvm.Cond.instanceMethod ({ cls := "StairOnSticksModel", name := "step", desc := "(IZ)I" } : Jvm.MethodName)) ∈ lw_all := lw_g (lw_at lw_m7 176 rfl) rfl
theorem q1690 : (Jvm.Cond.selects "StairOnSticksModel" ({ cls := "StairOnSticksModel", name := "step", desc := "(IZ)I" } : Jvm.MethodName) ({ cls := "StairOnSticksModel", name := "step", desc := "(IZ)I" } : Jvm.MethodName)) ∈ lw_all := lw_g (lw_at lw_m7 177 rfl) rfl
theorem q1691 : (Jvm.Cond.code ({ cls := "StairOnSticksModel", name := "step", desc := "(IZ)I" } : Jvm.MethodName) prog_18_method_16_code (3 : Nat) (Option.some Jvm.ClassFile.FieldType.int)) ∈ lw_all := lw_g (lw_at lw_m7 178 rfl) rfl
theorem q1692 : (Jvm.Cond.constantLong "StairOnSticksModel" (124 : Nat) (20 : Int64)) ∈ lw_all := lw_g (lw_at lw_m7 179 rfl) rfl
theorem q1694 : (Jvm.Cond.instanceMethod ({ cls := "StairOnSticksModel", name := "way", desc := "(II)I" } : Jvm.MethodName)) ∈ lw_all := lw_g (lw_at lw_m7 181 rfl) rfl
theorem q1695 : (Jvm.Cond.selects "StairOnSticksModel" ({ cls := "StairOnSticksModel", name := "way", desc := "(II)I" } : Jvm.MethodName) ({ cls := "StairOnSticksModel", name := "way", desc := "(II)I" } : Jvm.MethodName)) ∈ lw_all := lw_g (lw_at lw_m7 182 rfl) rfl
theorem q1696 : (Jvm.Cond.code ({ cls := "StairOnSticksModel", name := "way", desc := "(II)I" } : Jvm.MethodName) prog_18_method_17_code (3 : Nat) (Option.some Jvm.ClassFile.FieldType.int)) ∈ lw_all := lw_g (lw_at lw_m7 183 rfl) rfl
theorem q1697 : (Jvm.Cond.constantLong "StairOnSticksModel" (126 : Nat) (10 : Int64)) ∈ lw_all := lw_g (lw_at lw_m7 184 rfl) rfl
theorem q1699 : (Jvm.Cond.instanceMethod ({ cls := "StairOnSticksModel", name := "ask", desc := "(II)I" } : Jvm.MethodName)) ∈ lw_all := lw_g (lw_at lw_m7 186 rfl) rfl
theorem q1700 : (Jvm.Cond.selects "StairOnSticksModel" ({ cls := "StairOnSticksModel", name := "ask", desc := "(II)I" } : Jvm.MethodName) ({ cls := "StairOnSticksModel", name := "ask", desc := "(II)I" } : Jvm.MethodName)) ∈ lw_all := lw_g (lw_at lw_m7 187 rfl) rfl
theorem q1701 : (Jvm.Cond.code ({ cls := "StairOnSticksModel", name := "ask", desc := "(II)I" } : Jvm.MethodName) prog_18_method_20_code (4 : Nat) (Option.some Jvm.ClassFile.FieldType.int)) ∈ lw_all := lw_g (lw_at lw_m7 188 rfl) rfl
theorem q1702 : (Jvm.Cond.constantLong "StairOnSticksModel" (128 : Nat) (9 : Int64)) ∈ lw_all := lw_g (lw_at lw_m7 189 rfl) rfl
theorem q1703 : (Jvm.Cond.methodLink "StairOnSticksModel" (130 : Nat) ({ cls := "StairOnSticksModel", name := "leastOf", desc := "(I)I" } : Jvm.MethodName)) ∈ lw_all := lw_g (lw_at lw_m7 190 rfl) rfl
theorem q1704 : (Jvm.Cond.privateMethod ({ cls := "StairOnSticksModel", name := "leastOf", desc := "(I)I" } : Jvm.MethodName)) ∈ lw_tbl := lw_at lw_m7 191 rfl
theorem q1705 : (Jvm.Cond.instanceMethod ({ cls := "StairOnSticksModel", name := "leastOf", desc := "(I)I" } : Jvm.MethodName)) ∈ lw_all := lw_g (lw_at lw_m7 192 rfl) rfl
theorem q1706 : (Jvm.Cond.code ({ cls := "StairOnSticksModel", name := "leastOf", desc := "(I)I" } : Jvm.MethodName) prog_18_method_18_code (2 : Nat) (Option.some Jvm.ClassFile.FieldType.int)) ∈ lw_all := lw_g (lw_at lw_m7 193 rfl) rfl
theorem q1707 : (Jvm.Cond.methodLink "StairOnSticksModel" (133 : Nat) ({ cls := "StairOnSticksModel", name := "mostOf", desc := "(I)I" } : Jvm.MethodName)) ∈ lw_all := lw_g (lw_at lw_m7 194 rfl) rfl
theorem q1708 : (Jvm.Cond.privateMethod ({ cls := "StairOnSticksModel", name := "mostOf", desc := "(I)I" } : Jvm.MethodName)) ∈ lw_tbl := lw_at lw_m7 195 rfl
theorem q1709 : (Jvm.Cond.instanceMethod ({ cls := "StairOnSticksModel", name := "mostOf", desc := "(I)I" } : Jvm.MethodName)) ∈ lw_all := lw_g (lw_at lw_m7 196 rfl) rfl
theorem q1710 : (Jvm.Cond.code ({ cls := "StairOnSticksModel", name := "mostOf", desc := "(I)I" } : Jvm.MethodName) prog_18_method_19_code (2 : Nat) (Option.some Jvm.ClassFile.FieldType.int)) ∈ lw_all := lw_g (lw_at lw_m7 197 rfl) rfl
theorem q1712 : (Jvm.Cond.instanceMethod ({ cls := "StairOnSticksModel", name := "put", desc := "(IIZ)I" } : Jvm.MethodName)) ∈ lw_all := lw_g (lw_at lw_m7 199 rfl) rfl
theorem q1713 : (Jvm.Cond.selects "StairOnSticksModel" ({ cls := "StairOnSticksModel", name := "put", desc := "(IIZ)I" } : Jvm.MethodName) ({ cls := "StairOnSticksModel", name := "put", desc := "(IIZ)I" } : Jvm.MethodName)) ∈ lw_all := lw_g (lw_at lw_m7 200 rfl) rfl
theorem q1714 : (Jvm.Cond.code ({ cls := "StairOnSticksModel", name := "put", desc := "(IIZ)I" } : Jvm.MethodName) prog_18_method_21_code (6 : Nat) (Option.some Jvm.ClassFile.FieldType.int)) ∈ lw_all := lw_g (lw_at lw_m7 201 rfl) rfl
theorem q1715 : (Jvm.Cond.methodLink "StairOnSticksModel" (136 : Nat) ({ cls := "StairOnSticksModel", name := "isStep", desc := "(I)Z" } : Jvm.MethodName)) ∈ lw_all := lw_g (lw_at lw_m7 202 rfl) rfl
theorem q1716 : (Jvm.Cond.privateMethod ({ cls := "StairOnSticksModel", name := "isStep", desc := "(I)Z" } : Jvm.MethodName)) ∈ lw_tbl := lw_at lw_m7 203 rfl
theorem q1717 : (Jvm.Cond.instanceMethod ({ cls := "StairOnSticksModel", name := "isStep", desc := "(I)Z" } : Jvm.MethodName)) ∈ lw_all := lw_g (lw_at lw_m7 204 rfl) rfl
theorem q1718 : (Jvm.Cond.code ({ cls := "StairOnSticksModel", name := "isStep", desc := "(I)Z" } : Jvm.MethodName) prog_18_method_4_code (2 : Nat) (Option.some Jvm.ClassFile.FieldType.boolean)) ∈ lw_all := lw_g (lw_at lw_m7 205 rfl) rfl
theorem q1719 : (Jvm.Cond.constantLong "StairOnSticksModel" (140 : Nat) (2 : Int64)) ∈ lw_all := lw_g (lw_at lw_m7 206 rfl) rfl
theorem q1721 : (Jvm.Cond.instanceMethod ({ cls := "StairOnSticksModel", name := "rise", desc := "(II)I" } : Jvm.MethodName)) ∈ lw_all := lw_g (lw_at lw_m7 208 rfl) rfl
theorem q1722 : (Jvm.Cond.selects "StairOnSticksModel" ({ cls := "StairOnSticksModel", name := "rise", desc := "(II)I" } : Jvm.MethodName) ({ cls := "StairOnSticksModel", name := "rise", desc := "(II)I" } : Jvm.MethodName)) ∈ lw_all := lw_g (lw_at lw_m7 209 rfl) rfl
theorem q1723 : (Jvm.Cond.code ({ cls := "StairOnSticksModel", name := "rise", desc := "(II)I" } : Jvm.MethodName) prog_18_method_22_code (4 : Nat) (Option.some Jvm.ClassFile.FieldType.int)) ∈ lw_all := lw_g (lw_at lw_m7 210 rfl) rfl
theorem q1725 : (Jvm.Cond.instanceMethod ({ cls := "StairOnSticksModel", name := "feed", desc := "(I)I" } : Jvm.MethodName)) ∈ lw_all := lw_g (lw_at lw_m7 212 rfl) rfl
theorem q1726 : (Jvm.Cond.selects "StairOnSticksModel" ({ cls := "StairOnSticksModel", name := "feed", desc := "(I)I" } : Jvm.MethodName) ({ cls := "StairOnSticksModel", name := "feed", desc := "(I)I" } : Jvm.MethodName)) ∈ lw_all := lw_g (lw_at lw_m7 213 rfl) rfl
theorem q1727 : (Jvm.Cond.code ({ cls := "StairOnSticksModel", name := "feed", desc := "(I)I" } : Jvm.MethodName) prog_18_method_23_code (2 : Nat) (Option.some Jvm.ClassFile.FieldType.int)) ∈ lw_all := lw_g (lw_at lw_m7 214 rfl) rfl
theorem q1728 : (Jvm.Cond.constantLong "StairOnSticksModel" (142 : Nat) (255 : Int64)) ∈ lw_all := lw_g (lw_at lw_m7 215 rfl) rfl
theorem q1730 : (Jvm.Cond.instanceMethod ({ cls := "StairOnSticksModel", name := "wipe", desc := "()I" } : Jvm.MethodName)) ∈ lw_all := lw_g (lw_at lw_m7 217 rfl) rfl
theorem q1731 : (Jvm.Cond.selects "StairOnSticksModel" ({ cls := "StairOnSticksModel", name := "wipe", desc := "()I" } : Jvm.MethodName) ({ cls := "StairOnSticksModel", name := "wipe", desc := "()I" } : Jvm.MethodName)) ∈ lw_all := lw_g (lw_at lw_m7 218 rfl) rfl
theorem q1732 : (Jvm.Cond.code ({ cls := "StairOnSticksModel", name := "wipe", desc := "()I" } : Jvm.MethodName) prog_18_method_24_code (2 : Nat) (Option.some Jvm.ClassFile.FieldType.int)) ∈ lw_all := lw_g (lw_at lw_m7 219 rfl) rfl
theorem q1734 : (Jvm.Cond.instanceMethod ({ cls := "StairOnSticksModel", name := "stair", desc := "()I" } : Jvm.MethodName)) ∈ lw_all := lw_g (lw_at lw_m7 221 rfl) rfl
theorem q1735 : (Jvm.Cond.selects "StairOnSticksModel" ({ cls := "StairOnSticksModel", name := "stair", desc := "()I" } : Jvm.MethodName) ({ cls := "StairOnSticksModel", name := "stair", desc := "()I" } : Jvm.MethodName)) ∈ lw_all := lw_g (lw_at lw_m7 222 rfl) rfl
theorem q1736 : (Jvm.Cond.code ({ cls := "StairOnSticksModel", name := "stair", desc := "()I" } : Jvm.MethodName) prog_18_method_37_code (3 : Nat) (Option.some Jvm.ClassFile.FieldType.int)) ∈ lw_all := lw_g (lw_at lw_m7 223 rfl) rfl
theorem q1737 : (Jvm.Cond.methodLink "StairOnSticksModel" (238 : Nat) ({ cls := "StairOnSticksModel", name := "fresh", desc := "()LStairOnSticksModel;" } : Jvm.MethodName)) ∈ lw_all := lw_g (lw_at lw_m7 224 rfl) rfl
theorem q1738 : (Jvm.Cond.privateMethod ({ cls := "StairOnSticksModel", name := "fresh", desc := "()LStairOnSticksModel;" } : Jvm.MethodName)) ∈ lw_tbl := lw_at lw_m7 225 rfl
theorem q1739 : (Jvm.Cond.instanceMethod ({ cls := "StairOnSticksModel", name := "fresh", desc := "()LStairOnSticksModel;" } : Jvm.MethodName)) ∈ lw_all := lw_g (lw_at lw_m7 226 rfl) rfl
theorem q1740 : (Jvm.Cond.code ({ cls := "StairOnSticksModel", name := "fresh", desc := "()LStairOnSticksModel;" } : Jvm.MethodName) prog_18_method_66_code (1 : Nat) (Option.some (Jvm.ClassFile.FieldType.object "StairOnSticksModel"))) ∈ lw_all := lw_g (lw_at lw_m7 227 rfl) rfl
theorem q1741 : (Jvm.Cond.classLink "StairOnSticksModel" (8 : Nat) "StairOnSticksModel") ∈ lw_all := lw_g (lw_at lw_m7 228 rfl) rfl
theorem q1742 : (Jvm.Cond.methodLink "StairOnSticksModel" (303 : Nat) ({ cls := "StairOnSticksModel", name := "<init>", desc := "()V" } : Jvm.MethodName)) ∈ lw_all := lw_g (lw_at lw_m7 229 rfl) rfl
theorem q1743 : (Jvm.Cond.methodLink "StairOnSticksModel" (245 : Nat) ({ cls := "StairOnSticksModel", name := "takeFrom", desc := "(LStairOnSticksModel;)V" } : Jvm.MethodName)) ∈ lw_all := lw_g (lw_at lw_m7 230 rfl) rfl
theorem q1744 : (Jvm.Cond.privateMethod ({ cls := "StairOnSticksModel", name := "takeFrom", desc := "(LStairOnSticksModel;)V" } : Jvm.MethodName)) ∈ lw_tbl := lw_at lw_m7 231 rfl
theorem q1745 : (Jvm.Cond.instanceMethod ({ cls := "StairOnSticksModel", name := "takeFrom", desc := "(LStairOnSticksModel;)V" } : Jvm.MethodName)) ∈ lw_all := lw_g (lw_at lw_m7 232 rfl) rfl
theorem q1746 : (Jvm.Cond.code ({ cls := "StairOnSticksModel", name := "takeFrom", desc := "(LStairOnSticksModel;)V" } : Jvm.MethodName) prog_18_method_89_code (3 : Nat) (Option.none : Option Jvm.ClassFile.FieldType)) ∈ lw_all := lw_g (lw_at lw_m7 233 rfl) rfl
theorem q1747 : (Jvm.Cond.methodLink "StairOnSticksModel" (242 : Nat) ({ cls := "StairOnSticksModel", name := "readAll", desc := "()Z" } : Jvm.MethodName)) ∈ lw_all := lw_g (lw_at lw_m7 234 rfl) rfl
theorem q1748 : (Jvm.Cond.privateMethod ({ cls := "StairOnSticksModel", name := "readAll", desc := "()Z" } : Jvm.MethodName)) ∈ lw_tbl := lw_at lw_m7 235 rfl
theorem q1749 : (Jvm.Cond.instanceMethod ({ cls := "StairOnSticksModel", name := "readAll", desc := "()Z" } : Jvm.MethodName)) ∈ lw_all := lw_g (lw_at lw_m7 236 rfl) rfl
theorem q1750 : (Jvm.Cond.code ({ cls := "StairOnSticksModel", name := "readAll", desc := "()Z" } : Jvm.MethodName) prog_18_method_36_code (1 : Nat) (Option.some Jvm.ClassFile.FieldType.boolean)) ∈ lw_all := lw_g (lw_at lw_m7 237 rfl) rfl
theorem q1751 : (Jvm.Cond.methodLink "StairOnSticksModel" (186 : Nat) ({ cls := "StairOnSticksModel", name := "look", desc := "()V" } : Jvm.MethodName)) ∈ lw_all := lw_g (lw_at lw_m7 238 rfl) rfl
theorem q1752 : (Jvm.Cond.privateMethod ({ cls := "StairOnSticksModel", name := "look", desc := "()V" } : Jvm.MethodName)) ∈ lw_tbl := lw_at lw_m7 239 rfl
theorem q1753 : (Jvm.Cond.instanceMethod ({ cls := "StairOnSticksModel", name := "look", desc := "()V" } : Jvm.MethodName)) ∈ lw_all := lw_g (lw_at lw_m8 0 rfl) rfl
theorem q1754 : (Jvm.Cond.code ({ cls := "StairOnSticksModel", name := "look", desc := "()V" } : Jvm.MethodName) prog_18_method_27_code (1 : Nat) (Option.none : Option Jvm.ClassFile.FieldType)) ∈ lw_all := lw_g (lw_at lw_m8 1 rfl) rfl
theorem q1755 : (Jvm.Cond.methodLink "StairOnSticksModel" (159 : Nat) ({ cls := "StairOnSticksModel", name := "isLetter", desc := "(I)Z" } : Jvm.MethodName)) ∈ lw_all := lw_g (lw_at lw_m8 2 rfl) rfl
theorem q1756 : (Jvm.Cond.static ({ cls := "StairOnSticksModel", name := "isLetter", desc := "(I)Z" } : Jvm.MethodName)) ∈ lw_all := lw_g (lw_at lw_m8 3 rfl) rfl
theorem q1757 : (Jvm.Cond.code ({ cls := "StairOnSticksModel", name := "isLetter", desc := "(I)Z" } : Jvm.MethodName) prog_18_method_25_code (1 : Nat) (Option.some Jvm.ClassFile.FieldType.boolean)) ∈ lw_all := lw_g (lw_at lw_m8 4 rfl) rfl
theorem q1758 : (Jvm.Cond.methodLink "StairOnSticksModel" (162 : Nat) ({ cls := "StairOnSticksModel", name := "isDigit", desc := "(I)Z" } : Jvm.MethodName)) ∈ lw_all := lw_g (lw_at lw_m8 5 rfl) rfl
theorem q1759 : (Jvm.Cond.static ({ cls := "StairOnSticksModel", name := "isDigit", desc := "(I)Z" } : Jvm.MethodName)) ∈ lw_all := lw_g (lw_at lw_m8 6 rfl) rfl
theorem q1760 : (Jvm.Cond.code ({ cls := "StairOnSticksModel", name := "isDigit", desc := "(I)Z" } : Jvm.MethodName) prog_18_method_26_code (1 : Nat) (Option.some Jvm.ClassFile.FieldType.boolean)) ∈ lw_all := lw_g (lw_at lw_m8 7 rfl) rfl
theorem q1761 : (Jvm.Cond.constant "StairOnSticksModel" (165 : Nat) (100000 : Int32)) ∈ lw_all := lw_g (lw_at lw_m8 8 rfl) rfl
theorem q1762 : (Jvm.Cond.methodLink "StairOnSticksModel" (235 : Nat) ({ cls := "StairOnSticksModel", name := "statement", desc := "()Z" } : Jvm.MethodName)) ∈ lw_all := lw_g (lw_at lw_m8 9 rfl) rfl
theorem q1763 : (Jvm.Cond.privateMethod ({ cls := "StairOnSticksModel", name := "statement", desc := "()Z" } : Jvm.MethodName)) ∈ lw_tbl := lw_at lw_m8 10 rfl
theorem q1764 : (Jvm.Cond.instanceMethod ({ cls := "StairOnSticksModel", name := "statement", desc := "()Z" } : Jvm.MethodName)) ∈ lw_all := lw_g (lw_at lw_m8 11 rfl) rfl
theorem q1765 : (Jvm.Cond.code ({ cls := "StairOnSticksModel", name := "statement", desc := "()Z" } : Jvm.MethodName) prog_18_method_35_code (2 : Nat) (Option.some Jvm.ClassFile.FieldType.boolean)) ∈ lw_all := lw_g (lw_at lw_m8 12 rfl) rfl
theorem q1766 : (Jvm.Cond.stringRef "StairOnSticksModel" (196 : Nat) "step") ∈ lw_tbl := lw_at lw_m8 13 rfl
theorem q1767 : (Jvm.Cond.methodLink "StairOnSticksModel" (189 : Nat) ({ cls := "StairOnSticksModel", name := "isWord", desc := "(Ljava/lang/String;)Z" } : Jvm.MethodName)) ∈ lw_all := lw_g (lw_at lw_m8 14 rfl) rfl
theorem q1768 : (Jvm.Cond.privateMethod ({ cls := "StairOnSticksModel", name := "isWord", desc := "(Ljava/lang/String;)Z" } : Jvm.MethodName)) ∈ lw_tbl := lw_at lw_m8 15 rfl
theorem q1769 : (Jvm.Cond.instanceMethod ({ cls := "StairOnSticksModel", name := "isWord", desc := "(Ljava/lang/String;)Z" } : Jvm.MethodName)) ∈ lw_all := lw_g (lw_at lw_m8 16 rfl) rfl
theorem q1770 : (Jvm.Cond.code ({ cls := "StairOnSticksModel", name := "isWord", desc := "(Ljava/lang/String;)Z" } : Jvm.MethodName) prog_18_method_29_code (3 : Nat) (Option.some Jvm.ClassFile.FieldType.boolean)) ∈ lw_all := lw_g (lw_at lw_m8 17 rfl) rfl
theorem q1771 : (Jvm.Cond.methodLink "StairOnSticksModel" (169 : Nat) ({ cls := "java/lang/String", name := "length", desc := "()I" } : Jvm.MethodName)) ∈ lw_all := lw_g (lw_at lw_m8 18 rfl) rfl
theorem q1779 : (Jvm.Cond.methodLink "StairOnSticksModel" (175 : Nat) ({ cls := "java/lang/String", name := "charAt", desc := "(I)C" } : Jvm.MethodName)) ∈ lw_all := lw_g (lw_at lw_m8 26 rfl) rfl
theorem q1790 : (Jvm.Cond.methodLink "StairOnSticksModel" (211 : Nat) ({ cls := "StairOnSticksModel", name := "stepTold", desc := "()Z" } : Jvm.MethodName)) ∈ lw_all := lw_g (lw_at lw_m8 37 rfl) rfl
theorem q1791 : (Jvm.Cond.privateMethod ({ cls := "StairOnSticksModel", name := "stepTold", desc := "()Z" } : Jvm.MethodName)) ∈ lw_tbl := lw_at lw_m8 38 rfl
theorem q1792 : (Jvm.Cond.instanceMethod ({ cls := "StairOnSticksModel", name := "stepTold", desc := "()Z" } : Jvm.MethodName)) ∈ lw_all := lw_g (lw_at lw_m8 39 rfl) rfl
theorem q1793 : (Jvm.Cond.code ({ cls := "StairOnSticksModel", name := "stepTold", desc := "()Z" } : Jvm.MethodName) prog_18_method_33_code (2 : Nat) (Option.some Jvm.ClassFile.FieldType.boolean)) ∈ lw_all := lw_g (lw_at lw_m8 40 rfl) rfl
theorem q1794 : (Jvm.Cond.methodLink "StairOnSticksModel" (198 : Nat) ({ cls := "StairOnSticksModel", name := "tells", desc := "(Ljava/lang/String;II)Z" } : Jvm.MethodName)) ∈ lw_all := lw_g (lw_at lw_m8 41 rfl) rfl
theorem q1795 : (Jvm.Cond.privateMethod ({ cls := "StairOnSticksModel", name := "tells", desc := "(Ljava/lang/String;II)Z" } : Jvm.MethodName)) ∈ lw_tbl := lw_at lw_m8 42 rfl
theorem q1796 : (Jvm.Cond.instanceMethod ({ cls := "StairOnSticksModel", name := "tells", desc := "(Ljava/lang/String;II)Z" } : Jvm.MethodName)) ∈ lw_all := lw_g (lw_at lw_m8 43 rfl) rfl
theorem q1797 : (Jvm.Cond.code ({ cls := "StairOnSticksModel", name := "tells", desc := "(Ljava/lang/String;II)Z" } : Jvm.MethodName) prog_18_method_31_code (4 : Nat) (Option.some Jvm.ClassFile.FieldType.boolean)) ∈ lw_all := lw_g (lw_at lw_m8 44 rfl) rfl
theorem q1798 : (Jvm.Cond.methodLink "StairOnSticksModel" (179 : Nat) ({ cls := "StairOnSticksModel", name := "wrong", desc := "()Z" } : Jvm.MethodName)) ∈ lw_all := lw_g (lw_at lw_m8 45 rfl) rfl
theorem q1799 : (Jvm.Cond.privateMethod ({ cls := "StairOnSticksModel", name := "wrong", desc := "()Z" } : Jvm.MethodName)) ∈ lw_tbl := lw_at lw_m8 46 rfl
theorem q1800 : (Jvm.Cond.instanceMethod ({ cls := "StairOnSticksModel", name := "wrong", desc := "()Z" } : Jvm.MethodName)) ∈ lw_all := lw_g (lw_at lw_m8 47 rfl) rfl
theorem q1801 : (Jvm.Cond.code ({ cls := "StairOnSticksModel", name := "wrong", desc := "()Z" } : Jvm.MethodName) prog_18_method_28_code (1 : Nat) (Option.some Jvm.ClassFile.FieldType.boolean)) ∈ lw_all := lw_g (lw_at lw_m8 48 rfl) rfl
theorem q1802 : (Jvm.Cond.methodLink "StairOnSticksModel" (193 : Nat) ({ cls := "StairOnSticksModel", name := "number", desc := "(II)Z" } : Jvm.MethodName)) ∈ lw_all := lw_g (lw_at lw_m8 49 rfl) rfl
theorem q1803 : (Jvm.Cond.privateMethod ({ cls := "StairOnSticksModel", name := "number", desc := "(II)Z" } : Jvm.MethodName)) ∈ lw_tbl := lw_at lw_m8 50 rfl
theorem q1804 : (Jvm.Cond.instanceMethod ({ cls := "StairOnSticksModel", name := "number", desc := "(II)Z" } : Jvm.MethodName)) ∈ lw_all := lw_g (lw_at lw_m8 51 rfl) rfl
theorem q1805 : (Jvm.Cond.code ({ cls := "StairOnSticksModel", name := "number", desc := "(II)Z" } : Jvm.MethodName) prog_18_method_30_code (3 : Nat) (Option.some Jvm.ClassFile.FieldType.boolean)) ∈ lw_all := lw_g (lw_at lw_m8 52 rfl) rfl
theorem q1806 : (Jvm.Cond.stringRef "StairOnSticksModel" (202 : Nat) "wet") ∈ lw_tbl := lw_at lw_m8 53 rfl
theorem q1807 : (Jvm.Cond.methodLink "StairOnSticksModel" (203 : Nat) ({ cls := "StairOnSticksModel", name := "perhaps", desc := "(Ljava/lang/String;)Z" } : Jvm.MethodName)) ∈ lw_all := lw_g (lw_at lw_m8 54 rfl) rfl
theorem q1808 : (Jvm.Cond.privateMethod ({ cls := "StairOnSticksModel", name := "perhaps", desc := "(Ljava/lang/String;)Z" } : Jvm.MethodName)) ∈ lw_tbl := lw_at lw_m8 55 rfl
theorem q1809 : (Jvm.Cond.instanceMethod ({ cls := "StairOnSticksModel", name := "perhaps", desc := "(Ljava/lang/String;)Z" } : Jvm.MethodName)) ∈ lw_all := lw_g (lw_at lw_m8 56 rfl) rfl
theorem q1810 : (Jvm.Cond.code ({ cls := "StairOnSticksModel", name := "perhaps", desc := "(Ljava/lang/String;)Z" } : Jvm.MethodName) prog_18_method_32_code (3 : Nat) (Option.some Jvm.ClassFile.FieldType.boolean)) ∈ lw_all := lw_g (lw_at lw_m8 57 rfl) rfl
theorem q1811 : (Jvm.Cond.methodLink "StairOnSticksModel" (206 : Nat) ({ cls := "StairOnSticksModel", name := "step", desc := "(IZ)I" } : Jvm.MethodName)) ∈ lw_all := lw_g (lw_at lw_m8 58 rfl) rfl
theorem q1812 : (Jvm.Cond.stringRef "StairOnSticksModel" (209 : Nat) "rail") ∈ lw_tbl := lw_at lw_m8 59 rfl
theorem q1813 : (Jvm.Cond.stringRef "StairOnSticksModel" (210 : Nat) "chair") ∈ lw_tbl := lw_at lw_m8 60 rfl
theorem q1814 : (Jvm.Cond.stringRef "StairOnSticksModel" (214 : Nat) "way") ∈ lw_tbl := lw_at lw_m8 61 rfl
theorem q1815 : (Jvm.Cond.methodLink "StairOnSticksModel" (216 : Nat) ({ cls := "StairOnSticksModel", name := "way", desc := "(II)I" } : Jvm.MethodName)) ∈ lw_all := lw_g (lw_at lw_m8 62 rfl) rfl
theorem q1816 : (Jvm.Cond.stringRef "StairOnSticksModel" (218 : Nat) "weight") ∈ lw_tbl := lw_at lw_m8 63 rfl
theorem q1817 : (Jvm.Cond.methodLink "StairOnSticksModel" (220 : Nat) ({ cls := "StairOnSticksModel", name := "askedTold", desc := "(Ljava/lang/String;I)Z" } : Jvm.MethodName)) ∈ lw_all := lw_g (lw_at lw_m8 64 rfl) rfl
theorem q1818 : (Jvm.Cond.privateMethod ({ cls := "StairOnSticksModel", name := "askedTold", desc := "(Ljava/lang/String;I)Z" } : Jvm.MethodName)) ∈ lw_tbl := lw_at lw_m8 65 rfl
theorem q1819 : (Jvm.Cond.instanceMethod ({ cls := "StairOnSticksModel", name := "askedTold", desc := "(Ljava/lang/String;I)Z" } : Jvm.MethodName)) ∈ lw_all := lw_g (lw_at lw_m8 66 rfl) rfl
theorem q1820 : (Jvm.Cond.code ({ cls := "StairOnSticksModel", name := "askedTold", desc := "(Ljava/lang/String;I)Z" } : Jvm.MethodName) prog_18_method_34_code (4 : Nat) (Option.some Jvm.ClassFile.FieldType.boolean)) ∈ lw_all := lw_g (lw_at lw_m8 67 rfl) rfl
theorem q1821 : (Jvm.Cond.stringRef "StairOnSticksModel" (224 : Nat) "limit") ∈ lw_tbl := lw_at lw_m8 68 rfl
theorem q1822 : (Jvm.Cond.stringRef "StairOnSticksModel" (226 : Nat) "arms") ∈ lw_tbl := lw_at lw_m8 69 rfl
theorem q1823 : (Jvm.Cond.stringRef "StairOnSticksModel" (228 : Nat) "heal") ∈ lw_tbl := lw_at lw_m8 70 rfl
theorem q1824 : (Jvm.Cond.stringRef "StairOnSticksModel" (230 : Nat) "dry") ∈ lw_tbl := lw_at lw_m8 71 rfl
theorem q1826 : (Jvm.Cond.instanceMethod ({ cls := "StairOnSticksModel", name := "stepOf", desc := "(II)I" } : Jvm.MethodName)) ∈ lw_all := lw_g (lw_at lw_m8 73 rfl) rfl
theorem q1827 : (Jvm.Cond.selects "StairOnSticksModel" ({ cls := "StairOnSticksModel", name := "stepOf", desc := "(II)I" } : Jvm.MethodName) ({ cls := "StairOnSticksModel", name := "stepOf", desc := "(II)I" } : Jvm.MethodName)) ∈ lw_all := lw_g (lw_at lw_m8 74 rfl) rfl
theorem q1828 : (Jvm.Cond.code ({ cls := "StairOnSticksModel", name := "stepOf", desc := "(II)I" } : Jvm.MethodName) prog_18_method_38_code (3 : Nat) (Option.some Jvm.ClassFile.FieldType.int)) ∈ lw_all := lw_g (lw_at lw_m8 75 rfl) rfl
theorem q1829 : (Jvm.Cond.constantLong "StairOnSticksModel" (249 : Nat) (3 : Int64)) ∈ lw_all := lw_g (lw_at lw_m8 76 rfl) rfl
theorem q1831 : (Jvm.Cond.instanceMethod ({ cls := "StairOnSticksModel", name := "wayOf", desc := "(II)I" } : Jvm.MethodName)) ∈ lw_all := lw_g (lw_at lw_m8 78 rfl) rfl
theorem q1832 : (Jvm.Cond.selects "StairOnSticksModel" ({ cls := "StairOnSticksModel", name := "wayOf", desc := "(II)I" } : Jvm.MethodName) ({ cls := "StairOnSticksModel", name := "wayOf", desc := "(II)I" } : Jvm.MethodName)) ∈ lw_all := lw_g (lw_at lw_m8 79 rfl) rfl
theorem q1833 : (Jvm.Cond.code ({ cls := "StairOnSticksModel", name := "wayOf", desc := "(II)I" } : Jvm.MethodName) prog_18_method_39_code (3 : Nat) (Option.some Jvm.ClassFile.FieldType.int)) ∈ lw_all := lw_g (lw_at lw_m8 80 rfl) rfl
theorem q1835 : (Jvm.Cond.instanceMethod ({ cls := "StairOnSticksModel", name := "asked", desc := "(I)I" } : Jvm.MethodName)) ∈ lw_all := lw_g (lw_at lw_m8 82 rfl) rfl
theorem q1836 : (Jvm.Cond.selects "StairOnSticksModel" ({ cls := "StairOnSticksModel", name := "asked", desc := "(I)I" } : Jvm.MethodName) ({ cls := "StairOnSticksModel", name := "asked", desc := "(I)I" } : Jvm.MethodName)) ∈ lw_all := lw_g (lw_at lw_m8 83 rfl) rfl
theorem q1837 : (Jvm.Cond.code ({ cls := "StairOnSticksModel", name := "asked", desc := "(I)I" } : Jvm.MethodName) prog_18_method_40_code (2 : Nat) (Option.some Jvm.ClassFile.FieldType.int)) ∈ lw_all := lw_g (lw_at lw_m8 84 rfl) rfl
theorem q1839 : (Jvm.Cond.instanceMethod ({ cls := "StairOnSticksModel", name := "move", desc := "(III)I" } : Jvm.MethodName)) ∈ lw_all := lw_g (lw_at lw_m8 86 rfl) rfl
theorem q1840 : (Jvm.Cond.selects "StairOnSticksModel" ({ cls := "StairOnSticksModel", name := "move", desc := "(III)I" } : Jvm.MethodName) ({ cls := "StairOnSticksModel", name := "move", desc := "(III)I" } : Jvm.MethodName)) ∈ lw_all := lw_g (lw_at lw_m8 87 rfl) rfl
theorem q1841 : (Jvm.Cond.code ({ cls := "StairOnSticksModel", name := "move", desc := "(III)I" } : Jvm.MethodName) prog_18_method_46_code (4 : Nat) (Option.some Jvm.ClassFile.FieldType.int)) ∈ lw_all := lw_g (lw_at lw_m8 88 rfl) rfl
theorem q1842 : (Jvm.Cond.methodLink "StairOnSticksModel" (254 : Nat) ({ cls := "StairOnSticksModel", name := "hands", desc := "(I)I" } : Jvm.MethodName)) ∈ lw_all := lw_g (lw_at lw_m8 89 rfl) rfl
theorem q1843 : (Jvm.Cond.privateMethod ({ cls := "StairOnSticksModel", name := "hands", desc := "(I)I" } : Jvm.MethodName)) ∈ lw_tbl := lw_at lw_m8 90 rfl
theorem q1844 : (Jvm.Cond.instanceMethod ({ cls := "StairOnSticksModel", name := "hands", desc := "(I)I" } : Jvm.MethodName)) ∈ lw_all := lw_g (lw_at lw_m8 91 rfl) rfl
theorem q1845 : (Jvm.Cond.code ({ cls := "StairOnSticksModel", name := "hands", desc := "(I)I" } : Jvm.MethodName) prog_18_method_43_code (2 : Nat) (Option.some Jvm.ClassFile.FieldType.int)) ∈ lw_all := lw_g (lw_at lw_m8 92 rfl) rfl
theorem q1847 : (Jvm.Cond.instanceMethod ({ cls := "StairOnSticksModel", name := "may", desc := "(II)I" } : Jvm.MethodName)) ∈ lw_all := lw_g (lw_at lw_m8 94 rfl) rfl
theorem q1848 : (Jvm.Cond.selects "StairOnSticksModel" ({ cls := "StairOnSticksModel", name := "may", desc := "(II)I" } : Jvm.MethodName) ({ cls := "StairOnSticksModel", name := "may", desc := "(II)I" } : Jvm.MethodName)) ∈ lw_all := lw_g (lw_at lw_m8 95 rfl) rfl
theorem q1849 : (Jvm.Cond.code ({ cls := "StairOnSticksModel", name := "may", desc := "(II)I" } : Jvm.MethodName) prog_18_method_49_code (5 : Nat) (Option.some Jvm.ClassFile.FieldType.int)) ∈ lw_all := lw_g (lw_at lw_m8 96 rfl) rfl
theorem q1850 : (Jvm.Cond.constantLong "StairOnSticksModel" (257 : Nat) (200 : Int64)) ∈ lw_all := lw_g (lw_at lw_m8 97 rfl) rfl
theorem q1851 : (Jvm.Cond.methodLink "StairOnSticksModel" (259 : Nat) ({ cls := "StairOnSticksModel", name := "canBe", desc := "(III)Z" } : Jvm.MethodName)) ∈ lw_all := lw_g (lw_at lw_m8 98 rfl) rfl
theorem q1852 : (Jvm.Cond.privateMethod ({ cls := "StairOnSticksModel", name := "canBe", desc := "(III)Z" } : Jvm.MethodName)) ∈ lw_tbl := lw_at lw_m8 99 rfl
theorem q1853 : (Jvm.Cond.instanceMethod ({ cls := "StairOnSticksModel", name := "canBe", desc := "(III)Z" } : Jvm.MethodName)) ∈ lw_all := lw_g (lw_at lw_m8 100 rfl) rfl
theorem q1854 : (Jvm.Cond.code ({ cls := "StairOnSticksModel", name := "canBe", desc := "(III)Z" } : Jvm.MethodName) prog_18_method_47_code (4 : Nat) (Option.some Jvm.ClassFile.FieldType.boolean)) ∈ lw_all := lw_g (lw_at lw_m8 101 rfl) rfl
theorem q1856 : (Jvm.Cond.instanceMethod ({ cls := "StairOnSticksModel", name := "hardest", desc := "()I" } : Jvm.MethodName)) ∈ lw_all := lw_g (lw_at lw_m8 103 rfl) rfl
theorem q1857 : (Jvm.Cond.selects "StairOnSticksModel" ({ cls := "StairOnSticksModel", name := "hardest", desc := "()I" } : Jvm.MethodName) ({ cls := "StairOnSticksModel", name := "hardest", desc := "()I" } : Jvm.MethodName)) ∈ lw_all := lw_g (lw_at lw_m8 104 rfl) rfl
theorem q1858 : (Jvm.Cond.code ({ cls := "StairOnSticksModel", name := "hardest", desc := "()I" } : Jvm.MethodName) prog_18_method_50_code (3 : Nat) (Option.some Jvm.ClassFile.FieldType.int)) ∈ lw_all := lw_g (lw_at lw_m8 105 rfl) rfl
theorem q1860 : (Jvm.Cond.instanceMethod ({ cls := "StairOnSticksModel", name := "lightest", desc := "(I)I" } : Jvm.MethodName)) ∈ lw_all := lw_g (lw_at lw_m8 107 rfl) rfl
theorem q1861 : (Jvm.Cond.selects "StairOnSticksModel" ({ cls := "StairOnSticksModel", name := "lightest", desc := "(I)I" } : Jvm.MethodName) ({ cls := "StairOnSticksModel", name := "lightest", desc := "(I)I" } : Jvm.MethodName)) ∈ lw_all := lw_g (lw_at lw_m8 108 rfl) rfl
theorem q1862 : (Jvm.Cond.code ({ cls := "StairOnSticksModel", name := "lightest", desc := "(I)I" } : Jvm.MethodName) prog_18_method_51_code (4 : Nat) (Option.some Jvm.ClassFile.FieldType.int)) ∈ lw_all := lw_g (lw_at lw_m8 109 rfl) rfl
theorem q1864 : (Jvm.Cond.instanceMethod ({ cls := "StairOnSticksModel", name := "judge", desc := "(I)I" } : Jvm.MethodName)) ∈ lw_all := lw_g (lw_at lw_m8 111 rfl) rfl
theorem q1865 : (Jvm.Cond.selects "StairOnSticksModel" ({ cls := "StairOnSticksModel", name := "judge", desc := "(I)I" } : Jvm.MethodName) ({ cls := "StairOnSticksModel", name := "judge", desc := "(I)I" } : Jvm.MethodName)) ∈ lw_all := lw_g (lw_at lw_m8 112 rfl) rfl
theorem q1866 : (Jvm.Cond.code ({ cls := "StairOnSticksModel", name := "judge", desc := "(I)I" } : Jvm.MethodName) prog_18_method_54_code (3 : Nat) (Option.some Jvm.ClassFile.FieldType.int)) ∈ lw_all := lw_g (lw_at lw_m8 113 rfl) rfl
theorem q1867 : (Jvm.Cond.methodLink "StairOnSticksModel" (270 : Nat) ({ cls := "StairOnSticksModel", name := "noClimb", desc := "(I)I" } : Jvm.MethodName)) ∈ lw_all := lw_g (lw_at lw_m8 114 rfl) rfl
theorem q1868 : (Jvm.Cond.privateMethod ({ cls := "StairOnSticksModel", name := "noClimb", desc := "(I)I" } : Jvm.MethodName)) ∈ lw_tbl := lw_at lw_m8 115 rfl
theorem q1869 : (Jvm.Cond.instanceMethod ({ cls := "StairOnSticksModel", name := "noClimb", desc := "(I)I" } : Jvm.MethodName)) ∈ lw_all := lw_g (lw_at lw_m8 116 rfl) rfl
theorem q1870 : (Jvm.Cond.code ({ cls := "StairOnSticksModel", name := "noClimb", desc := "(I)I" } : Jvm.MethodName) prog_18_method_52_code (3 : Nat) (Option.some Jvm.ClassFile.FieldType.int)) ∈ lw_all := lw_g (lw_at lw_m8 117 rfl) rfl
theorem q1871 : (Jvm.Cond.methodLink "StairOnSticksModel" (273 : Nat) ({ cls := "StairOnSticksModel", name := "goThrough", desc := "(I)I" } : Jvm.MethodName)) ∈ lw_all := lw_g (lw_at lw_m8 118 rfl) rfl
theorem q1872 : (Jvm.Cond.privateMethod ({ cls := "StairOnSticksModel", name := "goThrough", desc := "(I)I" } : Jvm.MethodName)) ∈ lw_tbl := lw_at lw_m8 119 rfl
theorem q1873 : (Jvm.Cond.instanceMethod ({ cls := "StairOnSticksModel", name := "goThrough", desc := "(I)I" } : Jvm.MethodName)) ∈ lw_all := lw_g (lw_at lw_m8 120 rfl) rfl
theorem q1874 : (Jvm.Cond.code ({ cls := "StairOnSticksModel", name := "goThrough", desc := "(I)I" } : Jvm.MethodName) prog_18_method_53_code (3 : Nat) (Option.some Jvm.ClassFile.FieldType.int)) ∈ lw_all := lw_g (lw_at lw_m8 121 rfl) rfl
theorem q1875 : (Jvm.Cond.methodLink "StairOnSticksModel" (266 : Nat) ({ cls := "StairOnSticksModel", name := "armsBehind", desc := "(III)I" } : Jvm.MethodName)) ∈ lw_all := lw_g (lw_at lw_m8 122 rfl) rfl
theorem q1876 : (Jvm.Cond.privateMethod ({ cls := "StairOnSticksModel", name := "armsBehind", desc := "(III)I" } : Jvm.MethodName)) ∈ lw_tbl := lw_at lw_m8 123 rfl
theorem q1877 : (Jvm.Cond.instanceMethod ({ cls := "StairOnSticksModel", name := "armsBehind", desc := "(III)I" } : Jvm.MethodName)) ∈ lw_all := lw_g (lw_at lw_m8 124 rfl) rfl
theorem q1878 : (Jvm.Cond.code ({ cls := "StairOnSticksModel", name := "armsBehind", desc := "(III)I" } : Jvm.MethodName) prog_18_method_48_code (4 : Nat) (Option.some Jvm.ClassFile.FieldType.int)) ∈ lw_all := lw_g (lw_at lw_m8 125 rfl) rfl
theorem q1880 : (Jvm.Cond.instanceMethod ({ cls := "StairOnSticksModel", name := "told", desc := "(II)I" } : Jvm.MethodName)) ∈ lw_all := lw_g (lw_at lw_m8 127 rfl) rfl
theorem q1881 : (Jvm.Cond.selects "StairOnSticksModel" ({ cls := "StairOnSticksModel", name := "told", desc := "(II)I" } : Jvm.MethodName) ({ cls := "StairOnSticksModel", name := "told", desc := "(II)I" } : Jvm.MethodName)) ∈ lw_all := lw_g (lw_at lw_m8 128 rfl) rfl
theorem q1882 : (Jvm.Cond.code ({ cls := "StairOnSticksModel", name := "told", desc := "(II)I" } : Jvm.MethodName) prog_18_method_55_code (9 : Nat) (Option.some Jvm.ClassFile.FieldType.int)) ∈ lw_all := lw_g (lw_at lw_m8 129 rfl) rfl
theorem q1884 : (Jvm.Cond.instanceMethod ({ cls := "StairOnSticksModel", name := "odds", desc := "(I)J" } : Jvm.MethodName)) ∈ lw_all := lw_g (lw_at lw_m8 131 rfl) rfl
theorem q1885 : (Jvm.Cond.selects "StairOnSticksModel" ({ cls := "StairOnSticksModel", name := "odds", desc := "(I)J" } : Jvm.MethodName) ({ cls := "StairOnSticksModel", name := "odds", desc := "(I)J" } : Jvm.MethodName)) ∈ lw_all := lw_g (lw_at lw_m8 132 rfl) rfl
theorem q1886 : (Jvm.Cond.code ({ cls := "StairOnSticksModel", name := "odds", desc := "(I)J" } : Jvm.MethodName) prog_18_method_56_code (6 : Nat) (Option.some Jvm.ClassFile.FieldType.long)) ∈ lw_all := lw_g (lw_at lw_m8 133 rfl) rfl
theorem q1888 : (Jvm.Cond.instanceMethod ({ cls := "StairOnSticksModel", name := "safest", desc := "(I)I" } : Jvm.MethodName)) ∈ lw_all := lw_g (lw_at lw_m8 135 rfl) rfl
theorem q1889 : (Jvm.Cond.selects "StairOnSticksModel" ({ cls := "StairOnSticksModel", name := "safest", desc := "(I)I" } : Jvm.MethodName) ({ cls := "StairOnSticksModel", name := "safest", desc := "(I)I" } : Jvm.MethodName)) ∈ lw_all := lw_g (lw_at lw_m8 136 rfl) rfl
theorem q1890 : (Jvm.Cond.code ({ cls := "StairOnSticksModel", name := "safest", desc := "(I)I" } : Jvm.MethodName) prog_18_method_63_code (2 : Nat) (Option.some Jvm.ClassFile.FieldType.int)) ∈ lw_all := lw_g (lw_at lw_m8 137 rfl) rfl
theorem q1891 : (Jvm.Cond.methodLink "StairOnSticksModel" (287 : Nat) ({ cls := "StairOnSticksModel", name := "isTold", desc := "(I)Z" } : Jvm.MethodName)) ∈ lw_all := lw_g (lw_at lw_m8 138 rfl) rfl
theorem q1892 : (Jvm.Cond.privateMethod ({ cls := "StairOnSticksModel", name := "isTold", desc := "(I)Z" } : Jvm.MethodName)) ∈ lw_tbl := lw_at lw_m8 139 rfl
theorem q1893 : (Jvm.Cond.instanceMethod ({ cls := "StairOnSticksModel", name := "isTold", desc := "(I)Z" } : Jvm.MethodName)) ∈ lw_all := lw_g (lw_at lw_m8 140 rfl) rfl
theorem q1894 : (Jvm.Cond.code ({ cls := "StairOnSticksModel", name := "isTold", desc := "(I)Z" } : Jvm.MethodName) prog_18_method_62_code (2 : Nat) (Option.some Jvm.ClassFile.FieldType.boolean)) ∈ lw_all := lw_g (lw_at lw_m8 141 rfl) rfl
theorem q1895 : (Jvm.Cond.methodLink "StairOnSticksModel" (290 : Nat) ({ cls := "StairOnSticksModel", name := "findBest", desc := "(IZ)V" } : Jvm.MethodName)) ∈ lw_all := lw_g (lw_at lw_m8 142 rfl) rfl
theorem q1896 : (Jvm.Cond.privateMethod ({ cls := "StairOnSticksModel", name := "findBest", desc := "(IZ)V" } : Jvm.MethodName)) ∈ lw_tbl := lw_at lw_m8 143 rfl
theorem q1897 : (Jvm.Cond.instanceMethod ({ cls := "StairOnSticksModel", name := "findBest", desc := "(IZ)V" } : Jvm.MethodName)) ∈ lw_all := lw_g (lw_at lw_m8 144 rfl) rfl
theorem q1898 : (Jvm.Cond.code ({ cls := "StairOnSticksModel", name := "findBest", desc := "(IZ)V" } : Jvm.MethodName) prog_18_method_58_code (6 : Nat) (Option.none : Option Jvm.ClassFile.FieldType)) ∈ lw_all := lw_g (lw_at lw_m8 145 rfl) rfl
theorem q1899 : (Jvm.Cond.methodLink "StairOnSticksModel" (276 : Nat) ({ cls := "StairOnSticksModel", name := "tryWay", desc := "(IIIZ)V" } : Jvm.MethodName)) ∈ lw_all := lw_g (lw_at lw_m8 146 rfl) rfl
theorem q1900 : (Jvm.Cond.privateMethod ({ cls := "StairOnSticksModel", name := "tryWay", desc := "(IIIZ)V" } : Jvm.MethodName)) ∈ lw_tbl := lw_at lw_m8 147 rfl
theorem q1901 : (Jvm.Cond.instanceMethod ({ cls := "StairOnSticksModel", name := "tryWay", desc := "(IIIZ)V" } : Jvm.MethodName)) ∈ lw_all := lw_g (lw_at lw_m8 148 rfl) rfl
theorem q1902 : (Jvm.Cond.code ({ cls := "StairOnSticksModel", name := "tryWay", desc := "(IIIZ)V" } : Jvm.MethodName) prog_18_method_59_code (10 : Nat) (Option.none : Option Jvm.ClassFile.FieldType)) ∈ lw_all := lw_g (lw_at lw_m8 149 rfl) rfl
theorem q1903 : (Jvm.Cond.methodLink "StairOnSticksModel" (280 : Nat) ({ cls := "StairOnSticksModel", name := "isLess", desc := "(IIII)Z" } : Jvm.MethodName)) ∈ lw_all := lw_g (lw_at lw_m8 150 rfl) rfl
theorem q1904 : (Jvm.Cond.static ({ cls := "StairOnSticksModel", name := "isLess", desc := "(IIII)Z" } : Jvm.MethodName)) ∈ lw_all := lw_g (lw_at lw_m8 151 rfl) rfl
theorem q1905 : (Jvm.Cond.code ({ cls := "StairOnSticksModel", name := "isLess", desc := "(IIII)Z" } : Jvm.MethodName) prog_18_method_57_code (4 : Nat) (Option.some Jvm.ClassFile.FieldType.boolean)) ∈ lw_all := lw_g (lw_at lw_m8 152 rfl) rfl
theorem q1906 : (Jvm.Cond.methodLink "StairOnSticksModel" (294 : Nat) ({ cls := "StairOnSticksModel", name := "found", desc := "(I)I" } : Jvm.MethodName)) ∈ lw_all := lw_g (lw_at lw_m8 153 rfl) rfl
theorem q1907 : (Jvm.Cond.privateMethod ({ cls := "StairOnSticksModel", name := "found", desc := "(I)I" } : Jvm.MethodName)) ∈ lw_tbl := lw_at lw_m8 154 rfl
theorem q1908 : (Jvm.Cond.instanceMethod ({ cls := "StairOnSticksModel", name := "found", desc := "(I)I" } : Jvm.MethodName)) ∈ lw_all := lw_g (lw_at lw_m8 155 rfl) rfl
theorem q1909 : (Jvm.Cond.code ({ cls := "StairOnSticksModel", name := "found", desc := "(I)I" } : Jvm.MethodName) prog_18_method_61_code (4 : Nat) (Option.some Jvm.ClassFile.FieldType.int)) ∈ lw_all := lw_g (lw_at lw_m8 156 rfl) rfl
theorem q1910 : (Jvm.Cond.methodLink "StairOnSticksModel" (284 : Nat) ({ cls := "StairOnSticksModel", name := "isNone", desc := "()Z" } : Jvm.MethodName)) ∈ lw_all := lw_g (lw_at lw_m8 157 rfl) rfl
theorem q1911 : (Jvm.Cond.privateMethod ({ cls := "StairOnSticksModel", name := "isNone", desc := "()Z" } : Jvm.MethodName)) ∈ lw_tbl := lw_at lw_m8 158 rfl
theorem q1912 : (Jvm.Cond.instanceMethod ({ cls := "StairOnSticksModel", name := "isNone", desc := "()Z" } : Jvm.MethodName)) ∈ lw_all := lw_g (lw_at lw_m8 159 rfl) rfl
theorem q1913 : (Jvm.Cond.code ({ cls := "StairOnSticksModel", name := "isNone", desc := "()Z" } : Jvm.MethodName) prog_18_method_60_code (1 : Nat) (Option.some Jvm.ClassFile.FieldType.boolean)) ∈ lw_all := lw_g (lw_at lw_m8 160 rfl) rfl
theorem q1915 : (Jvm.Cond.instanceMethod ({ cls := "StairOnSticksModel", name := "from", desc := "(II)I" } : Jvm.MethodName)) ∈ lw_all := lw_g (lw_at lw_m8 162 rfl) rfl
theorem q1916 : (Jvm.Cond.selects "StairOnSticksModel" ({ cls := "StairOnSticksModel", name := "from", desc := "(II)I" } : Jvm.MethodName) ({ cls := "StairOnSticksModel", name := "from", desc := "(II)I" } : Jvm.MethodName)) ∈ lw_all := lw_g (lw_at lw_m8 163 rfl) rfl
theorem q1917 : (Jvm.Cond.code ({ cls := "StairOnSticksModel", name := "from", desc := "(II)I" } : Jvm.MethodName) prog_18_method_64_code (3 : Nat) (Option.some Jvm.ClassFile.FieldType.int)) ∈ lw_all := lw_g (lw_at lw_m8 164 rfl) rfl
theorem q1919 : (Jvm.Cond.instanceMethod ({ cls := "StairOnSticksModel", name := "easiest", desc := "(II)I" } : Jvm.MethodName)) ∈ lw_all := lw_g (lw_at lw_m8 166 rfl) rfl
theorem q1920 : (Jvm.Cond.selects "StairOnSticksModel" ({ cls := "StairOnSticksModel", name := "easiest", desc := "(II)I" } : Jvm.MethodName) ({ cls := "StairOnSticksModel", name := "easiest", desc := "(II)I" } : Jvm.MethodName)) ∈ lw_all := lw_g (lw_at lw_m8 167 rfl) rfl
theorem q1921 : (Jvm.Cond.code ({ cls := "StairOnSticksModel", name := "easiest", desc := "(II)I" } : Jvm.MethodName) prog_18_method_65_code (3 : Nat) (Option.some Jvm.ClassFile.FieldType.int)) ∈ lw_all := lw_g (lw_at lw_m8 168 rfl) rfl
theorem q1922 : (Jvm.Cond.constantLong "StairOnSticksModel" (297 : Nat) (100 : Int64)) ∈ lw_all := lw_g (lw_at lw_m8 169 rfl) rfl
theorem q1924 : (Jvm.Cond.instanceMethod ({ cls := "StairOnSticksModel", name := "needs", desc := "(I)I" } : Jvm.MethodName)) ∈ lw_all := lw_g (lw_at lw_m8 171 rfl) rfl
theorem q1925 : (Jvm.Cond.selects "StairOnSticksModel" ({ cls := "StairOnSticksModel", name := "needs", desc := "(I)I" } : Jvm.MethodName) ({ cls := "StairOnSticksModel", name := "needs", desc := "(I)I" } : Jvm.MethodName)) ∈ lw_all := lw_g (lw_at lw_m8 172 rfl) rfl
theorem q1926 : (Jvm.Cond.code ({ cls := "StairOnSticksModel", name := "needs", desc := "(I)I" } : Jvm.MethodName) prog_18_method_67_code (4 : Nat) (Option.some Jvm.ClassFile.FieldType.int)) ∈ lw_all := lw_g (lw_at lw_m8 173 rfl) rfl
theorem q1928 : (Jvm.Cond.instanceMethod ({ cls := "StairOnSticksModel", name := "helps", desc := "(II)I" } : Jvm.MethodName)) ∈ lw_all := lw_g (lw_at lw_m8 175 rfl) rfl
theorem q1929 : (Jvm.Cond.selects "StairOnSticksModel" ({ cls := "StairOnSticksModel", name := "helps", desc := "(II)I" } : Jvm.MethodName) ({ cls := "StairOnSticksModel", name := "helps", desc := "(II)I" } : Jvm.MethodName)) ∈ lw_all := lw_g (lw_at lw_m8 176 rfl) rfl
theorem q1930 : (Jvm.Cond.code ({ cls := "StairOnSticksModel", name := "helps", desc := "(II)I" } : Jvm.MethodName) prog_18_method_70_code (6 : Nat) (Option.some Jvm.ClassFile.FieldType.int)) ∈ lw_all := lw_g (lw_at lw_m8 177 rfl) rfl
theorem q1931 : (Jvm.Cond.methodLink "StairOnSticksModel" (304 : Nat) ({ cls := "StairOnSticksModel", name := "safestNow", desc := "()I" } : Jvm.MethodName)) ∈ lw_all := lw_g (lw_at lw_m8 178 rfl) rfl
theorem q1932 : (Jvm.Cond.privateMethod ({ cls := "StairOnSticksModel", name := "safestNow", desc := "()I" } : Jvm.MethodName)) ∈ lw_tbl := lw_at lw_m8 179 rfl
theorem q1933 : (Jvm.Cond.instanceMethod ({ cls := "StairOnSticksModel", name := "safestNow", desc := "()I" } : Jvm.MethodName)) ∈ lw_all := lw_g (lw_at lw_m8 180 rfl) rfl
theorem q1934 : (Jvm.Cond.code ({ cls := "StairOnSticksModel", name := "safestNow", desc := "()I" } : Jvm.MethodName) prog_18_method_69_code (1 : Nat) (Option.some Jvm.ClassFile.FieldType.int)) ∈ lw_all := lw_g (lw_at lw_m8 181 rfl) rfl
theorem q1935 : (Jvm.Cond.methodLink "StairOnSticksModel" (307 : Nat) ({ cls := "StairOnSticksModel", name := "doesWork", desc := "(II)Z" } : Jvm.MethodName)) ∈ lw_all := lw_g (lw_at lw_m8 182 rfl) rfl
theorem q1936 : (Jvm.Cond.privateMethod ({ cls := "StairOnSticksModel", name := "doesWork", desc := "(II)Z" } : Jvm.MethodName)) ∈ lw_tbl := lw_at lw_m8 183 rfl
theorem q1937 : (Jvm.Cond.instanceMethod ({ cls := "StairOnSticksModel", name := "doesWork", desc := "(II)Z" } : Jvm.MethodName)) ∈ lw_all := lw_g (lw_at lw_m8 184 rfl) rfl
theorem q1938 : (Jvm.Cond.code ({ cls := "StairOnSticksModel", name := "doesWork", desc := "(II)Z" } : Jvm.MethodName) prog_18_method_68_code (4 : Nat) (Option.some Jvm.ClassFile.FieldType.boolean)) ∈ lw_all := lw_g (lw_at lw_m8 185 rfl) rfl
theorem q1940 : (Jvm.Cond.instanceMethod ({ cls := "StairOnSticksModel", name := "where", desc := "(I)I" } : Jvm.MethodName)) ∈ lw_all := lw_g (lw_at lw_m8 187 rfl) rfl
theorem q1941 : (Jvm.Cond.selects "StairOnSticksModel" ({ cls := "StairOnSticksModel", name := "where", desc := "(I)I" } : Jvm.MethodName) ({ cls := "StairOnSticksModel", name := "where", desc := "(I)I" } : Jvm.MethodName)) ∈ lw_all := lw_g (lw_at lw_m8 188 rfl) rfl
theorem q1942 : (Jvm.Cond.code ({ cls := "StairOnSticksModel", name := "where", desc := "(I)I" } : Jvm.MethodName) prog_18_method_72_code (2 : Nat) (Option.some Jvm.ClassFile.FieldType.int)) ∈ lw_all := lw_g (lw_at lw_m8 189 rfl) rfl
theorem q1943 : (Jvm.Cond.methodLink "StairOnSticksModel" (310 : Nat) ({ cls := "StairOnSticksModel", name := "whereOf", desc := "(I)I" } : Jvm.MethodName)) ∈ lw_all := lw_g (lw_at lw_m8 190 rfl) rfl
theorem q1944 : (Jvm.Cond.privateMethod ({ cls := "StairOnSticksModel", name := "whereOf", desc := "(I)I" } : Jvm.MethodName)) ∈ lw_tbl := lw_at lw_m8 191 rfl
theorem q1945 : (Jvm.Cond.instanceMethod ({ cls := "StairOnSticksModel", name := "whereOf", desc := "(I)I" } : Jvm.MethodName)) ∈ lw_all := lw_g (lw_at lw_m8 192 rfl) rfl
theorem q1946 : (Jvm.Cond.code ({ cls := "StairOnSticksModel", name := "whereOf", desc := "(I)I" } : Jvm.MethodName) prog_18_method_71_code (8 : Nat) (Option.some Jvm.ClassFile.FieldType.int)) ∈ lw_all := lw_g (lw_at lw_m8 193 rfl) rfl
theorem q1948 : (Jvm.Cond.instanceMethod ({ cls := "StairOnSticksModel", name := "works", desc := "(II)I" } : Jvm.MethodName)) ∈ lw_all := lw_g (lw_at lw_m8 195 rfl) rfl
theorem q1949 : (Jvm.Cond.selects "StairOnSticksModel" ({ cls := "StairOnSticksModel", name := "works", desc := "(II)I" } : Jvm.MethodName) ({ cls := "StairOnSticksModel", name := "works", desc := "(II)I" } : Jvm.MethodName)) ∈ lw_all := lw_g (lw_at lw_m8 196 rfl) rfl
theorem q1950 : (Jvm.Cond.code ({ cls := "StairOnSticksModel", name := "works", desc := "(II)I" } : Jvm.MethodName) prog_18_method_73_code (3 : Nat) (Option.some Jvm.ClassFile.FieldType.int)) ∈ lw_all := lw_g (lw_at lw_m8 197 rfl) rfl
theorem q1951 : (Jvm.Cond.constantLong "StairOnSticksModel" (313 : Nat) (999 : Int64)) ∈ lw_all := lw_g (lw_at lw_m8 198 rfl) rfl
theorem q1952 : (Jvm.Cond.methodLink "StairOnSticksModel" (315 : Nat) ({ cls := "StairOnSticksModel", name := "worksOf", desc := "(II)I" } : Jvm.MethodName)) ∈ lw_all := lw_g (lw_at lw_m8 199 rfl) rfl
theorem q1953 : (Jvm.Cond.privateMethod ({ cls := "StairOnSticksModel", name := "worksOf", desc := "(II)I" } : Jvm.MethodName)) ∈ lw_tbl := lw_at lw_m8 200 rfl
theorem q1954 : (Jvm.Cond.instanceMethod ({ cls := "StairOnSticksModel", name := "worksOf", desc := "(II)I" } : Jvm.MethodName)) ∈ lw_all := lw_g (lw_at lw_m8 201 rfl) rfl
theorem q1955 : (Jvm.Cond.code ({ cls := "StairOnSticksModel", name := "worksOf", desc := "(II)I" } : Jvm.MethodName) prog_18_method_74_code (12 : Nat) (Option.some Jvm.ClassFile.FieldType.int)) ∈ lw_all := lw_g (lw_at lw_m8 202 rfl) rfl
theorem q1957 : (Jvm.Cond.instanceMethod ({ cls := "StairOnSticksModel", name := "done", desc := "(II)I" } : Jvm.MethodName)) ∈ lw_all := lw_g (lw_at lw_m8 204 rfl) rfl
theorem q1958 : (Jvm.Cond.selects "StairOnSticksModel" ({ cls := "StairOnSticksModel", name := "done", desc := "(II)I" } : Jvm.MethodName) ({ cls := "StairOnSticksModel", name := "done", desc := "(II)I" } : Jvm.MethodName)) ∈ lw_all := lw_g (lw_at lw_m8 205 rfl) rfl
theorem q1959 : (Jvm.Cond.code ({ cls := "StairOnSticksModel", name := "done", desc := "(II)I" } : Jvm.MethodName) prog_18_method_75_code (3 : Nat) (Option.some Jvm.ClassFile.FieldType.int)) ∈ lw_all := lw_g (lw_at lw_m8 206 rfl) rfl
theorem q1961 : (Jvm.Cond.instanceMethod ({ cls := "StairOnSticksModel", name := "goings", desc := "(IIII)I" } : Jvm.MethodName)) ∈ lw_all := lw_g (lw_at lw_m8 208 rfl) rfl
theorem q1962 : (Jvm.Cond.selects "StairOnSticksModel" ({ cls := "StairOnSticksModel", name := "goings", desc := "(IIII)I" } : Jvm.MethodName) ({ cls := "StairOnSticksModel", name := "goings", desc := "(IIII)I" } : Jvm.MethodName)) ∈ lw_all := lw_g (lw_at lw_m8 209 rfl) rfl
theorem q1963 : (Jvm.Cond.code ({ cls := "StairOnSticksModel", name := "goings", desc := "(IIII)I" } : Jvm.MethodName) prog_18_method_76_code (9 : Nat) (Option.some Jvm.ClassFile.FieldType.int)) ∈ lw_all := lw_g (lw_at lw_m8 210 rfl) rfl
theorem q1964 : (Jvm.Cond.constantLong "StairOnSticksModel" (318 : Nat) (12 : Int64)) ∈ lw_all := lw_g (lw_at lw_m8 211 rfl) rfl
theorem q1965 : (Jvm.Cond.constantLong "StairOnSticksModel" (320 : Nat) (23 : Int64)) ∈ lw_all := lw_g (lw_at lw_m8 212 rfl) rfl
theorem q1967 : (Jvm.Cond.instanceMethod ({ cls := "StairOnSticksModel", name := "week", desc := "(I)I" } : Jvm.MethodName)) ∈ lw_all := lw_g (lw_at lw_m8 214 rfl) rfl
theorem q1968 : (Jvm.Cond.selects "StairOnSticksModel" ({ cls := "StairOnSticksModel", name := "week", desc := "(I)I" } : Jvm.MethodName) ({ cls := "StairOnSticksModel", name := "week", desc := "(I)I" } : Jvm.MethodName)) ∈ lw_all := lw_g (lw_at lw_m8 215 rfl) rfl
theorem q1969 : (Jvm.Cond.code ({ cls := "StairOnSticksModel", name := "week", desc := "(I)I" } : Jvm.MethodName) prog_18_method_78_code (2 : Nat) (Option.some Jvm.ClassFile.FieldType.int)) ∈ lw_all := lw_g (lw_at lw_m8 216 rfl) rfl
theorem q1970 : (Jvm.Cond.methodLink "StairOnSticksModel" (322 : Nat) ({ cls := "StairOnSticksModel", name := "healed", desc := "(II)I" } : Jvm.MethodName)) ∈ lw_all := lw_g (lw_at lw_m8 217 rfl) rfl
theorem q1971 : (Jvm.Cond.privateMethod ({ cls := "StairOnSticksModel", name := "healed", desc := "(II)I" } : Jvm.MethodName)) ∈ lw_tbl := lw_at lw_m8 218 rfl
theorem q1972 : (Jvm.Cond.instanceMethod ({ cls := "StairOnSticksModel", name := "healed", desc := "(II)I" } : Jvm.MethodName)) ∈ lw_all := lw_g (lw_at lw_m8 219 rfl) rfl
theorem q1973 : (Jvm.Cond.code ({ cls := "StairOnSticksModel", name := "healed", desc := "(II)I" } : Jvm.MethodName) prog_18_method_77_code (5 : Nat) (Option.some Jvm.ClassFile.FieldType.int)) ∈ lw_all := lw_g (lw_at lw_m8 220 rfl) rfl
theorem q1975 : (Jvm.Cond.instanceMethod ({ cls := "StairOnSticksModel", name := "weeks", desc := "(I)I" } : Jvm.MethodName)) ∈ lw_all := lw_g (lw_at lw_m8 222 rfl) rfl
theorem q1976 : (Jvm.Cond.selects "StairOnSticksModel" ({ cls := "StairOnSticksModel", name := "weeks", desc := "(I)I" } : Jvm.MethodName) ({ cls := "StairOnSticksModel", name := "weeks", desc := "(I)I" } : Jvm.MethodName)) ∈ lw_all := lw_g (lw_at lw_m8 223 rfl) rfl
theorem q1977 : (Jvm.Cond.code ({ cls := "StairOnSticksModel", name := "weeks", desc := "(I)I" } : Jvm.MethodName) prog_18_method_80_code (2 : Nat) (Option.some Jvm.ClassFile.FieldType.int)) ∈ lw_all := lw_g (lw_at lw_m8 224 rfl) rfl
theorem q1978 : (Jvm.Cond.methodLink "StairOnSticksModel" (328 : Nat) ({ cls := "StairOnSticksModel", name := "weeksBy", desc := "(I)I" } : Jvm.MethodName)) ∈ lw_all := lw_g (lw_at lw_m8 225 rfl) rfl
theorem q1979 : (Jvm.Cond.privateMethod ({ cls := "StairOnSticksModel", name := "weeksBy", desc := "(I)I" } : Jvm.MethodName)) ∈ lw_tbl := lw_at lw_m8 226 rfl
theorem q1980 : (Jvm.Cond.instanceMethod ({ cls := "StairOnSticksModel", name := "weeksBy", desc := "(I)I" } : Jvm.MethodName)) ∈ lw_all := lw_g (lw_at lw_m8 227 rfl) rfl
theorem q1981 : (Jvm.Cond.code ({ cls := "StairOnSticksModel", name := "weeksBy", desc := "(I)I" } : Jvm.MethodName) prog_18_method_79_code (4 : Nat) (Option.some Jvm.ClassFile.FieldType.int)) ∈ lw_all := lw_g (lw_at lw_m8 228 rfl) rfl
theorem q1983 : (Jvm.Cond.instanceMethod ({ cls := "StairOnSticksModel", name := "when", desc := "(III)I" } : Jvm.MethodName)) ∈ lw_all := lw_g (lw_at lw_m8 230 rfl) rfl
theorem q1984 : (Jvm.Cond.selects "StairOnSticksModel" ({ cls := "StairOnSticksModel", name := "when", desc := "(III)I" } : Jvm.MethodName) ({ cls := "StairOnSticksModel", name := "when", desc := "(III)I" } : Jvm.MethodName)) ∈ lw_all := lw_g (lw_at lw_m8 231 rfl) rfl
theorem q1985 : (Jvm.Cond.code ({ cls := "StairOnSticksModel", name := "when", desc := "(III)I" } : Jvm.MethodName) prog_18_method_81_code (7 : Nat) (Option.some Jvm.ClassFile.FieldType.int)) ∈ lw_all := lw_g (lw_at lw_m8 232 rfl) rfl
theorem q1987 : (Jvm.Cond.instanceMethod ({ cls := "StairOnSticksModel", name := "soonest", desc := "()I" } : Jvm.MethodName)) ∈ lw_all := lw_g (lw_at lw_m8 234 rfl) rfl
theorem q1988 : (Jvm.Cond.selects "StairOnSticksModel" ({ cls := "StairOnSticksModel", name := "soonest", desc := "()I" } : Jvm.MethodName) ({ cls := "StairOnSticksModel", name := "soonest", desc := "()I" } : Jvm.MethodName)) ∈ lw_all := lw_g (lw_at lw_m8 235 rfl) rfl
theorem q1989 : (Jvm.Cond.code ({ cls := "StairOnSticksModel", name := "soonest", desc := "()I" } : Jvm.MethodName) prog_18_method_82_code (4 : Nat) (Option.some Jvm.ClassFile.FieldType.int)) ∈ lw_all := lw_g (lw_at lw_m8 236 rfl) rfl
theorem q1991 : (Jvm.Cond.instanceMethod ({ cls := "StairOnSticksModel", name := "climbs", desc := "(I)I" } : Jvm.MethodName)) ∈ lw_all := lw_g (lw_at lw_m8 238 rfl) rfl
theorem q1992 : (Jvm.Cond.selects "StairOnSticksModel" ({ cls := "StairOnSticksModel", name := "climbs", desc := "(I)I" } : Jvm.MethodName) ({ cls := "StairOnSticksModel", name := "climbs", desc := "(I)I" } : Jvm.MethodName)) ∈ lw_all := lw_g (lw_at lw_m8 239 rfl) rfl
theorem q1993 : (Jvm.Cond.code ({ cls := "StairOnSticksModel", name := "climbs", desc := "(I)I" } : Jvm.MethodName) prog_18_method_86_code (4 : Nat) (Option.some Jvm.ClassFile.FieldType.int)) ∈ lw_all := lw_g (lw_at lw_m9 0 rfl) rfl
theorem q1994 : (Jvm.Cond.methodLink "StairOnSticksModel" (341 : Nat) ({ cls := "StairOnSticksModel", name := "goesUp", desc := "(II)Z" } : Jvm.MethodName)) ∈ lw_all := lw_g (lw_at lw_m9 1 rfl) rfl
theorem q1995 : (Jvm.Cond.privateMethod ({ cls := "StairOnSticksModel", name := "goesUp", desc := "(II)Z" } : Jvm.MethodName)) ∈ lw_tbl := lw_at lw_m9 2 rfl
theorem q1996 : (Jvm.Cond.instanceMethod ({ cls := "StairOnSticksModel", name := "goesUp", desc := "(II)Z" } : Jvm.MethodName)) ∈ lw_all := lw_g (lw_at lw_m9 3 rfl) rfl
theorem q1997 : (Jvm.Cond.code ({ cls := "StairOnSticksModel", name := "goesUp", desc := "(II)Z" } : Jvm.MethodName) prog_18_method_84_code (3 : Nat) (Option.some Jvm.ClassFile.FieldType.boolean)) ∈ lw_all := lw_g (lw_at lw_m9 4 rfl) rfl
theorem q1998 : (Jvm.Cond.methodLink "StairOnSticksModel" (332 : Nat) ({ cls := "StairOnSticksModel", name := "draw", desc := "(I)I" } : Jvm.MethodName)) ∈ lw_all := lw_g (lw_at lw_m9 5 rfl) rfl
theorem q1999 : (Jvm.Cond.privateMethod ({ cls := "StairOnSticksModel", name := "draw", desc := "(I)I" } : Jvm.MethodName)) ∈ lw_tbl := lw_at lw_m9 6 rfl
theorem q2000 : (Jvm.Cond.instanceMethod ({ cls := "StairOnSticksModel", name := "draw", desc := "(I)I" } : Jvm.MethodName)) ∈ lw_all := lw_g (lw_at lw_m9 7 rfl) rfl
theorem q2001 : (Jvm.Cond.code ({ cls := "StairOnSticksModel", name := "draw", desc := "(I)I" } : Jvm.MethodName) prog_18_method_83_code (2 : Nat) (Option.some Jvm.ClassFile.FieldType.int)) ∈ lw_all := lw_g (lw_at lw_m9 8 rfl) rfl
theorem q2002 : (Jvm.Cond.constant "StairOnSticksModel" (331 : Nat) (1103515245 : Int32)) ∈ lw_all := lw_g (lw_at lw_m9 9 rfl) rfl
theorem q2003 : (Jvm.Cond.methodLink "StairOnSticksModel" (344 : Nat) ({ cls := "StairOnSticksModel", name := "ended", desc := "(I)I" } : Jvm.MethodName)) ∈ lw_all := lw_g (lw_at lw_m9 10 rfl) rfl
theorem q2004 : (Jvm.Cond.privateMethod ({ cls := "StairOnSticksModel", name := "ended", desc := "(I)I" } : Jvm.MethodName)) ∈ lw_tbl := lw_at lw_m9 11 rfl
theorem q2005 : (Jvm.Cond.instanceMethod ({ cls := "StairOnSticksModel", name := "ended", desc := "(I)I" } : Jvm.MethodName)) ∈ lw_all := lw_g (lw_at lw_m9 12 rfl) rfl
theorem q2006 : (Jvm.Cond.code ({ cls := "StairOnSticksModel", name := "ended", desc := "(I)I" } : Jvm.MethodName) prog_18_method_85_code (2 : Nat) (Option.some Jvm.ClassFile.FieldType.int)) ∈ lw_all := lw_g (lw_at lw_m9 13 rfl) rfl
theorem q2008 : (Jvm.Cond.instanceMethod ({ cls := "StairOnSticksModel", name := "goes", desc := "()I" } : Jvm.MethodName)) ∈ lw_all := lw_g (lw_at lw_m9 15 rfl) rfl
theorem q2009 : (Jvm.Cond.selects "StairOnSticksModel" ({ cls := "StairOnSticksModel", name := "goes", desc := "()I" } : Jvm.MethodName) ({ cls := "StairOnSticksModel", name := "goes", desc := "()I" } : Jvm.MethodName)) ∈ lw_all := lw_g (lw_at lw_m9 16 rfl) rfl
theorem q2010 : (Jvm.Cond.code ({ cls := "StairOnSticksModel", name := "goes", desc := "()I" } : Jvm.MethodName) prog_18_method_87_code (3 : Nat) (Option.some Jvm.ClassFile.FieldType.int)) ∈ lw_all := lw_g (lw_at lw_m9 17 rfl) rfl
theorem q2012 : (Jvm.Cond.instanceMethod ({ cls := "StairOnSticksModel", name := "seed", desc := "(I)I" } : Jvm.MethodName)) ∈ lw_all := lw_g (lw_at lw_m9 19 rfl) rfl
theorem q2013 : (Jvm.Cond.selects "StairOnSticksModel" ({ cls := "StairOnSticksModel", name := "seed", desc := "(I)I" } : Jvm.MethodName) ({ cls := "StairOnSticksModel", name := "seed", desc := "(I)I" } : Jvm.MethodName)) ∈ lw_all := lw_g (lw_at lw_m9 20 rfl) rfl
theorem q2014 : (Jvm.Cond.code ({ cls := "StairOnSticksModel", name := "seed", desc := "(I)I" } : Jvm.MethodName) prog_18_method_88_code (3 : Nat) (Option.some Jvm.ClassFile.FieldType.int)) ∈ lw_all := lw_g (lw_at lw_m9 21 rfl) rfl
theorem q2016 : (Jvm.Cond.instanceMethod ({ cls := "StairOnSticksModel", name := "image", desc := "()I" } : Jvm.MethodName)) ∈ lw_all := lw_g (lw_at lw_m9 23 rfl) rfl
theorem q2017 : (Jvm.Cond.selects "StairOnSticksModel" ({ cls := "StairOnSticksModel", name := "image", desc := "()I" } : Jvm.MethodName) ({ cls := "StairOnSticksModel", name := "image", desc := "()I" } : Jvm.MethodName)) ∈ lw_all := lw_g (lw_at lw_m9 24 rfl) rfl
theorem q2018 : (Jvm.Cond.code ({ cls := "StairOnSticksModel", name := "image", desc := "()I" } : Jvm.MethodName) prog_18_method_90_code (1 : Nat) (Option.some Jvm.ClassFile.FieldType.int)) ∈ lw_all := lw_g (lw_at lw_m9 25 rfl) rfl
theorem q2020 : (Jvm.Cond.instanceMethod ({ cls := "StairOnSticksModel", name := "back", desc := "()I" } : Jvm.MethodName)) ∈ lw_all := lw_g (lw_at lw_m9 27 rfl) rfl
theorem q2021 : (Jvm.Cond.selects "StairOnSticksModel" ({ cls := "StairOnSticksModel", name := "back", desc := "()I" } : Jvm.MethodName) ({ cls := "StairOnSticksModel", name := "back", desc := "()I" } : Jvm.MethodName)) ∈ lw_all := lw_g (lw_at lw_m9 28 rfl) rfl
theorem q2022 : (Jvm.Cond.code ({ cls := "StairOnSticksModel", name := "back", desc := "()I" } : Jvm.MethodName) prog_18_method_91_code (2 : Nat) (Option.some Jvm.ClassFile.FieldType.int)) ∈ lw_all := lw_g (lw_at lw_m9 29 rfl) rfl
theorem q2024 : (Jvm.Cond.instanceMethod ({ cls := "StairOnSticksModel", name := "status", desc := "(I)I" } : Jvm.MethodName)) ∈ lw_all := lw_g (lw_at lw_m9 31 rfl) rfl
theorem q2025 : (Jvm.Cond.selects "StairOnSticksModel" ({ cls := "StairOnSticksModel", name := "status", desc := "(I)I" } : Jvm.MethodName) ({ cls := "StairOnSticksModel", name := "status", desc := "(I)I" } : Jvm.MethodName)) ∈ lw_all := lw_g (lw_at lw_m9 32 rfl) rfl
theorem q2026 : (Jvm.Cond.code ({ cls := "StairOnSticksModel", name := "status", desc := "(I)I" } : Jvm.MethodName) prog_18_method_92_code (4 : Nat) (Option.some Jvm.ClassFile.FieldType.int)) ∈ lw_all := lw_g (lw_at lw_m9 33 rfl) rfl
theorem q2027 : (Jvm.Cond.constantLong "StairOnSticksModel" (350 : Nat) (16 : Int64)) ∈ lw_all := lw_g (lw_at lw_m9 34 rfl) rfl
theorem in_X5 : ∀ w ∈ wsX50, w ∈ lw_all := lw_in wsX50 [1546, 1548, 1550, 1552, 1554, 1556, 1558, 1560, 1562, 1564, 1566, 1568, 1570, 1572, 1574, 1576, 1578, 1580, 1582, 1584, 1586, 1588, 1590, 1592, 1594, 1596, 1598, 1600, 1602, 1604, 1606, 1608, 1610, 1612, 1614, 1616] (by decide +kernel) (by decide +kernel)
