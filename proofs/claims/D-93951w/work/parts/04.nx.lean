/-! StairOnSticks$Stair -/
set_option maxRecDepth 100000
def RX1 : String := "StairOnSticks$Stair"
def TX1 : u_T := fun k => match k with
  | 0 => ("StairOnSticks$Stair", "step", "[LStairOnSticks$Step;", true)
  | 1 => ("StairOnSticks$Stair", "way", "[LStairOnSticks$Move;", true)
  | 2 => ("StairOnSticks$Stair", "person", "LStairOnSticks$Person;", true)
  | 3 => ("StairOnSticks$Stair", "steps", "I", false)
  | 4 => ("StairOnSticks$Stair", "ways", "I", false)
  | 5 => ("StairOnSticks$Stair", "seed", "I", false)
  | 6 => ("StairOnSticks$Stair", "climbs", "I", false)
  | 7 => ("StairOnSticks$Stair", "tops", "I", false)
  | _ => ("StairOnSticks$Stair", "weeks", "I", false)
def tyX1 : Nat → FieldType := fun k => match k with
  | 0 => .array (.object "StairOnSticks$Step")
  | 1 => .array (.object "StairOnSticks$Move")
  | 2 => .object "StairOnSticks$Person"
  | 3 => .int
  | 4 => .int
  | 5 => .int
  | 6 => .int
  | 7 => .int
  | _ => .int
abbrev wsX10 : List Cond := u_ws RX1 TX1 9
theorem nmX1 : ∀ a, a < 9 → ∀ b, b < 9 → a ≠ b → (TX1 a).2.1 ≠ (TX1 b).2.1 := by decide +kernel
theorem tyX1_ok : ∀ k, k < 9 → parseFieldDescriptor (TX1 k).2.2.1 = some (tyX1 k) := by decide +kernel
abbrev cX1_init : ByteArray := prog_14_method_1_code
def yX1_init : MethodName := ⟨RX1, "<init>", "()V"⟩
def dkwX1_init_1 : List UInt8 := [187, 0, 23, 89, 183, 0, 25, 181, 0, 26, 42, 4, 181, 0, 30, 177]
abbrev dktX1_init_1 : List UInt8 := dkwX1_init_1 ++ []
def dkwX1_init_0 : List UInt8 := [42, 183, 0, 3, 42, 16, 9, 189, 0, 9, 181, 0, 11, 42, 16, 6, 189, 0, 17, 181, 0, 19, 42]
abbrev dktX1_init_0 : List UInt8 := dkwX1_init_0 ++ dktX1_init_1
theorem dksX1_init_0 : cX1_init.data.toList.drop 0 = dktX1_init_0 := by decide +kernel
theorem dksX1_init_1 : cX1_init.data.toList.drop 23 = dktX1_init_1 := dk_seg dksX1_init_0 23 rfl rfl
theorem dX1_init_0 : decode cX1_init 0 = .ok (.aload_n 0, 1) := dk_42 (dk_at dksX1_init_0 0 rfl rfl)
theorem dX1_init_1 : decode cX1_init 1 = .ok (.invokespecial 3, 3) := dk_183 0 3 (dk_at dksX1_init_0 1 rfl rfl)
theorem dX1_init_4 : decode cX1_init 4 = .ok (.aload_n 0, 1) := dk_42 (dk_at dksX1_init_0 4 rfl rfl)
theorem dX1_init_5 : decode cX1_init 5 = .ok (.bipush 9, 2) := dk_16 9 (dk_at dksX1_init_0 5 rfl rfl)
theorem dX1_init_7 : decode cX1_init 7 = .ok (.anewarray 9, 3) := dk_189 0 9 (dk_at dksX1_init_0 7 rfl rfl)
theorem dX1_init_10 : decode cX1_init 10 = .ok (.putfield 11, 3) := dk_181 0 11 (dk_at dksX1_init_0 10 rfl rfl)
theorem dX1_init_13 : decode cX1_init 13 = .ok (.aload_n 0, 1) := dk_42 (dk_at dksX1_init_0 13 rfl rfl)
theorem dX1_init_14 : decode cX1_init 14 = .ok (.bipush 6, 2) := dk_16 6 (dk_at dksX1_init_0 14 rfl rfl)
theorem dX1_init_16 : decode cX1_init 16 = .ok (.anewarray 17, 3) := dk_189 0 17 (dk_at dksX1_init_0 16 rfl rfl)
theorem dX1_init_19 : decode cX1_init 19 = .ok (.putfield 19, 3) := dk_181 0 19 (dk_at dksX1_init_0 19 rfl rfl)
theorem dX1_init_22 : decode cX1_init 22 = .ok (.aload_n 0, 1) := dk_42 (dk_at dksX1_init_0 22 rfl rfl)
theorem dX1_init_23 : decode cX1_init 23 = .ok (.new 23, 3) := dk_187 0 23 (dk_at dksX1_init_1 0 rfl rfl)
theorem dX1_init_26 : decode cX1_init 26 = .ok (.dup, 1) := dk_89 (dk_at dksX1_init_1 3 rfl rfl)
theorem dX1_init_27 : decode cX1_init 27 = .ok (.invokespecial 25, 3) := dk_183 0 25 (dk_at dksX1_init_1 4 rfl rfl)
theorem dX1_init_30 : decode cX1_init 30 = .ok (.putfield 26, 3) := dk_181 0 26 (dk_at dksX1_init_1 7 rfl rfl)
theorem dX1_init_33 : decode cX1_init 33 = .ok (.aload_n 0, 1) := dk_42 (dk_at dksX1_init_1 10 rfl rfl)
theorem dX1_init_34 : decode cX1_init 34 = .ok (.iconst 1, 1) := dk_4 (dk_at dksX1_init_1 11 rfl rfl)
theorem dX1_init_35 : decode cX1_init 35 = .ok (.putfield 30, 3) := dk_181 0 30 (dk_at dksX1_init_1 12 rfl rfl)
theorem dX1_init_38 : decode cX1_init 38 = .ok (.return_, 1) := dk_177 (dk_at dksX1_init_1 15 rfl rfl)
abbrev cX1_adds : ByteArray := prog_14_method_3_code
def yX1_adds : MethodName := ⟨RX1, "adds", "(IZZZ)V"⟩
def dkwX1_adds_2 : List UInt8 := [180, 0, 35, 4, 96, 181, 0, 35, 177]
abbrev dktX1_adds_2 : List UInt8 := dkwX1_adds_2 ++ []
def dkwX1_adds_1 : List UInt8 := [181, 0, 72, 25, 5, 21, 4, 181, 0, 75, 42, 180, 0, 11, 42, 180, 0, 35, 25, 5, 83, 42, 89]
abbrev dktX1_adds_1 : List UInt8 := dkwX1_adds_1 ++ dktX1_adds_2
def dkwX1_adds_0 : List UInt8 := [187, 0, 9, 89, 183, 0, 64, 58, 5, 25, 5, 27, 181, 0, 65, 25, 5, 28, 181, 0, 68, 25, 5, 29]
abbrev dktX1_adds_0 : List UInt8 := dkwX1_adds_0 ++ dktX1_adds_1
theorem dksX1_adds_0 : cX1_adds.data.toList.drop 0 = dktX1_adds_0 := by decide +kernel
theorem dksX1_adds_1 : cX1_adds.data.toList.drop 24 = dktX1_adds_1 := dk_seg dksX1_adds_0 24 rfl rfl
theorem dksX1_adds_2 : cX1_adds.data.toList.drop 47 = dktX1_adds_2 := dk_seg dksX1_adds_1 23 rfl rfl
theorem dX1_adds_0 : decode cX1_adds 0 = .ok (.new 9, 3) := dk_187 0 9 (dk_at dksX1_adds_0 0 rfl rfl)
theorem dX1_adds_3 : decode cX1_adds 3 = .ok (.dup, 1) := dk_89 (dk_at dksX1_adds_0 3 rfl rfl)
theorem dX1_adds_4 : decode cX1_adds 4 = .ok (.invokespecial 64, 3) := dk_183 0 64 (dk_at dksX1_adds_0 4 rfl rfl)
theorem dX1_adds_7 : decode cX1_adds 7 = .ok (.astore 5, 2) := dk_58 5 (dk_at dksX1_adds_0 7 rfl rfl)
theorem dX1_adds_9 : decode cX1_adds 9 = .ok (.aload 5, 2) := dk_25 5 (dk_at dksX1_adds_0 9 rfl rfl)
theorem dX1_adds_11 : decode cX1_adds 11 = .ok (.iload_n 1, 1) := dk_27 (dk_at dksX1_adds_0 11 rfl rfl)
theorem dX1_adds_12 : decode cX1_adds 12 = .ok (.putfield 65, 3) := dk_181 0 65 (dk_at dksX1_adds_0 12 rfl rfl)
theorem dX1_adds_15 : decode cX1_adds 15 = .ok (.aload 5, 2) := dk_25 5 (dk_at dksX1_adds_0 15 rfl rfl)
theorem dX1_adds_17 : decode cX1_adds 17 = .ok (.iload_n 2, 1) := dk_28 (dk_at dksX1_adds_0 17 rfl rfl)
theorem dX1_adds_18 : decode cX1_adds 18 = .ok (.putfield 68, 3) := dk_181 0 68 (dk_at dksX1_adds_0 18 rfl rfl)
theorem dX1_adds_21 : decode cX1_adds 21 = .ok (.aload 5, 2) := dk_25 5 (dk_at dksX1_adds_0 21 rfl rfl)
theorem dX1_adds_23 : decode cX1_adds 23 = .ok (.iload_n 3, 1) := dk_29 (dk_at dksX1_adds_0 23 rfl rfl)
theorem dX1_adds_24 : decode cX1_adds 24 = .ok (.putfield 72, 3) := dk_181 0 72 (dk_at dksX1_adds_1 0 rfl rfl)
theorem dX1_adds_27 : decode cX1_adds 27 = .ok (.aload 5, 2) := dk_25 5 (dk_at dksX1_adds_1 3 rfl rfl)
theorem dX1_adds_29 : decode cX1_adds 29 = .ok (.iload 4, 2) := dk_21 4 (dk_at dksX1_adds_1 5 rfl rfl)
theorem dX1_adds_31 : decode cX1_adds 31 = .ok (.putfield 75, 3) := dk_181 0 75 (dk_at dksX1_adds_1 7 rfl rfl)
theorem dX1_adds_34 : decode cX1_adds 34 = .ok (.aload_n 0, 1) := dk_42 (dk_at dksX1_adds_1 10 rfl rfl)
theorem dX1_adds_35 : decode cX1_adds 35 = .ok (.getfield 11, 3) := dk_180 0 11 (dk_at dksX1_adds_1 11 rfl rfl)
theorem dX1_adds_38 : decode cX1_adds 38 = .ok (.aload_n 0, 1) := dk_42 (dk_at dksX1_adds_1 14 rfl rfl)
theorem dX1_adds_39 : decode cX1_adds 39 = .ok (.getfield 35, 3) := dk_180 0 35 (dk_at dksX1_adds_1 15 rfl rfl)
theorem dX1_adds_42 : decode cX1_adds 42 = .ok (.aload 5, 2) := dk_25 5 (dk_at dksX1_adds_1 18 rfl rfl)
theorem dX1_adds_44 : decode cX1_adds 44 = .ok (.aastore, 1) := dk_83 (dk_at dksX1_adds_1 20 rfl rfl)
theorem dX1_adds_45 : decode cX1_adds 45 = .ok (.aload_n 0, 1) := dk_42 (dk_at dksX1_adds_1 21 rfl rfl)
theorem dX1_adds_46 : decode cX1_adds 46 = .ok (.dup, 1) := dk_89 (dk_at dksX1_adds_1 22 rfl rfl)
theorem dX1_adds_47 : decode cX1_adds 47 = .ok (.getfield 35, 3) := dk_180 0 35 (dk_at dksX1_adds_2 0 rfl rfl)
theorem dX1_adds_50 : decode cX1_adds 50 = .ok (.iconst 1, 1) := dk_4 (dk_at dksX1_adds_2 3 rfl rfl)
theorem dX1_adds_51 : decode cX1_adds 51 = .ok (.iadd, 1) := dk_96 (dk_at dksX1_adds_2 4 rfl rfl)
theorem dX1_adds_52 : decode cX1_adds 52 = .ok (.putfield 35, 3) := dk_181 0 35 (dk_at dksX1_adds_2 5 rfl rfl)
theorem dX1_adds_55 : decode cX1_adds 55 = .ok (.return_, 1) := dk_177 (dk_at dksX1_adds_2 8 rfl rfl)
abbrev cX1_adds_2 : ByteArray := prog_14_method_4_code
def yX1_adds_2 : MethodName := ⟨RX1, "adds", "(LStairOnSticks$Move;)V"⟩
def dkwX1_adds_2_0 : List UInt8 := [42, 180, 0, 19, 42, 180, 0, 52, 43, 83, 42, 89, 180, 0, 52, 4, 96, 181, 0, 52, 177]
abbrev dktX1_adds_2_0 : List UInt8 := dkwX1_adds_2_0 ++ []
theorem dksX1_adds_2_0 : cX1_adds_2.data.toList.drop 0 = dktX1_adds_2_0 := by decide +kernel
theorem dX1_adds_2_0 : decode cX1_adds_2 0 = .ok (.aload_n 0, 1) := dk_42 (dk_at dksX1_adds_2_0 0 rfl rfl)
theorem dX1_adds_2_1 : decode cX1_adds_2 1 = .ok (.getfield 19, 3) := dk_180 0 19 (dk_at dksX1_adds_2_0 1 rfl rfl)
theorem dX1_adds_2_4 : decode cX1_adds_2 4 = .ok (.aload_n 0, 1) := dk_42 (dk_at dksX1_adds_2_0 4 rfl rfl)
theorem dX1_adds_2_5 : decode cX1_adds_2 5 = .ok (.getfield 52, 3) := dk_180 0 52 (dk_at dksX1_adds_2_0 5 rfl rfl)
theorem dX1_adds_2_8 : decode cX1_adds_2 8 = .ok (.aload_n 1, 1) := dk_43 (dk_at dksX1_adds_2_0 8 rfl rfl)
theorem dX1_adds_2_9 : decode cX1_adds_2 9 = .ok (.aastore, 1) := dk_83 (dk_at dksX1_adds_2_0 9 rfl rfl)
theorem dX1_adds_2_10 : decode cX1_adds_2 10 = .ok (.aload_n 0, 1) := dk_42 (dk_at dksX1_adds_2_0 10 rfl rfl)
theorem dX1_adds_2_11 : decode cX1_adds_2 11 = .ok (.dup, 1) := dk_89 (dk_at dksX1_adds_2_0 11 rfl rfl)
theorem dX1_adds_2_12 : decode cX1_adds_2 12 = .ok (.getfield 52, 3) := dk_180 0 52 (dk_at dksX1_adds_2_0 12 rfl rfl)
theorem dX1_adds_2_15 : decode cX1_adds_2 15 = .ok (.iconst 1, 1) := dk_4 (dk_at dksX1_adds_2_0 15 rfl rfl)
theorem dX1_adds_2_16 : decode cX1_adds_2 16 = .ok (.iadd, 1) := dk_96 (dk_at dksX1_adds_2_0 16 rfl rfl)
theorem dX1_adds_2_17 : decode cX1_adds_2 17 = .ok (.putfield 52, 3) := dk_181 0 52 (dk_at dksX1_adds_2_0 17 rfl rfl)
theorem dX1_adds_2_20 : decode cX1_adds_2 20 = .ok (.return_, 1) := dk_177 (dk_at dksX1_adds_2_0 20 rfl rfl)
abbrev cX1_copied : ByteArray := prog_14_method_2_code
def yX1_copied : MethodName := ⟨RX1, "copied", "()LStairOnSticks$Stair;"⟩
def dkwX1_copied_5 : List UInt8 := [181, 0, 58, 43, 42, 180, 0, 61, 181, 0, 61, 43, 176]
abbrev dktX1_copied_5 : List UInt8 := dkwX1_copied_5 ++ []
def dkwX1_copied_4 : List UInt8 := [181, 0, 52, 43, 42, 180, 0, 30, 181, 0, 30, 43, 42, 180, 0, 55, 181, 0, 55, 43, 42, 180, 0, 58]
abbrev dktX1_copied_4 : List UInt8 := dkwX1_copied_4 ++ dktX1_copied_5
def dkwX1_copied_3 : List UInt8 := [180, 0, 26, 180, 0, 48, 190, 184, 0, 42, 43, 42, 180, 0, 35, 181, 0, 35, 43, 42, 180, 0, 52]
abbrev dktX1_copied_3 : List UInt8 := dkwX1_copied_3 ++ dktX1_copied_4
def dkwX1_copied_2 : List UInt8 := [3, 16, 6, 184, 0, 42, 42, 180, 0, 26, 180, 0, 48, 3, 43, 180, 0, 26, 180, 0, 48, 3, 42]
abbrev dktX1_copied_2 : List UInt8 := dkwX1_copied_2 ++ dktX1_copied_3
def dkwX1_copied_1 : List UInt8 := [180, 0, 11, 28, 50, 182, 0, 38, 83, 132, 2, 1, 167, 255, 230, 42, 180, 0, 19, 3, 43, 180, 0, 19]
abbrev dktX1_copied_1 : List UInt8 := dkwX1_copied_1 ++ dktX1_copied_2
def dkwX1_copied_0 : List UInt8 := [187, 0, 12, 89, 183, 0, 34, 76, 3, 61, 28, 42, 180, 0, 35, 162, 0, 24, 43, 180, 0, 11, 28, 42]
abbrev dktX1_copied_0 : List UInt8 := dkwX1_copied_0 ++ dktX1_copied_1
theorem dksX1_copied_0 : cX1_copied.data.toList.drop 0 = dktX1_copied_0 := by decide +kernel
theorem dksX1_copied_1 : cX1_copied.data.toList.drop 24 = dktX1_copied_1 := dk_seg dksX1_copied_0 24 rfl rfl
theorem dksX1_copied_2 : cX1_copied.data.toList.drop 48 = dktX1_copied_2 := dk_seg dksX1_copied_1 24 rfl rfl
theorem dksX1_copied_3 : cX1_copied.data.toList.drop 71 = dktX1_copied_3 := dk_seg dksX1_copied_2 23 rfl rfl
theorem dksX1_copied_4 : cX1_copied.data.toList.drop 94 = dktX1_copied_4 := dk_seg dksX1_copied_3 23 rfl rfl
theorem dksX1_copied_5 : cX1_copied.data.toList.drop 118 = dktX1_copied_5 := dk_seg dksX1_copied_4 24 rfl rfl
theorem dX1_copied_0 : decode cX1_copied 0 = .ok (.new 12, 3) := dk_187 0 12 (dk_at dksX1_copied_0 0 rfl rfl)
theorem dX1_copied_3 : decode cX1_copied 3 = .ok (.dup, 1) := dk_89 (dk_at dksX1_copied_0 3 rfl rfl)
theorem dX1_copied_4 : decode cX1_copied 4 = .ok (.invokespecial 34, 3) := dk_183 0 34 (dk_at dksX1_copied_0 4 rfl rfl)
theorem dX1_copied_7 : decode cX1_copied 7 = .ok (.astore_n 1, 1) := dk_76 (dk_at dksX1_copied_0 7 rfl rfl)
theorem dX1_copied_8 : decode cX1_copied 8 = .ok (.iconst 0, 1) := dk_3 (dk_at dksX1_copied_0 8 rfl rfl)
theorem dX1_copied_9 : decode cX1_copied 9 = .ok (.istore_n 2, 1) := dk_61 (dk_at dksX1_copied_0 9 rfl rfl)
theorem dX1_copied_10 : decode cX1_copied 10 = .ok (.iload_n 2, 1) := dk_28 (dk_at dksX1_copied_0 10 rfl rfl)
theorem dX1_copied_11 : decode cX1_copied 11 = .ok (.aload_n 0, 1) := dk_42 (dk_at dksX1_copied_0 11 rfl rfl)
theorem dX1_copied_12 : decode cX1_copied 12 = .ok (.getfield 35, 3) := dk_180 0 35 (dk_at dksX1_copied_0 12 rfl rfl)
theorem dX1_copied_15 : decode cX1_copied 15 = .ok (.if_icmp .ge 24, 3) := dk_162 0 24 (dk_at dksX1_copied_0 15 rfl rfl)
theorem dX1_copied_18 : decode cX1_copied 18 = .ok (.aload_n 1, 1) := dk_43 (dk_at dksX1_copied_0 18 rfl rfl)
theorem dX1_copied_19 : decode cX1_copied 19 = .ok (.getfield 11, 3) := dk_180 0 11 (dk_at dksX1_copied_0 19 rfl rfl)
theorem dX1_copied_22 : decode cX1_copied 22 = .ok (.iload_n 2, 1) := dk_28 (dk_at dksX1_copied_0 22 rfl rfl)
theorem dX1_copied_23 : decode cX1_copied 23 = .ok (.aload_n 0, 1) := dk_42 (dk_at dksX1_copied_0 23 rfl rfl)
theorem dX1_copied_24 : decode cX1_copied 24 = .ok (.getfield 11, 3) := dk_180 0 11 (dk_at dksX1_copied_1 0 rfl rfl)
theorem dX1_copied_27 : decode cX1_copied 27 = .ok (.iload_n 2, 1) := dk_28 (dk_at dksX1_copied_1 3 rfl rfl)
theorem dX1_copied_28 : decode cX1_copied 28 = .ok (.aaload, 1) := dk_50 (dk_at dksX1_copied_1 4 rfl rfl)
theorem dX1_copied_29 : decode cX1_copied 29 = .ok (.invokevirtual 38, 3) := dk_182 0 38 (dk_at dksX1_copied_1 5 rfl rfl)
theorem dX1_copied_32 : decode cX1_copied 32 = .ok (.aastore, 1) := dk_83 (dk_at dksX1_copied_1 8 rfl rfl)
theorem dX1_copied_33 : decode cX1_copied 33 = .ok (.iinc 2 1, 3) := dk_132 2 1 (dk_at dksX1_copied_1 9 rfl rfl)
theorem dX1_copied_36 : decode cX1_copied 36 = .ok (.goto (-26), 3) := dk_167 255 230 (dk_at dksX1_copied_1 12 rfl rfl)
theorem dX1_copied_39 : decode cX1_copied 39 = .ok (.aload_n 0, 1) := dk_42 (dk_at dksX1_copied_1 15 rfl rfl)
theorem dX1_copied_40 : decode cX1_copied 40 = .ok (.getfield 19, 3) := dk_180 0 19 (dk_at dksX1_copied_1 16 rfl rfl)
theorem dX1_copied_43 : decode cX1_copied 43 = .ok (.iconst 0, 1) := dk_3 (dk_at dksX1_copied_1 19 rfl rfl)
theorem dX1_copied_44 : decode cX1_copied 44 = .ok (.aload_n 1, 1) := dk_43 (dk_at dksX1_copied_1 20 rfl rfl)
theorem dX1_copied_45 : decode cX1_copied 45 = .ok (.getfield 19, 3) := dk_180 0 19 (dk_at dksX1_copied_1 21 rfl rfl)
theorem dX1_copied_48 : decode cX1_copied 48 = .ok (.iconst 0, 1) := dk_3 (dk_at dksX1_copied_2 0 rfl rfl)
theorem dX1_copied_49 : decode cX1_copied 49 = .ok (.bipush 6, 2) := dk_16 6 (dk_at dksX1_copied_2 1 rfl rfl)
theorem dX1_copied_51 : decode cX1_copied 51 = .ok (.invokestatic 42, 3) := dk_184 0 42 (dk_at dksX1_copied_2 3 rfl rfl)
theorem dX1_copied_54 : decode cX1_copied 54 = .ok (.aload_n 0, 1) := dk_42 (dk_at dksX1_copied_2 6 rfl rfl)
theorem dX1_copied_55 : decode cX1_copied 55 = .ok (.getfield 26, 3) := dk_180 0 26 (dk_at dksX1_copied_2 7 rfl rfl)
theorem dX1_copied_58 : decode cX1_copied 58 = .ok (.getfield 48, 3) := dk_180 0 48 (dk_at dksX1_copied_2 10 rfl rfl)
theorem dX1_copied_61 : decode cX1_copied 61 = .ok (.iconst 0, 1) := dk_3 (dk_at dksX1_copied_2 13 rfl rfl)
theorem dX1_copied_62 : decode cX1_copied 62 = .ok (.aload_n 1, 1) := dk_43 (dk_at dksX1_copied_2 14 rfl rfl)
theorem dX1_copied_63 : decode cX1_copied 63 = .ok (.getfield 26, 3) := dk_180 0 26 (dk_at dksX1_copied_2 15 rfl rfl)
theorem dX1_copied_66 : decode cX1_copied 66 = .ok (.getfield 48, 3) := dk_180 0 48 (dk_at dksX1_copied_2 18 rfl rfl)
theorem dX1_copied_69 : decode cX1_copied 69 = .ok (.iconst 0, 1) := dk_3 (dk_at dksX1_copied_2 21 rfl rfl)
theorem dX1_copied_70 : decode cX1_copied 70 = .ok (.aload_n 0, 1) := dk_42 (dk_at dksX1_copied_2 22 rfl rfl)
theorem dX1_copied_71 : decode cX1_copied 71 = .ok (.getfield 26, 3) := dk_180 0 26 (dk_at dksX1_copied_3 0 rfl rfl)
theorem dX1_copied_74 : decode cX1_copied 74 = .ok (.getfield 48, 3) := dk_180 0 48 (dk_at dksX1_copied_3 3 rfl rfl)
theorem dX1_copied_77 : decode cX1_copied 77 = .ok (.arraylength, 1) := dk_190 (dk_at dksX1_copied_3 6 rfl rfl)
theorem dX1_copied_78 : decode cX1_copied 78 = .ok (.invokestatic 42, 3) := dk_184 0 42 (dk_at dksX1_copied_3 7 rfl rfl)
theorem dX1_copied_81 : decode cX1_copied 81 = .ok (.aload_n 1, 1) := dk_43 (dk_at dksX1_copied_3 10 rfl rfl)
theorem dX1_copied_82 : decode cX1_copied 82 = .ok (.aload_n 0, 1) := dk_42 (dk_at dksX1_copied_3 11 rfl rfl)
theorem dX1_copied_83 : decode cX1_copied 83 = .ok (.getfield 35, 3) := dk_180 0 35 (dk_at dksX1_copied_3 12 rfl rfl)
theorem dX1_copied_86 : decode cX1_copied 86 = .ok (.putfield 35, 3) := dk_181 0 35 (dk_at dksX1_copied_3 15 rfl rfl)
theorem dX1_copied_89 : decode cX1_copied 89 = .ok (.aload_n 1, 1) := dk_43 (dk_at dksX1_copied_3 18 rfl rfl)
theorem dX1_copied_90 : decode cX1_copied 90 = .ok (.aload_n 0, 1) := dk_42 (dk_at dksX1_copied_3 19 rfl rfl)
theorem dX1_copied_91 : decode cX1_copied 91 = .ok (.getfield 52, 3) := dk_180 0 52 (dk_at dksX1_copied_3 20 rfl rfl)
theorem dX1_copied_94 : decode cX1_copied 94 = .ok (.putfield 52, 3) := dk_181 0 52 (dk_at dksX1_copied_4 0 rfl rfl)
theorem dX1_copied_97 : decode cX1_copied 97 = .ok (.aload_n 1, 1) := dk_43 (dk_at dksX1_copied_4 3 rfl rfl)
theorem dX1_copied_98 : decode cX1_copied 98 = .ok (.aload_n 0, 1) := dk_42 (dk_at dksX1_copied_4 4 rfl rfl)
theorem dX1_copied_99 : decode cX1_copied 99 = .ok (.getfield 30, 3) := dk_180 0 30 (dk_at dksX1_copied_4 5 rfl rfl)
theorem dX1_copied_102 : decode cX1_copied 102 = .ok (.putfield 30, 3) := dk_181 0 30 (dk_at dksX1_copied_4 8 rfl rfl)
theorem dX1_copied_105 : decode cX1_copied 105 = .ok (.aload_n 1, 1) := dk_43 (dk_at dksX1_copied_4 11 rfl rfl)
theorem dX1_copied_106 : decode cX1_copied 106 = .ok (.aload_n 0, 1) := dk_42 (dk_at dksX1_copied_4 12 rfl rfl)
theorem dX1_copied_107 : decode cX1_copied 107 = .ok (.getfield 55, 3) := dk_180 0 55 (dk_at dksX1_copied_4 13 rfl rfl)
theorem dX1_copied_110 : decode cX1_copied 110 = .ok (.putfield 55, 3) := dk_181 0 55 (dk_at dksX1_copied_4 16 rfl rfl)
theorem dX1_copied_113 : decode cX1_copied 113 = .ok (.aload_n 1, 1) := dk_43 (dk_at dksX1_copied_4 19 rfl rfl)
theorem dX1_copied_114 : decode cX1_copied 114 = .ok (.aload_n 0, 1) := dk_42 (dk_at dksX1_copied_4 20 rfl rfl)
theorem dX1_copied_115 : decode cX1_copied 115 = .ok (.getfield 58, 3) := dk_180 0 58 (dk_at dksX1_copied_4 21 rfl rfl)
theorem dX1_copied_118 : decode cX1_copied 118 = .ok (.putfield 58, 3) := dk_181 0 58 (dk_at dksX1_copied_5 0 rfl rfl)
theorem dX1_copied_121 : decode cX1_copied 121 = .ok (.aload_n 1, 1) := dk_43 (dk_at dksX1_copied_5 3 rfl rfl)
theorem dX1_copied_122 : decode cX1_copied 122 = .ok (.aload_n 0, 1) := dk_42 (dk_at dksX1_copied_5 4 rfl rfl)
theorem dX1_copied_123 : decode cX1_copied 123 = .ok (.getfield 61, 3) := dk_180 0 61 (dk_at dksX1_copied_5 5 rfl rfl)
theorem dX1_copied_126 : decode cX1_copied 126 = .ok (.putfield 61, 3) := dk_181 0 61 (dk_at dksX1_copied_5 8 rfl rfl)
theorem dX1_copied_129 : decode cX1_copied 129 = .ok (.aload_n 1, 1) := dk_43 (dk_at dksX1_copied_5 11 rfl rfl)
theorem dX1_copied_130 : decode cX1_copied 130 = .ok (.areturn, 1) := dk_176 (dk_at dksX1_copied_5 12 rfl rfl)
abbrev cX1_can : ByteArray := prog_14_method_5_code
def yX1_can : MethodName := ⟨RX1, "can", "(III)Z"⟩
def dkwX1_can_0 : List UInt8 := [42, 180, 0, 19, 27, 50, 42, 180, 0, 26, 42, 180, 0, 11, 28, 50, 29, 182, 0, 78, 172]
abbrev dktX1_can_0 : List UInt8 := dkwX1_can_0 ++ []
theorem dksX1_can_0 : cX1_can.data.toList.drop 0 = dktX1_can_0 := by decide +kernel
theorem dX1_can_0 : decode cX1_can 0 = .ok (.aload_n 0, 1) := dk_42 (dk_at dksX1_can_0 0 rfl rfl)
theorem dX1_can_1 : decode cX1_can 1 = .ok (.getfield 19, 3) := dk_180 0 19 (dk_at dksX1_can_0 1 rfl rfl)
theorem dX1_can_4 : decode cX1_can 4 = .ok (.iload_n 1, 1) := dk_27 (dk_at dksX1_can_0 4 rfl rfl)
theorem dX1_can_5 : decode cX1_can 5 = .ok (.aaload, 1) := dk_50 (dk_at dksX1_can_0 5 rfl rfl)
theorem dX1_can_6 : decode cX1_can 6 = .ok (.aload_n 0, 1) := dk_42 (dk_at dksX1_can_0 6 rfl rfl)
theorem dX1_can_7 : decode cX1_can 7 = .ok (.getfield 26, 3) := dk_180 0 26 (dk_at dksX1_can_0 7 rfl rfl)
theorem dX1_can_10 : decode cX1_can 10 = .ok (.aload_n 0, 1) := dk_42 (dk_at dksX1_can_0 10 rfl rfl)
theorem dX1_can_11 : decode cX1_can 11 = .ok (.getfield 11, 3) := dk_180 0 11 (dk_at dksX1_can_0 11 rfl rfl)
theorem dX1_can_14 : decode cX1_can 14 = .ok (.iload_n 2, 1) := dk_28 (dk_at dksX1_can_0 14 rfl rfl)
theorem dX1_can_15 : decode cX1_can 15 = .ok (.aaload, 1) := dk_50 (dk_at dksX1_can_0 15 rfl rfl)
theorem dX1_can_16 : decode cX1_can 16 = .ok (.iload_n 3, 1) := dk_29 (dk_at dksX1_can_0 16 rfl rfl)
theorem dX1_can_17 : decode cX1_can 17 = .ok (.invokevirtual 78, 3) := dk_182 0 78 (dk_at dksX1_can_0 17 rfl rfl)
theorem dX1_can_20 : decode cX1_can 20 = .ok (.ireturn, 1) := dk_172 (dk_at dksX1_can_0 20 rfl rfl)
abbrev cX1_left : ByteArray := prog_14_method_7_code
def yX1_left : MethodName := ⟨RX1, "left", "(III)I"⟩
def dkwX1_left_1 : List UInt8 := [27, 28, 182, 0, 90, 100, 172]
abbrev dktX1_left_1 : List UInt8 := dkwX1_left_1 ++ []
def dkwX1_left_0 : List UInt8 := [42, 180, 0, 11, 28, 50, 180, 0, 75, 153, 0, 13, 42, 180, 0, 26, 182, 0, 86, 167, 0, 11, 29, 42]
abbrev dktX1_left_0 : List UInt8 := dkwX1_left_0 ++ dktX1_left_1
theorem dksX1_left_0 : cX1_left.data.toList.drop 0 = dktX1_left_0 := by decide +kernel
theorem dksX1_left_1 : cX1_left.data.toList.drop 24 = dktX1_left_1 := dk_seg dksX1_left_0 24 rfl rfl
theorem dX1_left_0 : decode cX1_left 0 = .ok (.aload_n 0, 1) := dk_42 (dk_at dksX1_left_0 0 rfl rfl)
theorem dX1_left_1 : decode cX1_left 1 = .ok (.getfield 11, 3) := dk_180 0 11 (dk_at dksX1_left_0 1 rfl rfl)
theorem dX1_left_4 : decode cX1_left 4 = .ok (.iload_n 2, 1) := dk_28 (dk_at dksX1_left_0 4 rfl rfl)
theorem dX1_left_5 : decode cX1_left 5 = .ok (.aaload, 1) := dk_50 (dk_at dksX1_left_0 5 rfl rfl)
theorem dX1_left_6 : decode cX1_left 6 = .ok (.getfield 75, 3) := dk_180 0 75 (dk_at dksX1_left_0 6 rfl rfl)
theorem dX1_left_9 : decode cX1_left 9 = .ok (.ifCond .eq 13, 3) := dk_153 0 13 (dk_at dksX1_left_0 9 rfl rfl)
theorem dX1_left_12 : decode cX1_left 12 = .ok (.aload_n 0, 1) := dk_42 (dk_at dksX1_left_0 12 rfl rfl)
theorem dX1_left_13 : decode cX1_left 13 = .ok (.getfield 26, 3) := dk_180 0 26 (dk_at dksX1_left_0 13 rfl rfl)
theorem dX1_left_16 : decode cX1_left 16 = .ok (.invokevirtual 86, 3) := dk_182 0 86 (dk_at dksX1_left_0 16 rfl rfl)
theorem dX1_left_19 : decode cX1_left 19 = .ok (.goto 11, 3) := dk_167 0 11 (dk_at dksX1_left_0 19 rfl rfl)
theorem dX1_left_22 : decode cX1_left 22 = .ok (.iload_n 3, 1) := dk_29 (dk_at dksX1_left_0 22 rfl rfl)
theorem dX1_left_23 : decode cX1_left 23 = .ok (.aload_n 0, 1) := dk_42 (dk_at dksX1_left_0 23 rfl rfl)
theorem dX1_left_24 : decode cX1_left 24 = .ok (.iload_n 1, 1) := dk_27 (dk_at dksX1_left_1 0 rfl rfl)
theorem dX1_left_25 : decode cX1_left 25 = .ok (.iload_n 2, 1) := dk_28 (dk_at dksX1_left_1 1 rfl rfl)
theorem dX1_left_26 : decode cX1_left 26 = .ok (.invokevirtual 90, 3) := dk_182 0 90 (dk_at dksX1_left_1 2 rfl rfl)
theorem dX1_left_29 : decode cX1_left 29 = .ok (.isub, 1) := dk_100 (dk_at dksX1_left_1 5 rfl rfl)
theorem dX1_left_30 : decode cX1_left 30 = .ok (.ireturn, 1) := dk_172 (dk_at dksX1_left_1 6 rfl rfl)
abbrev cX1_tires : ByteArray := prog_14_method_6_code
def yX1_tires : MethodName := ⟨RX1, "tires", "(II)I"⟩
def dkwX1_tires_0 : List UInt8 := [42, 180, 0, 19, 27, 50, 42, 180, 0, 26, 42, 180, 0, 11, 28, 50, 182, 0, 82, 172]
abbrev dktX1_tires_0 : List UInt8 := dkwX1_tires_0 ++ []
theorem dksX1_tires_0 : cX1_tires.data.toList.drop 0 = dktX1_tires_0 := by decide +kernel
theorem dX1_tires_0 : decode cX1_tires 0 = .ok (.aload_n 0, 1) := dk_42 (dk_at dksX1_tires_0 0 rfl rfl)
theorem dX1_tires_1 : decode cX1_tires 1 = .ok (.getfield 19, 3) := dk_180 0 19 (dk_at dksX1_tires_0 1 rfl rfl)
theorem dX1_tires_4 : decode cX1_tires 4 = .ok (.iload_n 1, 1) := dk_27 (dk_at dksX1_tires_0 4 rfl rfl)
theorem dX1_tires_5 : decode cX1_tires 5 = .ok (.aaload, 1) := dk_50 (dk_at dksX1_tires_0 5 rfl rfl)
theorem dX1_tires_6 : decode cX1_tires 6 = .ok (.aload_n 0, 1) := dk_42 (dk_at dksX1_tires_0 6 rfl rfl)
theorem dX1_tires_7 : decode cX1_tires 7 = .ok (.getfield 26, 3) := dk_180 0 26 (dk_at dksX1_tires_0 7 rfl rfl)
theorem dX1_tires_10 : decode cX1_tires 10 = .ok (.aload_n 0, 1) := dk_42 (dk_at dksX1_tires_0 10 rfl rfl)
theorem dX1_tires_11 : decode cX1_tires 11 = .ok (.getfield 11, 3) := dk_180 0 11 (dk_at dksX1_tires_0 11 rfl rfl)
theorem dX1_tires_14 : decode cX1_tires 14 = .ok (.iload_n 2, 1) := dk_28 (dk_at dksX1_tires_0 14 rfl rfl)
theorem dX1_tires_15 : decode cX1_tires 15 = .ok (.aaload, 1) := dk_50 (dk_at dksX1_tires_0 15 rfl rfl)
theorem dX1_tires_16 : decode cX1_tires 16 = .ok (.invokevirtual 82, 3) := dk_182 0 82 (dk_at dksX1_tires_0 16 rfl rfl)
theorem dX1_tires_19 : decode cX1_tires 19 = .ok (.ireturn, 1) := dk_172 (dk_at dksX1_tires_0 19 rfl rfl)
abbrev cX1_canBe : ByteArray := prog_14_method_8_code
def yX1_canBe : MethodName := ⟨RX1, "canBe", "()Z"⟩
def dkwX1_canBe_4 : List UInt8 := [160, 0, 5, 3, 172, 42, 29, 28, 27, 182, 0, 96, 60, 132, 2, 1, 167, 255, 159, 4, 172]
abbrev dktX1_canBe_4 : List UInt8 := dkwX1_canBe_4 ++ []
def dkwX1_canBe_3 : List UInt8 := [54, 5, 21, 5, 153, 0, 8, 21, 4, 167, 0, 4, 29, 62, 132, 4, 1, 167, 255, 193, 29, 2]
abbrev dktX1_canBe_3 : List UInt8 := dkwX1_canBe_3 ++ dktX1_canBe_4
def dkwX1_canBe_2 : List UInt8 := [159, 0, 19, 42, 21, 4, 28, 182, 0, 90, 42, 29, 28, 182, 0, 90, 162, 0, 7, 4, 167, 0, 4, 3]
abbrev dktX1_canBe_2 : List UInt8 := dkwX1_canBe_2 ++ dktX1_canBe_3
def dkwX1_canBe_1 : List UInt8 := [21, 4, 42, 180, 0, 52, 162, 0, 60, 42, 21, 4, 28, 27, 182, 0, 93, 153, 0, 28, 29, 2]
abbrev dktX1_canBe_1 : List UInt8 := dkwX1_canBe_1 ++ dktX1_canBe_2
def dkwX1_canBe_0 : List UInt8 := [42, 180, 0, 26, 182, 0, 86, 60, 3, 61, 28, 42, 180, 0, 35, 162, 0, 95, 2, 62, 3, 54, 4]
abbrev dktX1_canBe_0 : List UInt8 := dkwX1_canBe_0 ++ dktX1_canBe_1
theorem dksX1_canBe_0 : cX1_canBe.data.toList.drop 0 = dktX1_canBe_0 := by decide +kernel
theorem dksX1_canBe_1 : cX1_canBe.data.toList.drop 23 = dktX1_canBe_1 := dk_seg dksX1_canBe_0 23 rfl rfl
theorem dksX1_canBe_2 : cX1_canBe.data.toList.drop 45 = dktX1_canBe_2 := dk_seg dksX1_canBe_1 22 rfl rfl
theorem dksX1_canBe_3 : cX1_canBe.data.toList.drop 69 = dktX1_canBe_3 := dk_seg dksX1_canBe_2 24 rfl rfl
theorem dksX1_canBe_4 : cX1_canBe.data.toList.drop 91 = dktX1_canBe_4 := dk_seg dksX1_canBe_3 22 rfl rfl
theorem dX1_canBe_0 : decode cX1_canBe 0 = .ok (.aload_n 0, 1) := dk_42 (dk_at dksX1_canBe_0 0 rfl rfl)
theorem dX1_canBe_1 : decode cX1_canBe 1 = .ok (.getfield 26, 3) := dk_180 0 26 (dk_at dksX1_canBe_0 1 rfl rfl)
theorem dX1_canBe_4 : decode cX1_canBe 4 = .ok (.invokevirtual 86, 3) := dk_182 0 86 (dk_at dksX1_canBe_0 4 rfl rfl)
theorem dX1_canBe_7 : decode cX1_canBe 7 = .ok (.istore_n 1, 1) := dk_60 (dk_at dksX1_canBe_0 7 rfl rfl)
theorem dX1_canBe_8 : decode cX1_canBe 8 = .ok (.iconst 0, 1) := dk_3 (dk_at dksX1_canBe_0 8 rfl rfl)
theorem dX1_canBe_9 : decode cX1_canBe 9 = .ok (.istore_n 2, 1) := dk_61 (dk_at dksX1_canBe_0 9 rfl rfl)
theorem dX1_canBe_10 : decode cX1_canBe 10 = .ok (.iload_n 2, 1) := dk_28 (dk_at dksX1_canBe_0 10 rfl rfl)
theorem dX1_canBe_11 : decode cX1_canBe 11 = .ok (.aload_n 0, 1) := dk_42 (dk_at dksX1_canBe_0 11 rfl rfl)
theorem dX1_canBe_12 : decode cX1_canBe 12 = .ok (.getfield 35, 3) := dk_180 0 35 (dk_at dksX1_canBe_0 12 rfl rfl)
theorem dX1_canBe_15 : decode cX1_canBe 15 = .ok (.if_icmp .ge 95, 3) := dk_162 0 95 (dk_at dksX1_canBe_0 15 rfl rfl)
theorem dX1_canBe_18 : decode cX1_canBe 18 = .ok (.iconst (-1), 1) := dk_2 (dk_at dksX1_canBe_0 18 rfl rfl)
theorem dX1_canBe_19 : decode cX1_canBe 19 = .ok (.istore_n 3, 1) := dk_62 (dk_at dksX1_canBe_0 19 rfl rfl)
theorem dX1_canBe_20 : decode cX1_canBe 20 = .ok (.iconst 0, 1) := dk_3 (dk_at dksX1_canBe_0 20 rfl rfl)
theorem dX1_canBe_21 : decode cX1_canBe 21 = .ok (.istore 4, 2) := dk_54 4 (dk_at dksX1_canBe_0 21 rfl rfl)
theorem dX1_canBe_23 : decode cX1_canBe 23 = .ok (.iload 4, 2) := dk_21 4 (dk_at dksX1_canBe_1 0 rfl rfl)
theorem dX1_canBe_25 : decode cX1_canBe 25 = .ok (.aload_n 0, 1) := dk_42 (dk_at dksX1_canBe_1 2 rfl rfl)
theorem dX1_canBe_26 : decode cX1_canBe 26 = .ok (.getfield 52, 3) := dk_180 0 52 (dk_at dksX1_canBe_1 3 rfl rfl)
theorem dX1_canBe_29 : decode cX1_canBe 29 = .ok (.if_icmp .ge 60, 3) := dk_162 0 60 (dk_at dksX1_canBe_1 6 rfl rfl)
theorem dX1_canBe_32 : decode cX1_canBe 32 = .ok (.aload_n 0, 1) := dk_42 (dk_at dksX1_canBe_1 9 rfl rfl)
theorem dX1_canBe_33 : decode cX1_canBe 33 = .ok (.iload 4, 2) := dk_21 4 (dk_at dksX1_canBe_1 10 rfl rfl)
theorem dX1_canBe_35 : decode cX1_canBe 35 = .ok (.iload_n 2, 1) := dk_28 (dk_at dksX1_canBe_1 12 rfl rfl)
theorem dX1_canBe_36 : decode cX1_canBe 36 = .ok (.iload_n 1, 1) := dk_27 (dk_at dksX1_canBe_1 13 rfl rfl)
theorem dX1_canBe_37 : decode cX1_canBe 37 = .ok (.invokevirtual 93, 3) := dk_182 0 93 (dk_at dksX1_canBe_1 14 rfl rfl)
theorem dX1_canBe_40 : decode cX1_canBe 40 = .ok (.ifCond .eq 28, 3) := dk_153 0 28 (dk_at dksX1_canBe_1 17 rfl rfl)
theorem dX1_canBe_43 : decode cX1_canBe 43 = .ok (.iload_n 3, 1) := dk_29 (dk_at dksX1_canBe_1 20 rfl rfl)
theorem dX1_canBe_44 : decode cX1_canBe 44 = .ok (.iconst (-1), 1) := dk_2 (dk_at dksX1_canBe_1 21 rfl rfl)
theorem dX1_canBe_45 : decode cX1_canBe 45 = .ok (.if_icmp .eq 19, 3) := dk_159 0 19 (dk_at dksX1_canBe_2 0 rfl rfl)
theorem dX1_canBe_48 : decode cX1_canBe 48 = .ok (.aload_n 0, 1) := dk_42 (dk_at dksX1_canBe_2 3 rfl rfl)
theorem dX1_canBe_49 : decode cX1_canBe 49 = .ok (.iload 4, 2) := dk_21 4 (dk_at dksX1_canBe_2 4 rfl rfl)
theorem dX1_canBe_51 : decode cX1_canBe 51 = .ok (.iload_n 2, 1) := dk_28 (dk_at dksX1_canBe_2 6 rfl rfl)
theorem dX1_canBe_52 : decode cX1_canBe 52 = .ok (.invokevirtual 90, 3) := dk_182 0 90 (dk_at dksX1_canBe_2 7 rfl rfl)
theorem dX1_canBe_55 : decode cX1_canBe 55 = .ok (.aload_n 0, 1) := dk_42 (dk_at dksX1_canBe_2 10 rfl rfl)
theorem dX1_canBe_56 : decode cX1_canBe 56 = .ok (.iload_n 3, 1) := dk_29 (dk_at dksX1_canBe_2 11 rfl rfl)
theorem dX1_canBe_57 : decode cX1_canBe 57 = .ok (.iload_n 2, 1) := dk_28 (dk_at dksX1_canBe_2 12 rfl rfl)
theorem dX1_canBe_58 : decode cX1_canBe 58 = .ok (.invokevirtual 90, 3) := dk_182 0 90 (dk_at dksX1_canBe_2 13 rfl rfl)
theorem dX1_canBe_61 : decode cX1_canBe 61 = .ok (.if_icmp .ge 7, 3) := dk_162 0 7 (dk_at dksX1_canBe_2 16 rfl rfl)
theorem dX1_canBe_64 : decode cX1_canBe 64 = .ok (.iconst 1, 1) := dk_4 (dk_at dksX1_canBe_2 19 rfl rfl)
theorem dX1_canBe_65 : decode cX1_canBe 65 = .ok (.goto 4, 3) := dk_167 0 4 (dk_at dksX1_canBe_2 20 rfl rfl)
theorem dX1_canBe_68 : decode cX1_canBe 68 = .ok (.iconst 0, 1) := dk_3 (dk_at dksX1_canBe_2 23 rfl rfl)
theorem dX1_canBe_69 : decode cX1_canBe 69 = .ok (.istore 5, 2) := dk_54 5 (dk_at dksX1_canBe_3 0 rfl rfl)
theorem dX1_canBe_71 : decode cX1_canBe 71 = .ok (.iload 5, 2) := dk_21 5 (dk_at dksX1_canBe_3 2 rfl rfl)
theorem dX1_canBe_73 : decode cX1_canBe 73 = .ok (.ifCond .eq 8, 3) := dk_153 0 8 (dk_at dksX1_canBe_3 4 rfl rfl)
theorem dX1_canBe_76 : decode cX1_canBe 76 = .ok (.iload 4, 2) := dk_21 4 (dk_at dksX1_canBe_3 7 rfl rfl)
theorem dX1_canBe_78 : decode cX1_canBe 78 = .ok (.goto 4, 3) := dk_167 0 4 (dk_at dksX1_canBe_3 9 rfl rfl)
theorem dX1_canBe_81 : decode cX1_canBe 81 = .ok (.iload_n 3, 1) := dk_29 (dk_at dksX1_canBe_3 12 rfl rfl)
theorem dX1_canBe_82 : decode cX1_canBe 82 = .ok (.istore_n 3, 1) := dk_62 (dk_at dksX1_canBe_3 13 rfl rfl)
theorem dX1_canBe_83 : decode cX1_canBe 83 = .ok (.iinc 4 1, 3) := dk_132 4 1 (dk_at dksX1_canBe_3 14 rfl rfl)
theorem dX1_canBe_86 : decode cX1_canBe 86 = .ok (.goto (-63), 3) := dk_167 255 193 (dk_at dksX1_canBe_3 17 rfl rfl)
theorem dX1_canBe_89 : decode cX1_canBe 89 = .ok (.iload_n 3, 1) := dk_29 (dk_at dksX1_canBe_3 20 rfl rfl)
theorem dX1_canBe_90 : decode cX1_canBe 90 = .ok (.iconst (-1), 1) := dk_2 (dk_at dksX1_canBe_3 21 rfl rfl)
theorem dX1_canBe_91 : decode cX1_canBe 91 = .ok (.if_icmp .ne 5, 3) := dk_160 0 5 (dk_at dksX1_canBe_4 0 rfl rfl)
theorem dX1_canBe_94 : decode cX1_canBe 94 = .ok (.iconst 0, 1) := dk_3 (dk_at dksX1_canBe_4 3 rfl rfl)
theorem dX1_canBe_95 : decode cX1_canBe 95 = .ok (.ireturn, 1) := dk_172 (dk_at dksX1_canBe_4 4 rfl rfl)
theorem dX1_canBe_96 : decode cX1_canBe 96 = .ok (.aload_n 0, 1) := dk_42 (dk_at dksX1_canBe_4 5 rfl rfl)
theorem dX1_canBe_97 : decode cX1_canBe 97 = .ok (.iload_n 3, 1) := dk_29 (dk_at dksX1_canBe_4 6 rfl rfl)
theorem dX1_canBe_98 : decode cX1_canBe 98 = .ok (.iload_n 2, 1) := dk_28 (dk_at dksX1_canBe_4 7 rfl rfl)
theorem dX1_canBe_99 : decode cX1_canBe 99 = .ok (.iload_n 1, 1) := dk_27 (dk_at dksX1_canBe_4 8 rfl rfl)
theorem dX1_canBe_100 : decode cX1_canBe 100 = .ok (.invokevirtual 96, 3) := dk_182 0 96 (dk_at dksX1_canBe_4 9 rfl rfl)
theorem dX1_canBe_103 : decode cX1_canBe 103 = .ok (.istore_n 1, 1) := dk_60 (dk_at dksX1_canBe_4 12 rfl rfl)
theorem dX1_canBe_104 : decode cX1_canBe 104 = .ok (.iinc 2 1, 3) := dk_132 2 1 (dk_at dksX1_canBe_4 13 rfl rfl)
theorem dX1_canBe_107 : decode cX1_canBe 107 = .ok (.goto (-97), 3) := dk_167 255 159 (dk_at dksX1_canBe_4 16 rfl rfl)
theorem dX1_canBe_110 : decode cX1_canBe 110 = .ok (.iconst 1, 1) := dk_4 (dk_at dksX1_canBe_4 19 rfl rfl)
theorem dX1_canBe_111 : decode cX1_canBe 111 = .ok (.ireturn, 1) := dk_172 (dk_at dksX1_canBe_4 20 rfl rfl)
abbrev cX1_climbs : ByteArray := prog_14_method_10_code
def yX1_climbs : MethodName := ⟨RX1, "climbs", "([I)I"⟩
def dkwX1_climbs_3 : List UInt8 := [181, 0, 58, 28, 172]
abbrev dktX1_climbs_3 : List UInt8 := dkwX1_climbs_3 ++ []
def dkwX1_climbs_2 : List UInt8 := [96, 181, 0, 55, 42, 89, 180, 0, 58, 28, 42, 180, 0, 35, 160, 0, 7, 4, 167, 0, 4, 3, 96]
abbrev dktX1_climbs_2 : List UInt8 := dkwX1_climbs_2 ++ dktX1_climbs_3
def dkwX1_climbs_1 : List UInt8 := [42, 180, 0, 11, 28, 50, 182, 0, 105, 161, 0, 9, 132, 2, 1, 167, 255, 219, 42, 89, 180, 0, 55, 4]
abbrev dktX1_climbs_1 : List UInt8 := dkwX1_climbs_1 ++ dktX1_climbs_2
def dkwX1_climbs_0 : List UInt8 := [3, 61, 28, 42, 180, 0, 35, 162, 0, 35, 42, 16, 100, 182, 0, 101, 42, 180, 0, 19, 43, 28, 46, 50]
abbrev dktX1_climbs_0 : List UInt8 := dkwX1_climbs_0 ++ dktX1_climbs_1
theorem dksX1_climbs_0 : cX1_climbs.data.toList.drop 0 = dktX1_climbs_0 := by decide +kernel
theorem dksX1_climbs_1 : cX1_climbs.data.toList.drop 24 = dktX1_climbs_1 := dk_seg dksX1_climbs_0 24 rfl rfl
theorem dksX1_climbs_2 : cX1_climbs.data.toList.drop 48 = dktX1_climbs_2 := dk_seg dksX1_climbs_1 24 rfl rfl
theorem dksX1_climbs_3 : cX1_climbs.data.toList.drop 71 = dktX1_climbs_3 := dk_seg dksX1_climbs_2 23 rfl rfl
theorem dX1_climbs_0 : decode cX1_climbs 0 = .ok (.iconst 0, 1) := dk_3 (dk_at dksX1_climbs_0 0 rfl rfl)
theorem dX1_climbs_1 : decode cX1_climbs 1 = .ok (.istore_n 2, 1) := dk_61 (dk_at dksX1_climbs_0 1 rfl rfl)
theorem dX1_climbs_2 : decode cX1_climbs 2 = .ok (.iload_n 2, 1) := dk_28 (dk_at dksX1_climbs_0 2 rfl rfl)
theorem dX1_climbs_3 : decode cX1_climbs 3 = .ok (.aload_n 0, 1) := dk_42 (dk_at dksX1_climbs_0 3 rfl rfl)
theorem dX1_climbs_4 : decode cX1_climbs 4 = .ok (.getfield 35, 3) := dk_180 0 35 (dk_at dksX1_climbs_0 4 rfl rfl)
theorem dX1_climbs_7 : decode cX1_climbs 7 = .ok (.if_icmp .ge 35, 3) := dk_162 0 35 (dk_at dksX1_climbs_0 7 rfl rfl)
theorem dX1_climbs_10 : decode cX1_climbs 10 = .ok (.aload_n 0, 1) := dk_42 (dk_at dksX1_climbs_0 10 rfl rfl)
theorem dX1_climbs_11 : decode cX1_climbs 11 = .ok (.bipush 100, 2) := dk_16 100 (dk_at dksX1_climbs_0 11 rfl rfl)
theorem dX1_climbs_13 : decode cX1_climbs 13 = .ok (.invokevirtual 101, 3) := dk_182 0 101 (dk_at dksX1_climbs_0 13 rfl rfl)
theorem dX1_climbs_16 : decode cX1_climbs 16 = .ok (.aload_n 0, 1) := dk_42 (dk_at dksX1_climbs_0 16 rfl rfl)
theorem dX1_climbs_17 : decode cX1_climbs 17 = .ok (.getfield 19, 3) := dk_180 0 19 (dk_at dksX1_climbs_0 17 rfl rfl)
theorem dX1_climbs_20 : decode cX1_climbs 20 = .ok (.aload_n 1, 1) := dk_43 (dk_at dksX1_climbs_0 20 rfl rfl)
theorem dX1_climbs_21 : decode cX1_climbs 21 = .ok (.iload_n 2, 1) := dk_28 (dk_at dksX1_climbs_0 21 rfl rfl)
theorem dX1_climbs_22 : decode cX1_climbs 22 = .ok (.iaload, 1) := dk_46 (dk_at dksX1_climbs_0 22 rfl rfl)
theorem dX1_climbs_23 : decode cX1_climbs 23 = .ok (.aaload, 1) := dk_50 (dk_at dksX1_climbs_0 23 rfl rfl)
theorem dX1_climbs_24 : decode cX1_climbs 24 = .ok (.aload_n 0, 1) := dk_42 (dk_at dksX1_climbs_1 0 rfl rfl)
theorem dX1_climbs_25 : decode cX1_climbs 25 = .ok (.getfield 11, 3) := dk_180 0 11 (dk_at dksX1_climbs_1 1 rfl rfl)
theorem dX1_climbs_28 : decode cX1_climbs 28 = .ok (.iload_n 2, 1) := dk_28 (dk_at dksX1_climbs_1 4 rfl rfl)
theorem dX1_climbs_29 : decode cX1_climbs 29 = .ok (.aaload, 1) := dk_50 (dk_at dksX1_climbs_1 5 rfl rfl)
theorem dX1_climbs_30 : decode cX1_climbs 30 = .ok (.invokevirtual 105, 3) := dk_182 0 105 (dk_at dksX1_climbs_1 6 rfl rfl)
theorem dX1_climbs_33 : decode cX1_climbs 33 = .ok (.if_icmp .lt 9, 3) := dk_161 0 9 (dk_at dksX1_climbs_1 9 rfl rfl)
theorem dX1_climbs_36 : decode cX1_climbs 36 = .ok (.iinc 2 1, 3) := dk_132 2 1 (dk_at dksX1_climbs_1 12 rfl rfl)
theorem dX1_climbs_39 : decode cX1_climbs 39 = .ok (.goto (-37), 3) := dk_167 255 219 (dk_at dksX1_climbs_1 15 rfl rfl)
theorem dX1_climbs_42 : decode cX1_climbs 42 = .ok (.aload_n 0, 1) := dk_42 (dk_at dksX1_climbs_1 18 rfl rfl)
theorem dX1_climbs_43 : decode cX1_climbs 43 = .ok (.dup, 1) := dk_89 (dk_at dksX1_climbs_1 19 rfl rfl)
theorem dX1_climbs_44 : decode cX1_climbs 44 = .ok (.getfield 55, 3) := dk_180 0 55 (dk_at dksX1_climbs_1 20 rfl rfl)
theorem dX1_climbs_47 : decode cX1_climbs 47 = .ok (.iconst 1, 1) := dk_4 (dk_at dksX1_climbs_1 23 rfl rfl)
theorem dX1_climbs_48 : decode cX1_climbs 48 = .ok (.iadd, 1) := dk_96 (dk_at dksX1_climbs_2 0 rfl rfl)
theorem dX1_climbs_49 : decode cX1_climbs 49 = .ok (.putfield 55, 3) := dk_181 0 55 (dk_at dksX1_climbs_2 1 rfl rfl)
theorem dX1_climbs_52 : decode cX1_climbs 52 = .ok (.aload_n 0, 1) := dk_42 (dk_at dksX1_climbs_2 4 rfl rfl)
theorem dX1_climbs_53 : decode cX1_climbs 53 = .ok (.dup, 1) := dk_89 (dk_at dksX1_climbs_2 5 rfl rfl)
theorem dX1_climbs_54 : decode cX1_climbs 54 = .ok (.getfield 58, 3) := dk_180 0 58 (dk_at dksX1_climbs_2 6 rfl rfl)
theorem dX1_climbs_57 : decode cX1_climbs 57 = .ok (.iload_n 2, 1) := dk_28 (dk_at dksX1_climbs_2 9 rfl rfl)
theorem dX1_climbs_58 : decode cX1_climbs 58 = .ok (.aload_n 0, 1) := dk_42 (dk_at dksX1_climbs_2 10 rfl rfl)
theorem dX1_climbs_59 : decode cX1_climbs 59 = .ok (.getfield 35, 3) := dk_180 0 35 (dk_at dksX1_climbs_2 11 rfl rfl)
theorem dX1_climbs_62 : decode cX1_climbs 62 = .ok (.if_icmp .ne 7, 3) := dk_160 0 7 (dk_at dksX1_climbs_2 14 rfl rfl)
theorem dX1_climbs_65 : decode cX1_climbs 65 = .ok (.iconst 1, 1) := dk_4 (dk_at dksX1_climbs_2 17 rfl rfl)
theorem dX1_climbs_66 : decode cX1_climbs 66 = .ok (.goto 4, 3) := dk_167 0 4 (dk_at dksX1_climbs_2 18 rfl rfl)
theorem dX1_climbs_69 : decode cX1_climbs 69 = .ok (.iconst 0, 1) := dk_3 (dk_at dksX1_climbs_2 21 rfl rfl)
theorem dX1_climbs_70 : decode cX1_climbs 70 = .ok (.iadd, 1) := dk_96 (dk_at dksX1_climbs_2 22 rfl rfl)
theorem dX1_climbs_71 : decode cX1_climbs 71 = .ok (.putfield 58, 3) := dk_181 0 58 (dk_at dksX1_climbs_3 0 rfl rfl)
theorem dX1_climbs_74 : decode cX1_climbs 74 = .ok (.iload_n 2, 1) := dk_28 (dk_at dksX1_climbs_3 3 rfl rfl)
theorem dX1_climbs_75 : decode cX1_climbs 75 = .ok (.ireturn, 1) := dk_172 (dk_at dksX1_climbs_3 4 rfl rfl)
abbrev cX1_draw : ByteArray := prog_14_method_9_code
def yX1_draw : MethodName := ⟨RX1, "draw", "(I)I"⟩
def dkwX1_draw_1 : List UInt8 := [172]
abbrev dktX1_draw_1 : List UInt8 := dkwX1_draw_1 ++ []
def dkwX1_draw_0 : List UInt8 := [42, 42, 180, 0, 30, 18, 100, 104, 17, 48, 57, 96, 181, 0, 30, 42, 180, 0, 30, 16, 16, 124, 27, 112]
abbrev dktX1_draw_0 : List UInt8 := dkwX1_draw_0 ++ dktX1_draw_1
theorem dksX1_draw_0 : cX1_draw.data.toList.drop 0 = dktX1_draw_0 := by decide +kernel
theorem dksX1_draw_1 : cX1_draw.data.toList.drop 24 = dktX1_draw_1 := dk_seg dksX1_draw_0 24 rfl rfl
theorem dX1_draw_0 : decode cX1_draw 0 = .ok (.aload_n 0, 1) := dk_42 (dk_at dksX1_draw_0 0 rfl rfl)
theorem dX1_draw_1 : decode cX1_draw 1 = .ok (.aload_n 0, 1) := dk_42 (dk_at dksX1_draw_0 1 rfl rfl)
theorem dX1_draw_2 : decode cX1_draw 2 = .ok (.getfield 30, 3) := dk_180 0 30 (dk_at dksX1_draw_0 2 rfl rfl)
theorem dX1_draw_5 : decode cX1_draw 5 = .ok (.ldc 100, 2) := dk_18 100 (dk_at dksX1_draw_0 5 rfl rfl)
theorem dX1_draw_7 : decode cX1_draw 7 = .ok (.imul, 1) := dk_104 (dk_at dksX1_draw_0 7 rfl rfl)
theorem dX1_draw_8 : decode cX1_draw 8 = .ok (.sipush 12345, 3) := dk_17 48 57 (dk_at dksX1_draw_0 8 rfl rfl)
theorem dX1_draw_11 : decode cX1_draw 11 = .ok (.iadd, 1) := dk_96 (dk_at dksX1_draw_0 11 rfl rfl)
theorem dX1_draw_12 : decode cX1_draw 12 = .ok (.putfield 30, 3) := dk_181 0 30 (dk_at dksX1_draw_0 12 rfl rfl)
theorem dX1_draw_15 : decode cX1_draw 15 = .ok (.aload_n 0, 1) := dk_42 (dk_at dksX1_draw_0 15 rfl rfl)
theorem dX1_draw_16 : decode cX1_draw 16 = .ok (.getfield 30, 3) := dk_180 0 30 (dk_at dksX1_draw_0 16 rfl rfl)
theorem dX1_draw_19 : decode cX1_draw 19 = .ok (.bipush 16, 2) := dk_16 16 (dk_at dksX1_draw_0 19 rfl rfl)
theorem dX1_draw_21 : decode cX1_draw 21 = .ok (.iushr, 1) := dk_124 (dk_at dksX1_draw_0 21 rfl rfl)
theorem dX1_draw_22 : decode cX1_draw 22 = .ok (.iload_n 1, 1) := dk_27 (dk_at dksX1_draw_0 22 rfl rfl)
theorem dX1_draw_23 : decode cX1_draw 23 = .ok (.irem, 1) := dk_112 (dk_at dksX1_draw_0 23 rfl rfl)
theorem dX1_draw_24 : decode cX1_draw 24 = .ok (.ireturn, 1) := dk_172 (dk_at dksX1_draw_1 0 rfl rfl)
theorem q75 : (Jvm.Cond.initialized "StairOnSticks$Stair") ∈ lw_all := lw_g (lw_at lw_m1 2 rfl) rfl
theorem q119 : (Jvm.Cond.instantiable "StairOnSticks$Stair" (9 : Nat)) ∈ lw_all := lw_g (lw_at lw_m1 46 rfl) rfl
theorem q121 : (Jvm.Cond.instanceMethod ({ cls := "StairOnSticks$Stair", name := "<init>", desc := "()V" } : Jvm.MethodName)) ∈ lw_all := lw_g (lw_at lw_m1 48 rfl) rfl
theorem q122 : (Jvm.Cond.code ({ cls := "StairOnSticks$Stair", name := "<init>", desc := "()V" } : Jvm.MethodName) prog_14_method_1_code (1 : Nat) (Option.none : Option Jvm.ClassFile.FieldType)) ∈ lw_all := lw_g (lw_at lw_m1 49 rfl) rfl
theorem q123 : (Jvm.Cond.methodLink "StairOnSticks$Stair" (3 : Nat) ({ cls := "java/lang/Object", name := "<init>", desc := "()V" } : Jvm.MethodName)) ∈ lw_all := lw_g (lw_at lw_m1 50 rfl) rfl
theorem q124 : (Jvm.Cond.classLink "StairOnSticks$Stair" (9 : Nat) "StairOnSticks$Step") ∈ lw_all := lw_g (lw_at lw_m1 51 rfl) rfl
theorem q126 : (Jvm.Cond.classLink "StairOnSticks$Stair" (17 : Nat) "StairOnSticks$Move") ∈ lw_all := lw_g (lw_at lw_m1 53 rfl) rfl
theorem q128 : (Jvm.Cond.classLink "StairOnSticks$Stair" (23 : Nat) "StairOnSticks$Person") ∈ lw_all := lw_g (lw_at lw_m1 55 rfl) rfl
theorem q130 : (Jvm.Cond.methodLinkNest "StairOnSticks$Stair" (25 : Nat) ({ cls := "StairOnSticks$Person", name := "<init>", desc := "()V" } : Jvm.MethodName) "StairOnSticks") ∈ lw_tbl := lw_at lw_m1 57 rfl
theorem q135 : (Jvm.Cond.fieldLink "StairOnSticks$Stair" (48 : Nat) "StairOnSticks$Person" "is" "[I") ∈ lw_all := lw_g (lw_at lw_m1 62 rfl) rfl
theorem q142 : (Jvm.Cond.fieldLink "StairOnSticks$Stair" (11 : Nat) "StairOnSticks$Stair" "step" "[LStairOnSticks$Step;") ∈ lw_all := lw_g (lw_at lw_m1 69 rfl) rfl
theorem q146 : (Jvm.Cond.fieldLink "StairOnSticks$Stair" (19 : Nat) "StairOnSticks$Stair" "way" "[LStairOnSticks$Move;") ∈ lw_all := lw_g (lw_at lw_m1 73 rfl) rfl
theorem q149 : (Jvm.Cond.fieldLink "StairOnSticks$Stair" (26 : Nat) "StairOnSticks$Stair" "person" "LStairOnSticks$Person;") ∈ lw_all := lw_g (lw_at lw_m1 76 rfl) rfl
theorem q153 : (Jvm.Cond.fieldLink "StairOnSticks$Stair" (35 : Nat) "StairOnSticks$Stair" "steps" "I") ∈ lw_all := lw_g (lw_at lw_m1 80 rfl) rfl
theorem q157 : (Jvm.Cond.fieldLink "StairOnSticks$Stair" (52 : Nat) "StairOnSticks$Stair" "ways" "I") ∈ lw_all := lw_g (lw_at lw_m1 84 rfl) rfl
theorem q161 : (Jvm.Cond.fieldLink "StairOnSticks$Stair" (30 : Nat) "StairOnSticks$Stair" "seed" "I") ∈ lw_all := lw_g (lw_at lw_m1 88 rfl) rfl
theorem q163 : (Jvm.Cond.fieldLink "StairOnSticks$Stair" (55 : Nat) "StairOnSticks$Stair" "climbs" "I") ∈ lw_all := lw_g (lw_at lw_m1 90 rfl) rfl
theorem q165 : (Jvm.Cond.fieldLink "StairOnSticks$Stair" (58 : Nat) "StairOnSticks$Stair" "tops" "I") ∈ lw_all := lw_g (lw_at lw_m1 92 rfl) rfl
theorem q167 : (Jvm.Cond.fieldLink "StairOnSticks$Stair" (61 : Nat) "StairOnSticks$Stair" "weeks" "I") ∈ lw_all := lw_g (lw_at lw_m1 94 rfl) rfl
theorem q169 : (Jvm.Cond.laysFinal "StairOnSticks$Stair" "StairOnSticks$Stair" "step" "[LStairOnSticks$Step;") ∈ lw_all := lw_g (lw_at lw_m1 96 rfl) rfl
theorem q170 : (Jvm.Cond.soleField "StairOnSticks$Stair" "step") ∈ lw_all := lw_g (lw_at lw_m1 97 rfl) rfl
theorem q171 : (Jvm.Cond.laysFinal "StairOnSticks$Stair" "StairOnSticks$Stair" "way" "[LStairOnSticks$Move;") ∈ lw_all := lw_g (lw_at lw_m1 98 rfl) rfl
theorem q172 : (Jvm.Cond.soleField "StairOnSticks$Stair" "way") ∈ lw_all := lw_g (lw_at lw_m1 99 rfl) rfl
theorem q173 : (Jvm.Cond.laysFinal "StairOnSticks$Stair" "StairOnSticks$Stair" "person" "LStairOnSticks$Person;") ∈ lw_all := lw_g (lw_at lw_m1 100 rfl) rfl
theorem q174 : (Jvm.Cond.soleField "StairOnSticks$Stair" "person") ∈ lw_all := lw_g (lw_at lw_m1 101 rfl) rfl
theorem q175 : (Jvm.Cond.lays "StairOnSticks$Stair" "StairOnSticks$Stair" "steps" "I") ∈ lw_all := lw_g (lw_at lw_m1 102 rfl) rfl
theorem q176 : (Jvm.Cond.soleField "StairOnSticks$Stair" "steps") ∈ lw_all := lw_g (lw_at lw_m1 103 rfl) rfl
theorem q177 : (Jvm.Cond.lays "StairOnSticks$Stair" "StairOnSticks$Stair" "ways" "I") ∈ lw_all := lw_g (lw_at lw_m1 104 rfl) rfl
theorem q178 : (Jvm.Cond.soleField "StairOnSticks$Stair" "ways") ∈ lw_all := lw_g (lw_at lw_m1 105 rfl) rfl
theorem q179 : (Jvm.Cond.lays "StairOnSticks$Stair" "StairOnSticks$Stair" "seed" "I") ∈ lw_all := lw_g (lw_at lw_m1 106 rfl) rfl
theorem q180 : (Jvm.Cond.soleField "StairOnSticks$Stair" "seed") ∈ lw_all := lw_g (lw_at lw_m1 107 rfl) rfl
theorem q181 : (Jvm.Cond.lays "StairOnSticks$Stair" "StairOnSticks$Stair" "climbs" "I") ∈ lw_all := lw_g (lw_at lw_m1 108 rfl) rfl
theorem q182 : (Jvm.Cond.soleField "StairOnSticks$Stair" "climbs") ∈ lw_all := lw_g (lw_at lw_m1 109 rfl) rfl
theorem q183 : (Jvm.Cond.lays "StairOnSticks$Stair" "StairOnSticks$Stair" "tops" "I") ∈ lw_all := lw_g (lw_at lw_m1 110 rfl) rfl
theorem q184 : (Jvm.Cond.soleField "StairOnSticks$Stair" "tops") ∈ lw_all := lw_g (lw_at lw_m1 111 rfl) rfl
theorem q185 : (Jvm.Cond.lays "StairOnSticks$Stair" "StairOnSticks$Stair" "weeks" "I") ∈ lw_all := lw_g (lw_at lw_m1 112 rfl) rfl
theorem q186 : (Jvm.Cond.soleField "StairOnSticks$Stair" "weeks") ∈ lw_all := lw_g (lw_at lw_m1 113 rfl) rfl
theorem q187 : (Jvm.Cond.superclass "StairOnSticks$Stair" "java/lang/Object") ∈ lw_all := lw_g (lw_at lw_m1 114 rfl) rfl
theorem q629 : (Jvm.Cond.instanceMethod ({ cls := "StairOnSticks$Stair", name := "adds", desc := "(IZZZ)V" } : Jvm.MethodName)) ∈ lw_all := lw_g (lw_at lw_m3 76 rfl) rfl
theorem q630 : (Jvm.Cond.selects "StairOnSticks$Stair" ({ cls := "StairOnSticks$Stair", name := "adds", desc := "(IZZZ)V" } : Jvm.MethodName) ({ cls := "StairOnSticks$Stair", name := "adds", desc := "(IZZZ)V" } : Jvm.MethodName)) ∈ lw_all := lw_g (lw_at lw_m3 77 rfl) rfl
theorem q631 : (Jvm.Cond.code ({ cls := "StairOnSticks$Stair", name := "adds", desc := "(IZZZ)V" } : Jvm.MethodName) prog_14_method_3_code (6 : Nat) (Option.none : Option Jvm.ClassFile.FieldType)) ∈ lw_all := lw_g (lw_at lw_m3 78 rfl) rfl
theorem q633 : (Jvm.Cond.methodLinkNest "StairOnSticks$Stair" (64 : Nat) ({ cls := "StairOnSticks$Step", name := "<init>", desc := "()V" } : Jvm.MethodName) "StairOnSticks") ∈ lw_tbl := lw_at lw_m3 80 rfl
theorem q638 : (Jvm.Cond.fieldLink "StairOnSticks$Stair" (65 : Nat) "StairOnSticks$Step" "rise" "I") ∈ lw_all := lw_g (lw_at lw_m3 85 rfl) rfl
theorem q645 : (Jvm.Cond.fieldLink "StairOnSticks$Stair" (68 : Nat) "StairOnSticks$Step" "wet" "Z") ∈ lw_all := lw_g (lw_at lw_m3 92 rfl) rfl
theorem q651 : (Jvm.Cond.fieldLink "StairOnSticks$Stair" (72 : Nat) "StairOnSticks$Step" "rail" "Z") ∈ lw_all := lw_g (lw_at lw_m3 98 rfl) rfl
theorem q654 : (Jvm.Cond.fieldLink "StairOnSticks$Stair" (75 : Nat) "StairOnSticks$Step" "chair" "Z") ∈ lw_all := lw_g (lw_at lw_m3 101 rfl) rfl
theorem q726 : (Jvm.Cond.instanceMethod ({ cls := "StairOnSticks$Stair", name := "adds", desc := "(LStairOnSticks$Move;)V" } : Jvm.MethodName)) ∈ lw_all := lw_g (lw_at lw_m3 173 rfl) rfl
theorem q727 : (Jvm.Cond.selects "StairOnSticks$Stair" ({ cls := "StairOnSticks$Stair", name := "adds", desc := "(LStairOnSticks$Move;)V" } : Jvm.MethodName) ({ cls := "StairOnSticks$Stair", name := "adds", desc := "(LStairOnSticks$Move;)V" } : Jvm.MethodName)) ∈ lw_all := lw_g (lw_at lw_m3 174 rfl) rfl
theorem q728 : (Jvm.Cond.code ({ cls := "StairOnSticks$Stair", name := "adds", desc := "(LStairOnSticks$Move;)V" } : Jvm.MethodName) prog_14_method_4_code (2 : Nat) (Option.none : Option Jvm.ClassFile.FieldType)) ∈ lw_all := lw_g (lw_at lw_m3 175 rfl) rfl
theorem q774 : (Jvm.Cond.instanceMethod ({ cls := "StairOnSticks$Stair", name := "copied", desc := "()LStairOnSticks$Stair;" } : Jvm.MethodName)) ∈ lw_all := lw_g (lw_at lw_m3 221 rfl) rfl
theorem q775 : (Jvm.Cond.selects "StairOnSticks$Stair" ({ cls := "StairOnSticks$Stair", name := "copied", desc := "()LStairOnSticks$Stair;" } : Jvm.MethodName) ({ cls := "StairOnSticks$Stair", name := "copied", desc := "()LStairOnSticks$Stair;" } : Jvm.MethodName)) ∈ lw_all := lw_g (lw_at lw_m3 222 rfl) rfl
theorem q776 : (Jvm.Cond.code ({ cls := "StairOnSticks$Stair", name := "copied", desc := "()LStairOnSticks$Stair;" } : Jvm.MethodName) prog_14_method_2_code (3 : Nat) (Option.some (Jvm.ClassFile.FieldType.object "StairOnSticks$Stair"))) ∈ lw_all := lw_g (lw_at lw_m3 223 rfl) rfl
theorem q777 : (Jvm.Cond.classLink "StairOnSticks$Stair" (12 : Nat) "StairOnSticks$Stair") ∈ lw_all := lw_g (lw_at lw_m3 224 rfl) rfl
theorem q778 : (Jvm.Cond.methodLink "StairOnSticks$Stair" (34 : Nat) ({ cls := "StairOnSticks$Stair", name := "<init>", desc := "()V" } : Jvm.MethodName)) ∈ lw_all := lw_g (lw_at lw_m3 225 rfl) rfl
theorem q779 : (Jvm.Cond.methodLink "StairOnSticks$Stair" (38 : Nat) ({ cls := "StairOnSticks$Step", name := "copied", desc := "()LStairOnSticks$Step;" } : Jvm.MethodName)) ∈ lw_all := lw_g (lw_at lw_m3 226 rfl) rfl
theorem q785 : (Jvm.Cond.methodLink "StairOnSticks$Stair" (42 : Nat) ({ cls := "java/lang/System", name := "arraycopy", desc := "(Ljava/lang/Object;ILjava/lang/Object;II)V" } : Jvm.MethodName)) ∈ lw_all := lw_g (lw_at lw_m3 232 rfl) rfl
theorem q1170 : (Jvm.Cond.instanceMethod ({ cls := "StairOnSticks$Stair", name := "can", desc := "(III)Z" } : Jvm.MethodName)) ∈ lw_all := lw_g (lw_at lw_m5 137 rfl) rfl
theorem q1171 : (Jvm.Cond.selects "StairOnSticks$Stair" ({ cls := "StairOnSticks$Stair", name := "can", desc := "(III)Z" } : Jvm.MethodName) ({ cls := "StairOnSticks$Stair", name := "can", desc := "(III)Z" } : Jvm.MethodName)) ∈ lw_all := lw_g (lw_at lw_m5 138 rfl) rfl
theorem q1172 : (Jvm.Cond.code ({ cls := "StairOnSticks$Stair", name := "can", desc := "(III)Z" } : Jvm.MethodName) prog_14_method_5_code (4 : Nat) (Option.some Jvm.ClassFile.FieldType.boolean)) ∈ lw_all := lw_g (lw_at lw_m5 139 rfl) rfl
theorem q1262 : (Jvm.Cond.instanceMethod ({ cls := "StairOnSticks$Stair", name := "left", desc := "(III)I" } : Jvm.MethodName)) ∈ lw_all := lw_g (lw_at lw_m5 229 rfl) rfl
theorem q1263 : (Jvm.Cond.selects "StairOnSticks$Stair" ({ cls := "StairOnSticks$Stair", name := "left", desc := "(III)I" } : Jvm.MethodName) ({ cls := "StairOnSticks$Stair", name := "left", desc := "(III)I" } : Jvm.MethodName)) ∈ lw_all := lw_g (lw_at lw_m5 230 rfl) rfl
theorem q1264 : (Jvm.Cond.code ({ cls := "StairOnSticks$Stair", name := "left", desc := "(III)I" } : Jvm.MethodName) prog_14_method_7_code (4 : Nat) (Option.some Jvm.ClassFile.FieldType.int)) ∈ lw_all := lw_g (lw_at lw_m5 231 rfl) rfl
theorem q1265 : (Jvm.Cond.methodLink "StairOnSticks$Stair" (86 : Nat) ({ cls := "StairOnSticks$Person", name := "arms", desc := "()I" } : Jvm.MethodName)) ∈ lw_all := lw_g (lw_at lw_m5 232 rfl) rfl
theorem q1266 : (Jvm.Cond.methodLink "StairOnSticks$Stair" (90 : Nat) ({ cls := "StairOnSticks$Stair", name := "tires", desc := "(II)I" } : Jvm.MethodName)) ∈ lw_all := lw_g (lw_at lw_m5 233 rfl) rfl
theorem q1267 : (Jvm.Cond.instanceMethod ({ cls := "StairOnSticks$Stair", name := "tires", desc := "(II)I" } : Jvm.MethodName)) ∈ lw_all := lw_g (lw_at lw_m5 234 rfl) rfl
theorem q1268 : (Jvm.Cond.selects "StairOnSticks$Stair" ({ cls := "StairOnSticks$Stair", name := "tires", desc := "(II)I" } : Jvm.MethodName) ({ cls := "StairOnSticks$Stair", name := "tires", desc := "(II)I" } : Jvm.MethodName)) ∈ lw_all := lw_g (lw_at lw_m5 235 rfl) rfl
theorem q1269 : (Jvm.Cond.code ({ cls := "StairOnSticks$Stair", name := "tires", desc := "(II)I" } : Jvm.MethodName) prog_14_method_6_code (3 : Nat) (Option.some Jvm.ClassFile.FieldType.int)) ∈ lw_all := lw_g (lw_at lw_m5 236 rfl) rfl
theorem q1270 : (Jvm.Cond.methodLink "StairOnSticks$Stair" (82 : Nat) ({ cls := "StairOnSticks$Move", name := "tires", desc := "(LStairOnSticks$Person;LStairOnSticks$Step;)I" } : Jvm.MethodName)) ∈ lw_all := lw_g (lw_at lw_m5 237 rfl) rfl
theorem q1355 : (Jvm.Cond.instanceMethod ({ cls := "StairOnSticks$Stair", name := "canBe", desc := "()Z" } : Jvm.MethodName)) ∈ lw_all := lw_g (lw_at lw_m6 82 rfl) rfl
theorem q1356 : (Jvm.Cond.selects "StairOnSticks$Stair" ({ cls := "StairOnSticks$Stair", name := "canBe", desc := "()Z" } : Jvm.MethodName) ({ cls := "StairOnSticks$Stair", name := "canBe", desc := "()Z" } : Jvm.MethodName)) ∈ lw_all := lw_g (lw_at lw_m6 83 rfl) rfl
theorem q1357 : (Jvm.Cond.code ({ cls := "StairOnSticks$Stair", name := "canBe", desc := "()Z" } : Jvm.MethodName) prog_14_method_8_code (6 : Nat) (Option.some Jvm.ClassFile.FieldType.boolean)) ∈ lw_all := lw_g (lw_at lw_m6 84 rfl) rfl
theorem q1358 : (Jvm.Cond.methodLink "StairOnSticks$Stair" (93 : Nat) ({ cls := "StairOnSticks$Stair", name := "can", desc := "(III)Z" } : Jvm.MethodName)) ∈ lw_all := lw_g (lw_at lw_m6 85 rfl) rfl
theorem q1359 : (Jvm.Cond.methodLink "StairOnSticks$Stair" (96 : Nat) ({ cls := "StairOnSticks$Stair", name := "left", desc := "(III)I" } : Jvm.MethodName)) ∈ lw_all := lw_g (lw_at lw_m6 86 rfl) rfl
theorem q1464 : (Jvm.Cond.instanceMethod ({ cls := "StairOnSticks$Stair", name := "climbs", desc := "([I)I" } : Jvm.MethodName)) ∈ lw_all := lw_g (lw_at lw_m6 191 rfl) rfl
theorem q1465 : (Jvm.Cond.selects "StairOnSticks$Stair" ({ cls := "StairOnSticks$Stair", name := "climbs", desc := "([I)I" } : Jvm.MethodName) ({ cls := "StairOnSticks$Stair", name := "climbs", desc := "([I)I" } : Jvm.MethodName)) ∈ lw_all := lw_g (lw_at lw_m6 192 rfl) rfl
theorem q1466 : (Jvm.Cond.code ({ cls := "StairOnSticks$Stair", name := "climbs", desc := "([I)I" } : Jvm.MethodName) prog_14_method_10_code (3 : Nat) (Option.some Jvm.ClassFile.FieldType.int)) ∈ lw_all := lw_g (lw_at lw_m6 193 rfl) rfl
theorem q1467 : (Jvm.Cond.methodLink "StairOnSticks$Stair" (101 : Nat) ({ cls := "StairOnSticks$Stair", name := "draw", desc := "(I)I" } : Jvm.MethodName)) ∈ lw_all := lw_g (lw_at lw_m6 194 rfl) rfl
theorem q1468 : (Jvm.Cond.instanceMethod ({ cls := "StairOnSticks$Stair", name := "draw", desc := "(I)I" } : Jvm.MethodName)) ∈ lw_all := lw_g (lw_at lw_m6 195 rfl) rfl
theorem q1469 : (Jvm.Cond.selects "StairOnSticks$Stair" ({ cls := "StairOnSticks$Stair", name := "draw", desc := "(I)I" } : Jvm.MethodName) ({ cls := "StairOnSticks$Stair", name := "draw", desc := "(I)I" } : Jvm.MethodName)) ∈ lw_all := lw_g (lw_at lw_m6 196 rfl) rfl
theorem q1470 : (Jvm.Cond.code ({ cls := "StairOnSticks$Stair", name := "draw", desc := "(I)I" } : Jvm.MethodName) prog_14_method_9_code (2 : Nat) (Option.some Jvm.ClassFile.FieldType.int)) ∈ lw_all := lw_g (lw_at lw_m6 197 rfl) rfl
theorem q1471 : (Jvm.Cond.constant "StairOnSticks$Stair" (100 : Nat) (1103515245 : Int32)) ∈ lw_all := lw_g (lw_at lw_m6 198 rfl) rfl
theorem q1472 : (Jvm.Cond.methodLink "StairOnSticks$Stair" (105 : Nat) ({ cls := "StairOnSticks$Move", name := "slips", desc := "(LStairOnSticks$Step;)I" } : Jvm.MethodName)) ∈ lw_all := lw_g (lw_at lw_m6 199 rfl) rfl
theorem in_X1 : ∀ w ∈ wsX10, w ∈ lw_all := lw_in wsX10 [169, 171, 173, 175, 177, 179, 181, 183, 185] (by decide +kernel) (by decide +kernel)
/-! StairOnSticks$Person -/
set_option maxRecDepth 100000
def RX2 : String := "StairOnSticks$Person"
def TX2 : u_T := fun k => match k with
  | _ => ("StairOnSticks$Person", "is", "[I", true)
def tyX2 : Nat → FieldType := fun k => match k with
  | _ => .array .int
abbrev wsX20 : List Cond := u_ws RX2 TX2 1
theorem nmX2 : ∀ a, a < 1 → ∀ b, b < 1 → a ≠ b → (TX2 a).2.1 ≠ (TX2 b).2.1 := by decide +kernel
theorem tyX2_ok : ∀ k, k < 1 → parseFieldDescriptor (TX2 k).2.2.1 = some (tyX2 k) := by decide +kernel
abbrev cX2_init : ByteArray := prog_8_method_1_code
def yX2_init : MethodName := ⟨RX2, "<init>", "()V"⟩
def dkwX2_init_2 : List UInt8 := [16, 20, 79, 89, 16, 8, 16, 30, 79, 89, 16, 9, 8, 79, 181, 0, 9, 177]
abbrev dktX2_init_2 : List UInt8 := dkwX2_init_2 ++ []
def dkwX2_init_1 : List UInt8 := [89, 6, 3, 79, 89, 7, 16, 10, 79, 89, 8, 16, 40, 79, 89, 16, 6, 16, 10, 79, 89, 16, 7]
abbrev dktX2_init_1 : List UInt8 := dkwX2_init_1 ++ dktX2_init_2
def dkwX2_init_0 : List UInt8 := [42, 183, 0, 3, 42, 16, 10, 188, 10, 89, 3, 16, 120, 79, 89, 4, 16, 20, 79, 89, 5, 16, 100, 79]
abbrev dktX2_init_0 : List UInt8 := dkwX2_init_0 ++ dktX2_init_1
theorem dksX2_init_0 : cX2_init.data.toList.drop 0 = dktX2_init_0 := by decide +kernel
theorem dksX2_init_1 : cX2_init.data.toList.drop 24 = dktX2_init_1 := dk_seg dksX2_init_0 24 rfl rfl
theorem dksX2_init_2 : cX2_init.data.toList.drop 47 = dktX2_init_2 := dk_seg dksX2_init_1 23 rfl rfl
theorem dX2_init_0 : decode cX2_init 0 = .ok (.aload_n 0, 1) := dk_42 (dk_at dksX2_init_0 0 rfl rfl)
theorem dX2_init_1 : decode cX2_init 1 = .ok (.invokespecial 3, 3) := dk_183 0 3 (dk_at dksX2_init_0 1 rfl rfl)
theorem dX2_init_4 : decode cX2_init 4 = .ok (.aload_n 0, 1) := dk_42 (dk_at dksX2_init_0 4 rfl rfl)
theorem dX2_init_5 : decode cX2_init 5 = .ok (.bipush 10, 2) := dk_16 10 (dk_at dksX2_init_0 5 rfl rfl)
theorem dX2_init_7 : decode cX2_init 7 = .ok (.newarray .int, 2) := dk_188_10 (dk_at dksX2_init_0 7 rfl rfl)
theorem dX2_init_9 : decode cX2_init 9 = .ok (.dup, 1) := dk_89 (dk_at dksX2_init_0 9 rfl rfl)
theorem dX2_init_10 : decode cX2_init 10 = .ok (.iconst 0, 1) := dk_3 (dk_at dksX2_init_0 10 rfl rfl)
theorem dX2_init_11 : decode cX2_init 11 = .ok (.bipush 120, 2) := dk_16 120 (dk_at dksX2_init_0 11 rfl rfl)
theorem dX2_init_13 : decode cX2_init 13 = .ok (.iastore, 1) := dk_79 (dk_at dksX2_init_0 13 rfl rfl)
theorem dX2_init_14 : decode cX2_init 14 = .ok (.dup, 1) := dk_89 (dk_at dksX2_init_0 14 rfl rfl)
theorem dX2_init_15 : decode cX2_init 15 = .ok (.iconst 1, 1) := dk_4 (dk_at dksX2_init_0 15 rfl rfl)
theorem dX2_init_16 : decode cX2_init 16 = .ok (.bipush 20, 2) := dk_16 20 (dk_at dksX2_init_0 16 rfl rfl)
theorem dX2_init_18 : decode cX2_init 18 = .ok (.iastore, 1) := dk_79 (dk_at dksX2_init_0 18 rfl rfl)
theorem dX2_init_19 : decode cX2_init 19 = .ok (.dup, 1) := dk_89 (dk_at dksX2_init_0 19 rfl rfl)
theorem dX2_init_20 : decode cX2_init 20 = .ok (.iconst 2, 1) := dk_5 (dk_at dksX2_init_0 20 rfl rfl)
theorem dX2_init_21 : decode cX2_init 21 = .ok (.bipush 100, 2) := dk_16 100 (dk_at dksX2_init_0 21 rfl rfl)
theorem dX2_init_23 : decode cX2_init 23 = .ok (.iastore, 1) := dk_79 (dk_at dksX2_init_0 23 rfl rfl)
theorem dX2_init_24 : decode cX2_init 24 = .ok (.dup, 1) := dk_89 (dk_at dksX2_init_1 0 rfl rfl)
theorem dX2_init_25 : decode cX2_init 25 = .ok (.iconst 3, 1) := dk_6 (dk_at dksX2_init_1 1 rfl rfl)
theorem dX2_init_26 : decode cX2_init 26 = .ok (.iconst 0, 1) := dk_3 (dk_at dksX2_init_1 2 rfl rfl)
theorem dX2_init_27 : decode cX2_init 27 = .ok (.iastore, 1) := dk_79 (dk_at dksX2_init_1 3 rfl rfl)
theorem dX2_init_28 : decode cX2_init 28 = .ok (.dup, 1) := dk_89 (dk_at dksX2_init_1 4 rfl rfl)
theorem dX2_init_29 : decode cX2_init 29 = .ok (.iconst 4, 1) := dk_7 (dk_at dksX2_init_1 5 rfl rfl)
theorem dX2_init_30 : decode cX2_init 30 = .ok (.bipush 10, 2) := dk_16 10 (dk_at dksX2_init_1 6 rfl rfl)
theorem dX2_init_32 : decode cX2_init 32 = .ok (.iastore, 1) := dk_79 (dk_at dksX2_init_1 8 rfl rfl)
theorem dX2_init_33 : decode cX2_init 33 = .ok (.dup, 1) := dk_89 (dk_at dksX2_init_1 9 rfl rfl)
theorem dX2_init_34 : decode cX2_init 34 = .ok (.iconst 5, 1) := dk_8 (dk_at dksX2_init_1 10 rfl rfl)
theorem dX2_init_35 : decode cX2_init 35 = .ok (.bipush 40, 2) := dk_16 40 (dk_at dksX2_init_1 11 rfl rfl)
theorem dX2_init_37 : decode cX2_init 37 = .ok (.iastore, 1) := dk_79 (dk_at dksX2_init_1 13 rfl rfl)
theorem dX2_init_38 : decode cX2_init 38 = .ok (.dup, 1) := dk_89 (dk_at dksX2_init_1 14 rfl rfl)
theorem dX2_init_39 : decode cX2_init 39 = .ok (.bipush 6, 2) := dk_16 6 (dk_at dksX2_init_1 15 rfl rfl)
theorem dX2_init_41 : decode cX2_init 41 = .ok (.bipush 10, 2) := dk_16 10 (dk_at dksX2_init_1 17 rfl rfl)
theorem dX2_init_43 : decode cX2_init 43 = .ok (.iastore, 1) := dk_79 (dk_at dksX2_init_1 19 rfl rfl)
theorem dX2_init_44 : decode cX2_init 44 = .ok (.dup, 1) := dk_89 (dk_at dksX2_init_1 20 rfl rfl)
theorem dX2_init_45 : decode cX2_init 45 = .ok (.bipush 7, 2) := dk_16 7 (dk_at dksX2_init_1 21 rfl rfl)
theorem dX2_init_47 : decode cX2_init 47 = .ok (.bipush 20, 2) := dk_16 20 (dk_at dksX2_init_2 0 rfl rfl)
theorem dX2_init_49 : decode cX2_init 49 = .ok (.iastore, 1) := dk_79 (dk_at dksX2_init_2 2 rfl rfl)
theorem dX2_init_50 : decode cX2_init 50 = .ok (.dup, 1) := dk_89 (dk_at dksX2_init_2 3 rfl rfl)
theorem dX2_init_51 : decode cX2_init 51 = .ok (.bipush 8, 2) := dk_16 8 (dk_at dksX2_init_2 4 rfl rfl)
theorem dX2_init_53 : decode cX2_init 53 = .ok (.bipush 30, 2) := dk_16 30 (dk_at dksX2_init_2 6 rfl rfl)
theorem dX2_init_55 : decode cX2_init 55 = .ok (.iastore, 1) := dk_79 (dk_at dksX2_init_2 8 rfl rfl)
theorem dX2_init_56 : decode cX2_init 56 = .ok (.dup, 1) := dk_89 (dk_at dksX2_init_2 9 rfl rfl)
theorem dX2_init_57 : decode cX2_init 57 = .ok (.bipush 9, 2) := dk_16 9 (dk_at dksX2_init_2 10 rfl rfl)
theorem dX2_init_59 : decode cX2_init 59 = .ok (.iconst 5, 1) := dk_8 (dk_at dksX2_init_2 12 rfl rfl)
theorem dX2_init_60 : decode cX2_init 60 = .ok (.iastore, 1) := dk_79 (dk_at dksX2_init_2 13 rfl rfl)
theorem dX2_init_61 : decode cX2_init 61 = .ok (.putfield 9, 3) := dk_181 0 9 (dk_at dksX2_init_2 14 rfl rfl)
theorem dX2_init_64 : decode cX2_init 64 = .ok (.return_, 1) := dk_177 (dk_at dksX2_init_2 17 rfl rfl)
abbrev cX2_weight : ByteArray := prog_8_method_2_code
def yX2_weight : MethodName := ⟨RX2, "weight", "()I"⟩
def dkwX2_weight_0 : List UInt8 := [42, 180, 0, 9, 3, 46, 172]
abbrev dktX2_weight_0 : List UInt8 := dkwX2_weight_0 ++ []
theorem dksX2_weight_0 : cX2_weight.data.toList.drop 0 = dktX2_weight_0 := by decide +kernel
theorem dX2_weight_0 : decode cX2_weight 0 = .ok (.aload_n 0, 1) := dk_42 (dk_at dksX2_weight_0 0 rfl rfl)
theorem dX2_weight_1 : decode cX2_weight 1 = .ok (.getfield 9, 3) := dk_180 0 9 (dk_at dksX2_weight_0 1 rfl rfl)
theorem dX2_weight_4 : decode cX2_weight 4 = .ok (.iconst 0, 1) := dk_3 (dk_at dksX2_weight_0 4 rfl rfl)
theorem dX2_weight_5 : decode cX2_weight 5 = .ok (.iaload, 1) := dk_46 (dk_at dksX2_weight_0 5 rfl rfl)
theorem dX2_weight_6 : decode cX2_weight 6 = .ok (.ireturn, 1) := dk_172 (dk_at dksX2_weight_0 6 rfl rfl)
abbrev cX2_may : ByteArray := prog_8_method_7_code
def yX2_may : MethodName := ⟨RX2, "may", "(II)Z"⟩
def dkwX2_may_3 : List UInt8 := [184, 0, 15, 172]
abbrev dktX2_may_3 : List UInt8 := dkwX2_may_3 ++ []
def dkwX2_may_2 : List UInt8 := [167, 0, 16, 27, 8, 164, 0, 8, 16, 99, 167, 0, 6, 17, 0, 200, 54, 4, 28, 29, 21, 4]
abbrev dktX2_may_2 : List UInt8 := dkwX2_may_2 ++ dktX2_may_3
def dkwX2_may_1 : List UInt8 := [62, 27, 6, 160, 0, 8, 16, 100, 167, 0, 30, 27, 7, 160, 0, 12, 42, 180, 0, 9, 8, 46]
abbrev dktX2_may_1 : List UInt8 := dkwX2_may_1 ++ dktX2_may_2
def dkwX2_may_0 : List UInt8 := [27, 154, 0, 8, 16, 30, 167, 0, 18, 27, 8, 160, 0, 12, 42, 180, 0, 9, 7, 46, 167, 0, 4, 3]
abbrev dktX2_may_0 : List UInt8 := dkwX2_may_0 ++ dktX2_may_1
theorem dksX2_may_0 : cX2_may.data.toList.drop 0 = dktX2_may_0 := by decide +kernel
theorem dksX2_may_1 : cX2_may.data.toList.drop 24 = dktX2_may_1 := dk_seg dksX2_may_0 24 rfl rfl
theorem dksX2_may_2 : cX2_may.data.toList.drop 46 = dktX2_may_2 := dk_seg dksX2_may_1 22 rfl rfl
theorem dksX2_may_3 : cX2_may.data.toList.drop 68 = dktX2_may_3 := dk_seg dksX2_may_2 22 rfl rfl
theorem dX2_may_0 : decode cX2_may 0 = .ok (.iload_n 1, 1) := dk_27 (dk_at dksX2_may_0 0 rfl rfl)
theorem dX2_may_1 : decode cX2_may 1 = .ok (.ifCond .ne 8, 3) := dk_154 0 8 (dk_at dksX2_may_0 1 rfl rfl)
theorem dX2_may_4 : decode cX2_may 4 = .ok (.bipush 30, 2) := dk_16 30 (dk_at dksX2_may_0 4 rfl rfl)
theorem dX2_may_6 : decode cX2_may 6 = .ok (.goto 18, 3) := dk_167 0 18 (dk_at dksX2_may_0 6 rfl rfl)
theorem dX2_may_9 : decode cX2_may 9 = .ok (.iload_n 1, 1) := dk_27 (dk_at dksX2_may_0 9 rfl rfl)
theorem dX2_may_10 : decode cX2_may 10 = .ok (.iconst 5, 1) := dk_8 (dk_at dksX2_may_0 10 rfl rfl)
theorem dX2_may_11 : decode cX2_may 11 = .ok (.if_icmp .ne 12, 3) := dk_160 0 12 (dk_at dksX2_may_0 11 rfl rfl)
theorem dX2_may_14 : decode cX2_may 14 = .ok (.aload_n 0, 1) := dk_42 (dk_at dksX2_may_0 14 rfl rfl)
theorem dX2_may_15 : decode cX2_may 15 = .ok (.getfield 9, 3) := dk_180 0 9 (dk_at dksX2_may_0 15 rfl rfl)
theorem dX2_may_18 : decode cX2_may 18 = .ok (.iconst 4, 1) := dk_7 (dk_at dksX2_may_0 18 rfl rfl)
theorem dX2_may_19 : decode cX2_may 19 = .ok (.iaload, 1) := dk_46 (dk_at dksX2_may_0 19 rfl rfl)
theorem dX2_may_20 : decode cX2_may 20 = .ok (.goto 4, 3) := dk_167 0 4 (dk_at dksX2_may_0 20 rfl rfl)
theorem dX2_may_23 : decode cX2_may 23 = .ok (.iconst 0, 1) := dk_3 (dk_at dksX2_may_0 23 rfl rfl)
theorem dX2_may_24 : decode cX2_may 24 = .ok (.istore_n 3, 1) := dk_62 (dk_at dksX2_may_1 0 rfl rfl)
theorem dX2_may_25 : decode cX2_may 25 = .ok (.iload_n 1, 1) := dk_27 (dk_at dksX2_may_1 1 rfl rfl)
theorem dX2_may_26 : decode cX2_may 26 = .ok (.iconst 3, 1) := dk_6 (dk_at dksX2_may_1 2 rfl rfl)
theorem dX2_may_27 : decode cX2_may 27 = .ok (.if_icmp .ne 8, 3) := dk_160 0 8 (dk_at dksX2_may_1 3 rfl rfl)
theorem dX2_may_30 : decode cX2_may 30 = .ok (.bipush 100, 2) := dk_16 100 (dk_at dksX2_may_1 6 rfl rfl)
theorem dX2_may_32 : decode cX2_may 32 = .ok (.goto 30, 3) := dk_167 0 30 (dk_at dksX2_may_1 8 rfl rfl)
theorem dX2_may_35 : decode cX2_may 35 = .ok (.iload_n 1, 1) := dk_27 (dk_at dksX2_may_1 11 rfl rfl)
theorem dX2_may_36 : decode cX2_may 36 = .ok (.iconst 4, 1) := dk_7 (dk_at dksX2_may_1 12 rfl rfl)
theorem dX2_may_37 : decode cX2_may 37 = .ok (.if_icmp .ne 12, 3) := dk_160 0 12 (dk_at dksX2_may_1 13 rfl rfl)
theorem dX2_may_40 : decode cX2_may 40 = .ok (.aload_n 0, 1) := dk_42 (dk_at dksX2_may_1 16 rfl rfl)
theorem dX2_may_41 : decode cX2_may 41 = .ok (.getfield 9, 3) := dk_180 0 9 (dk_at dksX2_may_1 17 rfl rfl)
theorem dX2_may_44 : decode cX2_may 44 = .ok (.iconst 5, 1) := dk_8 (dk_at dksX2_may_1 20 rfl rfl)
theorem dX2_may_45 : decode cX2_may 45 = .ok (.iaload, 1) := dk_46 (dk_at dksX2_may_1 21 rfl rfl)
theorem dX2_may_46 : decode cX2_may 46 = .ok (.goto 16, 3) := dk_167 0 16 (dk_at dksX2_may_2 0 rfl rfl)
theorem dX2_may_49 : decode cX2_may 49 = .ok (.iload_n 1, 1) := dk_27 (dk_at dksX2_may_2 3 rfl rfl)
theorem dX2_may_50 : decode cX2_may 50 = .ok (.iconst 5, 1) := dk_8 (dk_at dksX2_may_2 4 rfl rfl)
theorem dX2_may_51 : decode cX2_may 51 = .ok (.if_icmp .le 8, 3) := dk_164 0 8 (dk_at dksX2_may_2 5 rfl rfl)
theorem dX2_may_54 : decode cX2_may 54 = .ok (.bipush 99, 2) := dk_16 99 (dk_at dksX2_may_2 8 rfl rfl)
theorem dX2_may_56 : decode cX2_may 56 = .ok (.goto 6, 3) := dk_167 0 6 (dk_at dksX2_may_2 10 rfl rfl)
theorem dX2_may_59 : decode cX2_may 59 = .ok (.sipush 200, 3) := dk_17 0 200 (dk_at dksX2_may_2 13 rfl rfl)
theorem dX2_may_62 : decode cX2_may 62 = .ok (.istore 4, 2) := dk_54 4 (dk_at dksX2_may_2 16 rfl rfl)
theorem dX2_may_64 : decode cX2_may 64 = .ok (.iload_n 2, 1) := dk_28 (dk_at dksX2_may_2 18 rfl rfl)
theorem dX2_may_65 : decode cX2_may 65 = .ok (.iload_n 3, 1) := dk_29 (dk_at dksX2_may_2 19 rfl rfl)
theorem dX2_may_66 : decode cX2_may 66 = .ok (.iload 4, 2) := dk_21 4 (dk_at dksX2_may_2 20 rfl rfl)
theorem dX2_may_68 : decode cX2_may 68 = .ok (.invokestatic 15, 3) := dk_184 0 15 (dk_at dksX2_may_3 0 rfl rfl)
theorem dX2_may_71 : decode cX2_may 71 = .ok (.ireturn, 1) := dk_172 (dk_at dksX2_may_3 3 rfl rfl)
abbrev cX2_limit : ByteArray := prog_8_method_3_code
def yX2_limit : MethodName := ⟨RX2, "limit", "()I"⟩
def dkwX2_limit_0 : List UInt8 := [42, 180, 0, 9, 4, 46, 172]
abbrev dktX2_limit_0 : List UInt8 := dkwX2_limit_0 ++ []
theorem dksX2_limit_0 : cX2_limit.data.toList.drop 0 = dktX2_limit_0 := by decide +kernel
theorem dX2_limit_0 : decode cX2_limit 0 = .ok (.aload_n 0, 1) := dk_42 (dk_at dksX2_limit_0 0 rfl rfl)
theorem dX2_limit_1 : decode cX2_limit 1 = .ok (.getfield 9, 3) := dk_180 0 9 (dk_at dksX2_limit_0 1 rfl rfl)
theorem dX2_limit_4 : decode cX2_limit 4 = .ok (.iconst 1, 1) := dk_4 (dk_at dksX2_limit_0 4 rfl rfl)
theorem dX2_limit_5 : decode cX2_limit 5 = .ok (.iaload, 1) := dk_46 (dk_at dksX2_limit_0 5 rfl rfl)
theorem dX2_limit_6 : decode cX2_limit 6 = .ok (.ireturn, 1) := dk_172 (dk_at dksX2_limit_0 6 rfl rfl)
abbrev cX2_arms : ByteArray := prog_8_method_4_code
def yX2_arms : MethodName := ⟨RX2, "arms", "()I"⟩
def dkwX2_arms_0 : List UInt8 := [42, 180, 0, 9, 5, 46, 172]
abbrev dktX2_arms_0 : List UInt8 := dkwX2_arms_0 ++ []
theorem dksX2_arms_0 : cX2_arms.data.toList.drop 0 = dktX2_arms_0 := by decide +kernel
theorem dX2_arms_0 : decode cX2_arms 0 = .ok (.aload_n 0, 1) := dk_42 (dk_at dksX2_arms_0 0 rfl rfl)
theorem dX2_arms_1 : decode cX2_arms 1 = .ok (.getfield 9, 3) := dk_180 0 9 (dk_at dksX2_arms_0 1 rfl rfl)
theorem dX2_arms_4 : decode cX2_arms 4 = .ok (.iconst 2, 1) := dk_5 (dk_at dksX2_arms_0 4 rfl rfl)
theorem dX2_arms_5 : decode cX2_arms 5 = .ok (.iaload, 1) := dk_46 (dk_at dksX2_arms_0 5 rfl rfl)
theorem dX2_arms_6 : decode cX2_arms 6 = .ok (.ireturn, 1) := dk_172 (dk_at dksX2_arms_0 6 rfl rfl)
abbrev cX2_price : ByteArray := prog_8_method_6_code
def yX2_price : MethodName := ⟨RX2, "price", "(I)I"⟩
def dkwX2_price_0 : List UInt8 := [42, 180, 0, 9, 16, 6, 27, 96, 46, 172]
abbrev dktX2_price_0 : List UInt8 := dkwX2_price_0 ++ []
theorem dksX2_price_0 : cX2_price.data.toList.drop 0 = dktX2_price_0 := by decide +kernel
theorem dX2_price_0 : decode cX2_price 0 = .ok (.aload_n 0, 1) := dk_42 (dk_at dksX2_price_0 0 rfl rfl)
theorem dX2_price_1 : decode cX2_price 1 = .ok (.getfield 9, 3) := dk_180 0 9 (dk_at dksX2_price_0 1 rfl rfl)
theorem dX2_price_4 : decode cX2_price 4 = .ok (.bipush 6, 2) := dk_16 6 (dk_at dksX2_price_0 4 rfl rfl)
theorem dX2_price_6 : decode cX2_price 6 = .ok (.iload_n 1, 1) := dk_27 (dk_at dksX2_price_0 6 rfl rfl)
theorem dX2_price_7 : decode cX2_price 7 = .ok (.iadd, 1) := dk_96 (dk_at dksX2_price_0 7 rfl rfl)
theorem dX2_price_8 : decode cX2_price 8 = .ok (.iaload, 1) := dk_46 (dk_at dksX2_price_0 8 rfl rfl)
theorem dX2_price_9 : decode cX2_price 9 = .ok (.ireturn, 1) := dk_172 (dk_at dksX2_price_0 9 rfl rfl)
abbrev cX2_heal : ByteArray := prog_8_method_5_code
def yX2_heal : MethodName := ⟨RX2, "heal", "()I"⟩
def dkwX2_heal_0 : List UInt8 := [42, 180, 0, 9, 6, 46, 172]
abbrev dktX2_heal_0 : List UInt8 := dkwX2_heal_0 ++ []
theorem dksX2_heal_0 : cX2_heal.data.toList.drop 0 = dktX2_heal_0 := by decide +kernel
theorem dX2_heal_0 : decode cX2_heal 0 = .ok (.aload_n 0, 1) := dk_42 (dk_at dksX2_heal_0 0 rfl rfl)
theorem dX2_heal_1 : decode cX2_heal 1 = .ok (.getfield 9, 3) := dk_180 0 9 (dk_at dksX2_heal_0 1 rfl rfl)
theorem dX2_heal_4 : decode cX2_heal 4 = .ok (.iconst 3, 1) := dk_6 (dk_at dksX2_heal_0 4 rfl rfl)
theorem dX2_heal_5 : decode cX2_heal 5 = .ok (.iaload, 1) := dk_46 (dk_at dksX2_heal_0 5 rfl rfl)
theorem dX2_heal_6 : decode cX2_heal 6 = .ok (.ireturn, 1) := dk_172 (dk_at dksX2_heal_0 6 rfl rfl)
abbrev cX2_heals : ByteArray := prog_8_method_8_code
def yX2_heals : MethodName := ⟨RX2, "heals", "(II)I"⟩
def dkwX2_heals_1 : List UInt8 := [162, 0, 7, 7, 167, 0, 5, 16, 10, 62, 3, 16, 100, 27, 29, 96, 184, 0, 19, 184, 0, 25, 172]
abbrev dktX2_heals_1 : List UInt8 := dkwX2_heals_1 ++ []
def dkwX2_heals_0 : List UInt8 := [28, 42, 180, 0, 9, 8, 46, 164, 0, 8, 16, 250, 167, 0, 19, 28, 42, 180, 0, 9, 7, 46]
abbrev dktX2_heals_0 : List UInt8 := dkwX2_heals_0 ++ dktX2_heals_1
theorem dksX2_heals_0 : cX2_heals.data.toList.drop 0 = dktX2_heals_0 := by decide +kernel
theorem dksX2_heals_1 : cX2_heals.data.toList.drop 22 = dktX2_heals_1 := dk_seg dksX2_heals_0 22 rfl rfl
theorem dX2_heals_0 : decode cX2_heals 0 = .ok (.iload_n 2, 1) := dk_28 (dk_at dksX2_heals_0 0 rfl rfl)
theorem dX2_heals_1 : decode cX2_heals 1 = .ok (.aload_n 0, 1) := dk_42 (dk_at dksX2_heals_0 1 rfl rfl)
theorem dX2_heals_2 : decode cX2_heals 2 = .ok (.getfield 9, 3) := dk_180 0 9 (dk_at dksX2_heals_0 2 rfl rfl)
theorem dX2_heals_5 : decode cX2_heals 5 = .ok (.iconst 5, 1) := dk_8 (dk_at dksX2_heals_0 5 rfl rfl)
theorem dX2_heals_6 : decode cX2_heals 6 = .ok (.iaload, 1) := dk_46 (dk_at dksX2_heals_0 6 rfl rfl)
theorem dX2_heals_7 : decode cX2_heals 7 = .ok (.if_icmp .le 8, 3) := dk_164 0 8 (dk_at dksX2_heals_0 7 rfl rfl)
theorem dX2_heals_10 : decode cX2_heals 10 = .ok (.bipush (-6), 2) := dk_16 250 (dk_at dksX2_heals_0 10 rfl rfl)
theorem dX2_heals_12 : decode cX2_heals 12 = .ok (.goto 19, 3) := dk_167 0 19 (dk_at dksX2_heals_0 12 rfl rfl)
theorem dX2_heals_15 : decode cX2_heals 15 = .ok (.iload_n 2, 1) := dk_28 (dk_at dksX2_heals_0 15 rfl rfl)
theorem dX2_heals_16 : decode cX2_heals 16 = .ok (.aload_n 0, 1) := dk_42 (dk_at dksX2_heals_0 16 rfl rfl)
theorem dX2_heals_17 : decode cX2_heals 17 = .ok (.getfield 9, 3) := dk_180 0 9 (dk_at dksX2_heals_0 17 rfl rfl)
theorem dX2_heals_20 : decode cX2_heals 20 = .ok (.iconst 4, 1) := dk_7 (dk_at dksX2_heals_0 20 rfl rfl)
theorem dX2_heals_21 : decode cX2_heals 21 = .ok (.iaload, 1) := dk_46 (dk_at dksX2_heals_0 21 rfl rfl)
theorem dX2_heals_22 : decode cX2_heals 22 = .ok (.if_icmp .ge 7, 3) := dk_162 0 7 (dk_at dksX2_heals_1 0 rfl rfl)
theorem dX2_heals_25 : decode cX2_heals 25 = .ok (.iconst 4, 1) := dk_7 (dk_at dksX2_heals_1 3 rfl rfl)
theorem dX2_heals_26 : decode cX2_heals 26 = .ok (.goto 5, 3) := dk_167 0 5 (dk_at dksX2_heals_1 4 rfl rfl)
theorem dX2_heals_29 : decode cX2_heals 29 = .ok (.bipush 10, 2) := dk_16 10 (dk_at dksX2_heals_1 7 rfl rfl)
theorem dX2_heals_31 : decode cX2_heals 31 = .ok (.istore_n 3, 1) := dk_62 (dk_at dksX2_heals_1 9 rfl rfl)
theorem dX2_heals_32 : decode cX2_heals 32 = .ok (.iconst 0, 1) := dk_3 (dk_at dksX2_heals_1 10 rfl rfl)
theorem dX2_heals_33 : decode cX2_heals 33 = .ok (.bipush 100, 2) := dk_16 100 (dk_at dksX2_heals_1 11 rfl rfl)
theorem dX2_heals_35 : decode cX2_heals 35 = .ok (.iload_n 1, 1) := dk_27 (dk_at dksX2_heals_1 13 rfl rfl)
theorem dX2_heals_36 : decode cX2_heals 36 = .ok (.iload_n 3, 1) := dk_29 (dk_at dksX2_heals_1 14 rfl rfl)
theorem dX2_heals_37 : decode cX2_heals 37 = .ok (.iadd, 1) := dk_96 (dk_at dksX2_heals_1 15 rfl rfl)
theorem dX2_heals_38 : decode cX2_heals 38 = .ok (.invokestatic 19, 3) := dk_184 0 19 (dk_at dksX2_heals_1 16 rfl rfl)
theorem dX2_heals_41 : decode cX2_heals 41 = .ok (.invokestatic 25, 3) := dk_184 0 25 (dk_at dksX2_heals_1 19 rfl rfl)
theorem dX2_heals_44 : decode cX2_heals 44 = .ok (.ireturn, 1) := dk_172 (dk_at dksX2_heals_1 22 rfl rfl)
theorem q76 : (Jvm.Cond.initialized "StairOnSticks$Person") ∈ lw_all := lw_g (lw_at lw_m1 3 rfl) rfl
theorem q129 : (Jvm.Cond.instantiable "StairOnSticks$Person" (1 : Nat)) ∈ lw_all := lw_g (lw_at lw_m1 56 rfl) rfl
theorem q131 : (Jvm.Cond.instanceMethod ({ cls := "StairOnSticks$Person", name := "<init>", desc := "()V" } : Jvm.MethodName)) ∈ lw_all := lw_g (lw_at lw_m1 58 rfl) rfl
theorem q132 : (Jvm.Cond.code ({ cls := "StairOnSticks$Person", name := "<init>", desc := "()V" } : Jvm.MethodName) prog_8_method_1_code (1 : Nat) (Option.none : Option Jvm.ClassFile.FieldType)) ∈ lw_all := lw_g (lw_at lw_m1 59 rfl) rfl
theorem q133 : (Jvm.Cond.methodLink "StairOnSticks$Person" (3 : Nat) ({ cls := "java/lang/Object", name := "<init>", desc := "()V" } : Jvm.MethodName)) ∈ lw_all := lw_g (lw_at lw_m1 60 rfl) rfl
theorem q134 : (Jvm.Cond.fieldLink "StairOnSticks$Person" (9 : Nat) "StairOnSticks$Person" "is" "[I") ∈ lw_all := lw_g (lw_at lw_m1 61 rfl) rfl
theorem q138 : (Jvm.Cond.laysFinal "StairOnSticks$Person" "StairOnSticks$Person" "is" "[I") ∈ lw_all := lw_g (lw_at lw_m1 65 rfl) rfl
theorem q139 : (Jvm.Cond.soleField "StairOnSticks$Person" "is") ∈ lw_all := lw_g (lw_at lw_m1 66 rfl) rfl
theorem q140 : (Jvm.Cond.superclass "StairOnSticks$Person" "java/lang/Object") ∈ lw_all := lw_g (lw_at lw_m1 67 rfl) rfl
theorem q529 : (Jvm.Cond.instanceMethod ({ cls := "StairOnSticks$Person", name := "weight", desc := "()I" } : Jvm.MethodName)) ∈ lw_all := lw_g (lw_at lw_m2 216 rfl) rfl
theorem q530 : (Jvm.Cond.selects "StairOnSticks$Person" ({ cls := "StairOnSticks$Person", name := "weight", desc := "()I" } : Jvm.MethodName) ({ cls := "StairOnSticks$Person", name := "weight", desc := "()I" } : Jvm.MethodName)) ∈ lw_all := lw_g (lw_at lw_m2 217 rfl) rfl
theorem q531 : (Jvm.Cond.code ({ cls := "StairOnSticks$Person", name := "weight", desc := "()I" } : Jvm.MethodName) prog_8_method_2_code (1 : Nat) (Option.some Jvm.ClassFile.FieldType.int)) ∈ lw_all := lw_g (lw_at lw_m2 218 rfl) rfl
theorem q734 : (Jvm.Cond.instanceMethod ({ cls := "StairOnSticks$Person", name := "may", desc := "(II)Z" } : Jvm.MethodName)) ∈ lw_all := lw_g (lw_at lw_m3 181 rfl) rfl
theorem q735 : (Jvm.Cond.selects "StairOnSticks$Person" ({ cls := "StairOnSticks$Person", name := "may", desc := "(II)Z" } : Jvm.MethodName) ({ cls := "StairOnSticks$Person", name := "may", desc := "(II)Z" } : Jvm.MethodName)) ∈ lw_all := lw_g (lw_at lw_m3 182 rfl) rfl
theorem q736 : (Jvm.Cond.code ({ cls := "StairOnSticks$Person", name := "may", desc := "(II)Z" } : Jvm.MethodName) prog_8_method_7_code (5 : Nat) (Option.some Jvm.ClassFile.FieldType.boolean)) ∈ lw_all := lw_g (lw_at lw_m3 183 rfl) rfl
theorem q737 : (Jvm.Cond.methodLinkNest "StairOnSticks$Person" (15 : Nat) ({ cls := "StairOnSticks", name := "isIn", desc := "(III)Z" } : Jvm.MethodName) "StairOnSticks") ∈ lw_tbl := lw_at lw_m3 184 rfl
theorem q1211 : (Jvm.Cond.instanceMethod ({ cls := "StairOnSticks$Person", name := "limit", desc := "()I" } : Jvm.MethodName)) ∈ lw_all := lw_g (lw_at lw_m5 178 rfl) rfl
theorem q1212 : (Jvm.Cond.selects "StairOnSticks$Person" ({ cls := "StairOnSticks$Person", name := "limit", desc := "()I" } : Jvm.MethodName) ({ cls := "StairOnSticks$Person", name := "limit", desc := "()I" } : Jvm.MethodName)) ∈ lw_all := lw_g (lw_at lw_m5 179 rfl) rfl
theorem q1213 : (Jvm.Cond.code ({ cls := "StairOnSticks$Person", name := "limit", desc := "()I" } : Jvm.MethodName) prog_8_method_3_code (1 : Nat) (Option.some Jvm.ClassFile.FieldType.int)) ∈ lw_all := lw_g (lw_at lw_m5 180 rfl) rfl
theorem q1258 : (Jvm.Cond.instanceMethod ({ cls := "StairOnSticks$Person", name := "arms", desc := "()I" } : Jvm.MethodName)) ∈ lw_all := lw_g (lw_at lw_m5 225 rfl) rfl
theorem q1259 : (Jvm.Cond.selects "StairOnSticks$Person" ({ cls := "StairOnSticks$Person", name := "arms", desc := "()I" } : Jvm.MethodName) ({ cls := "StairOnSticks$Person", name := "arms", desc := "()I" } : Jvm.MethodName)) ∈ lw_all := lw_g (lw_at lw_m5 226 rfl) rfl
theorem q1260 : (Jvm.Cond.code ({ cls := "StairOnSticks$Person", name := "arms", desc := "()I" } : Jvm.MethodName) prog_8_method_4_code (1 : Nat) (Option.some Jvm.ClassFile.FieldType.int)) ∈ lw_all := lw_g (lw_at lw_m5 227 rfl) rfl
theorem q1398 : (Jvm.Cond.instanceMethod ({ cls := "StairOnSticks$Person", name := "price", desc := "(I)I" } : Jvm.MethodName)) ∈ lw_all := lw_g (lw_at lw_m6 125 rfl) rfl
theorem q1399 : (Jvm.Cond.selects "StairOnSticks$Person" ({ cls := "StairOnSticks$Person", name := "price", desc := "(I)I" } : Jvm.MethodName) ({ cls := "StairOnSticks$Person", name := "price", desc := "(I)I" } : Jvm.MethodName)) ∈ lw_all := lw_g (lw_at lw_m6 126 rfl) rfl
theorem q1400 : (Jvm.Cond.code ({ cls := "StairOnSticks$Person", name := "price", desc := "(I)I" } : Jvm.MethodName) prog_8_method_6_code (2 : Nat) (Option.some Jvm.ClassFile.FieldType.int)) ∈ lw_all := lw_g (lw_at lw_m6 127 rfl) rfl
theorem q1434 : (Jvm.Cond.instanceMethod ({ cls := "StairOnSticks$Person", name := "heal", desc := "()I" } : Jvm.MethodName)) ∈ lw_all := lw_g (lw_at lw_m6 161 rfl) rfl
theorem q1435 : (Jvm.Cond.selects "StairOnSticks$Person" ({ cls := "StairOnSticks$Person", name := "heal", desc := "()I" } : Jvm.MethodName) ({ cls := "StairOnSticks$Person", name := "heal", desc := "()I" } : Jvm.MethodName)) ∈ lw_all := lw_g (lw_at lw_m6 162 rfl) rfl
theorem q1436 : (Jvm.Cond.code ({ cls := "StairOnSticks$Person", name := "heal", desc := "()I" } : Jvm.MethodName) prog_8_method_5_code (1 : Nat) (Option.some Jvm.ClassFile.FieldType.int)) ∈ lw_all := lw_g (lw_at lw_m6 163 rfl) rfl
theorem q1438 : (Jvm.Cond.instanceMethod ({ cls := "StairOnSticks$Person", name := "heals", desc := "(II)I" } : Jvm.MethodName)) ∈ lw_all := lw_g (lw_at lw_m6 165 rfl) rfl
theorem q1439 : (Jvm.Cond.selects "StairOnSticks$Person" ({ cls := "StairOnSticks$Person", name := "heals", desc := "(II)I" } : Jvm.MethodName) ({ cls := "StairOnSticks$Person", name := "heals", desc := "(II)I" } : Jvm.MethodName)) ∈ lw_all := lw_g (lw_at lw_m6 166 rfl) rfl
theorem q1440 : (Jvm.Cond.code ({ cls := "StairOnSticks$Person", name := "heals", desc := "(II)I" } : Jvm.MethodName) prog_8_method_8_code (4 : Nat) (Option.some Jvm.ClassFile.FieldType.int)) ∈ lw_all := lw_g (lw_at lw_m6 167 rfl) rfl
theorem q1441 : (Jvm.Cond.methodLink "StairOnSticks$Person" (19 : Nat) ({ cls := "java/lang/Math", name := "min", desc := "(II)I" } : Jvm.MethodName)) ∈ lw_all := lw_g (lw_at lw_m6 168 rfl) rfl
theorem q1442 : (Jvm.Cond.methodLink "StairOnSticks$Person" (25 : Nat) ({ cls := "java/lang/Math", name := "max", desc := "(II)I" } : Jvm.MethodName)) ∈ lw_all := lw_g (lw_at lw_m6 169 rfl) rfl
theorem in_X2 : ∀ w ∈ wsX20, w ∈ lw_all := lw_in wsX20 [138] (by decide +kernel) (by decide +kernel)
/-! StairOnSticks$Best -/
set_option maxRecDepth 100000
def RX3 : String := "StairOnSticks$Best"
def TX3 : u_T := fun k => match k with
  | 0 => ("StairOnSticks$Best", "slips", "[[I", true)
  | 1 => ("StairOnSticks$Best", "tires", "[[I", true)
  | 2 => ("StairOnSticks$Best", "by", "[[I", true)
  | 3 => ("StairOnSticks$Best", "stair", "LStairOnSticks$Stair;", false)
  | 4 => ("StairOnSticks$Best", "q", "I", false)
  | _ => ("StairOnSticks$Best", "isEasy", "Z", false)
def tyX3 : Nat → FieldType := fun k => match k with
  | 0 => .array (.array .int)
  | 1 => .array (.array .int)
  | 2 => .array (.array .int)
  | 3 => .object "StairOnSticks$Stair"
  | 4 => .int
  | _ => .boolean
abbrev wsX30 : List Cond := u_ws RX3 TX3 6
theorem nmX3 : ∀ a, a < 6 → ∀ b, b < 6 → a ≠ b → (TX3 a).2.1 ≠ (TX3 b).2.1 := by decide +kernel
theorem tyX3_ok : ∀ k, k < 6 → parseFieldDescriptor (TX3 k).2.2.1 = some (tyX3 k) := by decide +kernel
abbrev cX3_init : ByteArray := prog_2_method_1_code
def yX3_init : MethodName := ⟨RX3, "<init>", "()V"⟩
def dkwX3_init_1 : List UInt8 := [197, 0, 9, 2, 181, 0, 16, 42, 16, 10, 17, 0, 201, 197, 0, 9, 2, 181, 0, 19, 177]
abbrev dktX3_init_1 : List UInt8 := dkwX3_init_1 ++ []
def dkwX3_init_0 : List UInt8 := [42, 183, 0, 3, 42, 16, 10, 17, 0, 201, 197, 0, 9, 2, 181, 0, 11, 42, 16, 10, 17, 0, 201]
abbrev dktX3_init_0 : List UInt8 := dkwX3_init_0 ++ dktX3_init_1
theorem dksX3_init_0 : cX3_init.data.toList.drop 0 = dktX3_init_0 := by decide +kernel
theorem dksX3_init_1 : cX3_init.data.toList.drop 23 = dktX3_init_1 := dk_seg dksX3_init_0 23 rfl rfl
theorem dX3_init_0 : decode cX3_init 0 = .ok (.aload_n 0, 1) := dk_42 (dk_at dksX3_init_0 0 rfl rfl)
theorem dX3_init_1 : decode cX3_init 1 = .ok (.invokespecial 3, 3) := dk_183 0 3 (dk_at dksX3_init_0 1 rfl rfl)
theorem dX3_init_4 : decode cX3_init 4 = .ok (.aload_n 0, 1) := dk_42 (dk_at dksX3_init_0 4 rfl rfl)
theorem dX3_init_5 : decode cX3_init 5 = .ok (.bipush 10, 2) := dk_16 10 (dk_at dksX3_init_0 5 rfl rfl)
theorem dX3_init_7 : decode cX3_init 7 = .ok (.sipush 201, 3) := dk_17 0 201 (dk_at dksX3_init_0 7 rfl rfl)
theorem dX3_init_10 : decode cX3_init 10 = .ok (.multianewarray 9 2, 4) := by decide +kernel
theorem dX3_init_14 : decode cX3_init 14 = .ok (.putfield 11, 3) := dk_181 0 11 (dk_at dksX3_init_0 14 rfl rfl)
theorem dX3_init_17 : decode cX3_init 17 = .ok (.aload_n 0, 1) := dk_42 (dk_at dksX3_init_0 17 rfl rfl)
theorem dX3_init_18 : decode cX3_init 18 = .ok (.bipush 10, 2) := dk_16 10 (dk_at dksX3_init_0 18 rfl rfl)
theorem dX3_init_20 : decode cX3_init 20 = .ok (.sipush 201, 3) := dk_17 0 201 (dk_at dksX3_init_0 20 rfl rfl)
theorem dX3_init_23 : decode cX3_init 23 = .ok (.multianewarray 9 2, 4) := by decide +kernel
theorem dX3_init_27 : decode cX3_init 27 = .ok (.putfield 16, 3) := dk_181 0 16 (dk_at dksX3_init_1 4 rfl rfl)
theorem dX3_init_30 : decode cX3_init 30 = .ok (.aload_n 0, 1) := dk_42 (dk_at dksX3_init_1 7 rfl rfl)
theorem dX3_init_31 : decode cX3_init 31 = .ok (.bipush 10, 2) := dk_16 10 (dk_at dksX3_init_1 8 rfl rfl)
theorem dX3_init_33 : decode cX3_init 33 = .ok (.sipush 201, 3) := dk_17 0 201 (dk_at dksX3_init_1 10 rfl rfl)
theorem dX3_init_36 : decode cX3_init 36 = .ok (.multianewarray 9 2, 4) := by decide +kernel
theorem dX3_init_40 : decode cX3_init 40 = .ok (.putfield 19, 3) := dk_181 0 19 (dk_at dksX3_init_1 17 rfl rfl)
theorem dX3_init_43 : decode cX3_init 43 = .ok (.return_, 1) := dk_177 (dk_at dksX3_init_1 20 rfl rfl)
abbrev cX3_tells : ByteArray := prog_2_method_2_code
def yX3_tells : MethodName := ⟨RX3, "tells", "(LStairOnSticks$Stair;ZI)LStairOnSticks$Best;"⟩
def dkwX3_tells_4 : List UInt8 := [167, 255, 237, 132, 4, 255, 167, 255, 223, 42, 176]
abbrev dktX3_tells_4 : List UInt8 := dkwX3_tells_4 ++ []
def dkwX3_tells_3 : List UInt8 := [3, 54, 5, 21, 5, 17, 0, 200, 163, 0, 17, 42, 21, 4, 21, 5, 182, 0, 39, 132, 5, 1]
abbrev dktX3_tells_3 : List UInt8 := dkwX3_tells_3 ++ dktX3_tells_4
def dkwX3_tells_2 : List UInt8 := [50, 21, 4, 3, 79, 132, 4, 1, 167, 255, 219, 43, 180, 0, 34, 4, 100, 54, 4, 21, 4, 155, 0, 34]
abbrev dktX3_tells_2 : List UInt8 := dkwX3_tells_2 ++ dktX3_tells_3
def dkwX3_tells_1 : List UInt8 := [163, 0, 35, 42, 180, 0, 11, 43, 180, 0, 34, 50, 21, 4, 3, 79, 42, 180, 0, 16, 43, 180, 0, 34]
abbrev dktX3_tells_1 : List UInt8 := dkwX3_tells_1 ++ dktX3_tells_2
def dkwX3_tells_0 : List UInt8 := [42, 43, 181, 0, 22, 42, 28, 181, 0, 26, 42, 29, 181, 0, 30, 3, 54, 4, 21, 4, 17, 0, 200]
abbrev dktX3_tells_0 : List UInt8 := dkwX3_tells_0 ++ dktX3_tells_1
theorem dksX3_tells_0 : cX3_tells.data.toList.drop 0 = dktX3_tells_0 := by decide +kernel
theorem dksX3_tells_1 : cX3_tells.data.toList.drop 23 = dktX3_tells_1 := dk_seg dksX3_tells_0 23 rfl rfl
theorem dksX3_tells_2 : cX3_tells.data.toList.drop 47 = dktX3_tells_2 := dk_seg dksX3_tells_1 24 rfl rfl
theorem dksX3_tells_3 : cX3_tells.data.toList.drop 71 = dktX3_tells_3 := dk_seg dksX3_tells_2 24 rfl rfl
theorem dksX3_tells_4 : cX3_tells.data.toList.drop 93 = dktX3_tells_4 := dk_seg dksX3_tells_3 22 rfl rfl
theorem dX3_tells_0 : decode cX3_tells 0 = .ok (.aload_n 0, 1) := dk_42 (dk_at dksX3_tells_0 0 rfl rfl)
theorem dX3_tells_1 : decode cX3_tells 1 = .ok (.aload_n 1, 1) := dk_43 (dk_at dksX3_tells_0 1 rfl rfl)
theorem dX3_tells_2 : decode cX3_tells 2 = .ok (.putfield 22, 3) := dk_181 0 22 (dk_at dksX3_tells_0 2 rfl rfl)
theorem dX3_tells_5 : decode cX3_tells 5 = .ok (.aload_n 0, 1) := dk_42 (dk_at dksX3_tells_0 5 rfl rfl)
theorem dX3_tells_6 : decode cX3_tells 6 = .ok (.iload_n 2, 1) := dk_28 (dk_at dksX3_tells_0 6 rfl rfl)
theorem dX3_tells_7 : decode cX3_tells 7 = .ok (.putfield 26, 3) := dk_181 0 26 (dk_at dksX3_tells_0 7 rfl rfl)
theorem dX3_tells_10 : decode cX3_tells 10 = .ok (.aload_n 0, 1) := dk_42 (dk_at dksX3_tells_0 10 rfl rfl)
theorem dX3_tells_11 : decode cX3_tells 11 = .ok (.iload_n 3, 1) := dk_29 (dk_at dksX3_tells_0 11 rfl rfl)
theorem dX3_tells_12 : decode cX3_tells 12 = .ok (.putfield 30, 3) := dk_181 0 30 (dk_at dksX3_tells_0 12 rfl rfl)
theorem dX3_tells_15 : decode cX3_tells 15 = .ok (.iconst 0, 1) := dk_3 (dk_at dksX3_tells_0 15 rfl rfl)
theorem dX3_tells_16 : decode cX3_tells 16 = .ok (.istore 4, 2) := dk_54 4 (dk_at dksX3_tells_0 16 rfl rfl)
theorem dX3_tells_18 : decode cX3_tells 18 = .ok (.iload 4, 2) := dk_21 4 (dk_at dksX3_tells_0 18 rfl rfl)
theorem dX3_tells_20 : decode cX3_tells 20 = .ok (.sipush 200, 3) := dk_17 0 200 (dk_at dksX3_tells_0 20 rfl rfl)
theorem dX3_tells_23 : decode cX3_tells 23 = .ok (.if_icmp .gt 35, 3) := dk_163 0 35 (dk_at dksX3_tells_1 0 rfl rfl)
theorem dX3_tells_26 : decode cX3_tells 26 = .ok (.aload_n 0, 1) := dk_42 (dk_at dksX3_tells_1 3 rfl rfl)
theorem dX3_tells_27 : decode cX3_tells 27 = .ok (.getfield 11, 3) := dk_180 0 11 (dk_at dksX3_tells_1 4 rfl rfl)
theorem dX3_tells_30 : decode cX3_tells 30 = .ok (.aload_n 1, 1) := dk_43 (dk_at dksX3_tells_1 7 rfl rfl)
theorem dX3_tells_31 : decode cX3_tells 31 = .ok (.getfield 34, 3) := dk_180 0 34 (dk_at dksX3_tells_1 8 rfl rfl)
theorem dX3_tells_34 : decode cX3_tells 34 = .ok (.aaload, 1) := dk_50 (dk_at dksX3_tells_1 11 rfl rfl)
theorem dX3_tells_35 : decode cX3_tells 35 = .ok (.iload 4, 2) := dk_21 4 (dk_at dksX3_tells_1 12 rfl rfl)
theorem dX3_tells_37 : decode cX3_tells 37 = .ok (.iconst 0, 1) := dk_3 (dk_at dksX3_tells_1 14 rfl rfl)
theorem dX3_tells_38 : decode cX3_tells 38 = .ok (.iastore, 1) := dk_79 (dk_at dksX3_tells_1 15 rfl rfl)
theorem dX3_tells_39 : decode cX3_tells 39 = .ok (.aload_n 0, 1) := dk_42 (dk_at dksX3_tells_1 16 rfl rfl)
theorem dX3_tells_40 : decode cX3_tells 40 = .ok (.getfield 16, 3) := dk_180 0 16 (dk_at dksX3_tells_1 17 rfl rfl)
theorem dX3_tells_43 : decode cX3_tells 43 = .ok (.aload_n 1, 1) := dk_43 (dk_at dksX3_tells_1 20 rfl rfl)
theorem dX3_tells_44 : decode cX3_tells 44 = .ok (.getfield 34, 3) := dk_180 0 34 (dk_at dksX3_tells_1 21 rfl rfl)
theorem dX3_tells_47 : decode cX3_tells 47 = .ok (.aaload, 1) := dk_50 (dk_at dksX3_tells_2 0 rfl rfl)
theorem dX3_tells_48 : decode cX3_tells 48 = .ok (.iload 4, 2) := dk_21 4 (dk_at dksX3_tells_2 1 rfl rfl)
theorem dX3_tells_50 : decode cX3_tells 50 = .ok (.iconst 0, 1) := dk_3 (dk_at dksX3_tells_2 3 rfl rfl)
theorem dX3_tells_51 : decode cX3_tells 51 = .ok (.iastore, 1) := dk_79 (dk_at dksX3_tells_2 4 rfl rfl)
theorem dX3_tells_52 : decode cX3_tells 52 = .ok (.iinc 4 1, 3) := dk_132 4 1 (dk_at dksX3_tells_2 5 rfl rfl)
theorem dX3_tells_55 : decode cX3_tells 55 = .ok (.goto (-37), 3) := dk_167 255 219 (dk_at dksX3_tells_2 8 rfl rfl)
theorem dX3_tells_58 : decode cX3_tells 58 = .ok (.aload_n 1, 1) := dk_43 (dk_at dksX3_tells_2 11 rfl rfl)
theorem dX3_tells_59 : decode cX3_tells 59 = .ok (.getfield 34, 3) := dk_180 0 34 (dk_at dksX3_tells_2 12 rfl rfl)
theorem dX3_tells_62 : decode cX3_tells 62 = .ok (.iconst 1, 1) := dk_4 (dk_at dksX3_tells_2 15 rfl rfl)
theorem dX3_tells_63 : decode cX3_tells 63 = .ok (.isub, 1) := dk_100 (dk_at dksX3_tells_2 16 rfl rfl)
theorem dX3_tells_64 : decode cX3_tells 64 = .ok (.istore 4, 2) := dk_54 4 (dk_at dksX3_tells_2 17 rfl rfl)
theorem dX3_tells_66 : decode cX3_tells 66 = .ok (.iload 4, 2) := dk_21 4 (dk_at dksX3_tells_2 19 rfl rfl)
theorem dX3_tells_68 : decode cX3_tells 68 = .ok (.ifCond .lt 34, 3) := dk_155 0 34 (dk_at dksX3_tells_2 21 rfl rfl)
theorem dX3_tells_71 : decode cX3_tells 71 = .ok (.iconst 0, 1) := dk_3 (dk_at dksX3_tells_3 0 rfl rfl)
theorem dX3_tells_72 : decode cX3_tells 72 = .ok (.istore 5, 2) := dk_54 5 (dk_at dksX3_tells_3 1 rfl rfl)
theorem dX3_tells_74 : decode cX3_tells 74 = .ok (.iload 5, 2) := dk_21 5 (dk_at dksX3_tells_3 3 rfl rfl)
theorem dX3_tells_76 : decode cX3_tells 76 = .ok (.sipush 200, 3) := dk_17 0 200 (dk_at dksX3_tells_3 5 rfl rfl)
theorem dX3_tells_79 : decode cX3_tells 79 = .ok (.if_icmp .gt 17, 3) := dk_163 0 17 (dk_at dksX3_tells_3 8 rfl rfl)
theorem dX3_tells_82 : decode cX3_tells 82 = .ok (.aload_n 0, 1) := dk_42 (dk_at dksX3_tells_3 11 rfl rfl)
theorem dX3_tells_83 : decode cX3_tells 83 = .ok (.iload 4, 2) := dk_21 4 (dk_at dksX3_tells_3 12 rfl rfl)
theorem dX3_tells_85 : decode cX3_tells 85 = .ok (.iload 5, 2) := dk_21 5 (dk_at dksX3_tells_3 14 rfl rfl)
theorem dX3_tells_87 : decode cX3_tells 87 = .ok (.invokevirtual 39, 3) := dk_182 0 39 (dk_at dksX3_tells_3 16 rfl rfl)
theorem dX3_tells_90 : decode cX3_tells 90 = .ok (.iinc 5 1, 3) := dk_132 5 1 (dk_at dksX3_tells_3 19 rfl rfl)
theorem dX3_tells_93 : decode cX3_tells 93 = .ok (.goto (-19), 3) := dk_167 255 237 (dk_at dksX3_tells_4 0 rfl rfl)
theorem dX3_tells_96 : decode cX3_tells 96 = .ok (.iinc 4 (-1), 3) := dk_132 4 255 (dk_at dksX3_tells_4 3 rfl rfl)
theorem dX3_tells_99 : decode cX3_tells 99 = .ok (.goto (-33), 3) := dk_167 255 223 (dk_at dksX3_tells_4 6 rfl rfl)
theorem dX3_tells_102 : decode cX3_tells 102 = .ok (.aload_n 0, 1) := dk_42 (dk_at dksX3_tells_4 9 rfl rfl)
theorem dX3_tells_103 : decode cX3_tells 103 = .ok (.areturn, 1) := dk_176 (dk_at dksX3_tells_4 10 rfl rfl)
abbrev cX3_tells_2 : ByteArray := prog_2_method_3_code
def yX3_tells_2 : MethodName := ⟨RX3, "tells", "(II)V"⟩
def dkwX3_tells_2_8 : List UInt8 := [132, 3, 1, 167, 255, 74, 177]
abbrev dktX3_tells_2_8 : List UInt8 := dkwX3_tells_2_8 ++ []
def dkwX3_tells_2_7 : List UInt8 := [50, 28, 29, 79, 42, 180, 0, 11, 27, 50, 28, 21, 6, 79, 42, 180, 0, 16, 27, 50, 28, 21, 7, 79]
abbrev dktX3_tells_2_7 : List UInt8 := dkwX3_tells_2_7 ++ dktX3_tells_2_8
def dkwX3_tells_2_6 : List UInt8 := [28, 46, 2, 159, 0, 16, 42, 21, 6, 21, 7, 27, 28, 182, 0, 74, 153, 0, 32, 42, 180, 0, 19, 27]
abbrev dktX3_tells_2_6 : List UInt8 := dkwX3_tells_2_6 ++ dktX3_tells_2_7
def dkwX3_tells_2_5 : List UInt8 := [27, 182, 0, 71, 42, 180, 0, 16, 27, 4, 96, 50, 21, 5, 46, 96, 54, 7, 42, 180, 0, 19, 27, 50]
abbrev dktX3_tells_2_5 : List UInt8 := dkwX3_tells_2_5 ++ dktX3_tells_2_6
def dkwX3_tells_2_4 : List UInt8 := [167, 0, 96, 21, 4, 42, 180, 0, 11, 27, 4, 96, 50, 21, 5, 46, 96, 54, 6, 42, 180, 0, 22, 29]
abbrev dktX3_tells_2_4 : List UInt8 := dkwX3_tells_2_4 ++ dktX3_tells_2_5
def dkwX3_tells_2_3 : List UInt8 := [42, 180, 0, 22, 29, 27, 28, 182, 0, 63, 54, 5, 42, 27, 4, 96, 21, 5, 182, 0, 67, 153, 0, 6]
abbrev dktX3_tells_2_3 : List UInt8 := dkwX3_tells_2_3 ++ dktX3_tells_2_4
def dkwX3_tells_2_2 : List UInt8 := [180, 0, 22, 29, 27, 28, 182, 0, 59, 153, 0, 135, 21, 4, 42, 180, 0, 30, 164, 0, 6, 167, 0, 123]
abbrev dktX3_tells_2_2 : List UInt8 := dkwX3_tells_2_2 ++ dktX3_tells_2_3
def dkwX3_tells_2_1 : List UInt8 := [180, 0, 22, 180, 0, 46, 29, 50, 42, 180, 0, 22, 180, 0, 50, 27, 50, 182, 0, 54, 54, 4, 42]
abbrev dktX3_tells_2_1 : List UInt8 := dkwX3_tells_2_1 ++ dktX3_tells_2_2
def dkwX3_tells_2_0 : List UInt8 := [42, 180, 0, 19, 27, 50, 28, 2, 79, 3, 62, 29, 42, 180, 0, 22, 180, 0, 43, 162, 0, 177, 42]
abbrev dktX3_tells_2_0 : List UInt8 := dkwX3_tells_2_0 ++ dktX3_tells_2_1
theorem dksX3_tells_2_0 : cX3_tells_2.data.toList.drop 0 = dktX3_tells_2_0 := by decide +kernel
theorem dksX3_tells_2_1 : cX3_tells_2.data.toList.drop 23 = dktX3_tells_2_1 := dk_seg dksX3_tells_2_0 23 rfl rfl
theorem dksX3_tells_2_2 : cX3_tells_2.data.toList.drop 46 = dktX3_tells_2_2 := dk_seg dksX3_tells_2_1 23 rfl rfl
theorem dksX3_tells_2_3 : cX3_tells_2.data.toList.drop 70 = dktX3_tells_2_3 := dk_seg dksX3_tells_2_2 24 rfl rfl
theorem dksX3_tells_2_4 : cX3_tells_2.data.toList.drop 94 = dktX3_tells_2_4 := dk_seg dksX3_tells_2_3 24 rfl rfl
theorem dksX3_tells_2_5 : cX3_tells_2.data.toList.drop 118 = dktX3_tells_2_5 := dk_seg dksX3_tells_2_4 24 rfl rfl
theorem dksX3_tells_2_6 : cX3_tells_2.data.toList.drop 142 = dktX3_tells_2_6 := dk_seg dksX3_tells_2_5 24 rfl rfl
theorem dksX3_tells_2_7 : cX3_tells_2.data.toList.drop 166 = dktX3_tells_2_7 := dk_seg dksX3_tells_2_6 24 rfl rfl
theorem dksX3_tells_2_8 : cX3_tells_2.data.toList.drop 190 = dktX3_tells_2_8 := dk_seg dksX3_tells_2_7 24 rfl rfl
theorem dX3_tells_2_0 : decode cX3_tells_2 0 = .ok (.aload_n 0, 1) := dk_42 (dk_at dksX3_tells_2_0 0 rfl rfl)
theorem dX3_tells_2_1 : decode cX3_tells_2 1 = .ok (.getfield 19, 3) := dk_180 0 19 (dk_at dksX3_tells_2_0 1 rfl rfl)
theorem dX3_tells_2_4 : decode cX3_tells_2 4 = .ok (.iload_n 1, 1) := dk_27 (dk_at dksX3_tells_2_0 4 rfl rfl)
theorem dX3_tells_2_5 : decode cX3_tells_2 5 = .ok (.aaload, 1) := dk_50 (dk_at dksX3_tells_2_0 5 rfl rfl)
theorem dX3_tells_2_6 : decode cX3_tells_2 6 = .ok (.iload_n 2, 1) := dk_28 (dk_at dksX3_tells_2_0 6 rfl rfl)
theorem dX3_tells_2_7 : decode cX3_tells_2 7 = .ok (.iconst (-1), 1) := dk_2 (dk_at dksX3_tells_2_0 7 rfl rfl)
theorem dX3_tells_2_8 : decode cX3_tells_2 8 = .ok (.iastore, 1) := dk_79 (dk_at dksX3_tells_2_0 8 rfl rfl)
theorem dX3_tells_2_9 : decode cX3_tells_2 9 = .ok (.iconst 0, 1) := dk_3 (dk_at dksX3_tells_2_0 9 rfl rfl)
theorem dX3_tells_2_10 : decode cX3_tells_2 10 = .ok (.istore_n 3, 1) := dk_62 (dk_at dksX3_tells_2_0 10 rfl rfl)
theorem dX3_tells_2_11 : decode cX3_tells_2 11 = .ok (.iload_n 3, 1) := dk_29 (dk_at dksX3_tells_2_0 11 rfl rfl)
theorem dX3_tells_2_12 : decode cX3_tells_2 12 = .ok (.aload_n 0, 1) := dk_42 (dk_at dksX3_tells_2_0 12 rfl rfl)
theorem dX3_tells_2_13 : decode cX3_tells_2 13 = .ok (.getfield 22, 3) := dk_180 0 22 (dk_at dksX3_tells_2_0 13 rfl rfl)
theorem dX3_tells_2_16 : decode cX3_tells_2 16 = .ok (.getfield 43, 3) := dk_180 0 43 (dk_at dksX3_tells_2_0 16 rfl rfl)
theorem dX3_tells_2_19 : decode cX3_tells_2 19 = .ok (.if_icmp .ge 177, 3) := dk_162 0 177 (dk_at dksX3_tells_2_0 19 rfl rfl)
theorem dX3_tells_2_22 : decode cX3_tells_2 22 = .ok (.aload_n 0, 1) := dk_42 (dk_at dksX3_tells_2_0 22 rfl rfl)
theorem dX3_tells_2_23 : decode cX3_tells_2 23 = .ok (.getfield 22, 3) := dk_180 0 22 (dk_at dksX3_tells_2_1 0 rfl rfl)
theorem dX3_tells_2_26 : decode cX3_tells_2 26 = .ok (.getfield 46, 3) := dk_180 0 46 (dk_at dksX3_tells_2_1 3 rfl rfl)
theorem dX3_tells_2_29 : decode cX3_tells_2 29 = .ok (.iload_n 3, 1) := dk_29 (dk_at dksX3_tells_2_1 6 rfl rfl)
theorem dX3_tells_2_30 : decode cX3_tells_2 30 = .ok (.aaload, 1) := dk_50 (dk_at dksX3_tells_2_1 7 rfl rfl)
theorem dX3_tells_2_31 : decode cX3_tells_2 31 = .ok (.aload_n 0, 1) := dk_42 (dk_at dksX3_tells_2_1 8 rfl rfl)
theorem dX3_tells_2_32 : decode cX3_tells_2 32 = .ok (.getfield 22, 3) := dk_180 0 22 (dk_at dksX3_tells_2_1 9 rfl rfl)
theorem dX3_tells_2_35 : decode cX3_tells_2 35 = .ok (.getfield 50, 3) := dk_180 0 50 (dk_at dksX3_tells_2_1 12 rfl rfl)
theorem dX3_tells_2_38 : decode cX3_tells_2 38 = .ok (.iload_n 1, 1) := dk_27 (dk_at dksX3_tells_2_1 15 rfl rfl)
theorem dX3_tells_2_39 : decode cX3_tells_2 39 = .ok (.aaload, 1) := dk_50 (dk_at dksX3_tells_2_1 16 rfl rfl)
theorem dX3_tells_2_40 : decode cX3_tells_2 40 = .ok (.invokevirtual 54, 3) := dk_182 0 54 (dk_at dksX3_tells_2_1 17 rfl rfl)
theorem dX3_tells_2_43 : decode cX3_tells_2 43 = .ok (.istore 4, 2) := dk_54 4 (dk_at dksX3_tells_2_1 20 rfl rfl)
theorem dX3_tells_2_45 : decode cX3_tells_2 45 = .ok (.aload_n 0, 1) := dk_42 (dk_at dksX3_tells_2_1 22 rfl rfl)
theorem dX3_tells_2_46 : decode cX3_tells_2 46 = .ok (.getfield 22, 3) := dk_180 0 22 (dk_at dksX3_tells_2_2 0 rfl rfl)
theorem dX3_tells_2_49 : decode cX3_tells_2 49 = .ok (.iload_n 3, 1) := dk_29 (dk_at dksX3_tells_2_2 3 rfl rfl)
theorem dX3_tells_2_50 : decode cX3_tells_2 50 = .ok (.iload_n 1, 1) := dk_27 (dk_at dksX3_tells_2_2 4 rfl rfl)
theorem dX3_tells_2_51 : decode cX3_tells_2 51 = .ok (.iload_n 2, 1) := dk_28 (dk_at dksX3_tells_2_2 5 rfl rfl)
theorem dX3_tells_2_52 : decode cX3_tells_2 52 = .ok (.invokevirtual 59, 3) := dk_182 0 59 (dk_at dksX3_tells_2_2 6 rfl rfl)
theorem dX3_tells_2_55 : decode cX3_tells_2 55 = .ok (.ifCond .eq 135, 3) := dk_153 0 135 (dk_at dksX3_tells_2_2 9 rfl rfl)
theorem dX3_tells_2_58 : decode cX3_tells_2 58 = .ok (.iload 4, 2) := dk_21 4 (dk_at dksX3_tells_2_2 12 rfl rfl)
theorem dX3_tells_2_60 : decode cX3_tells_2 60 = .ok (.aload_n 0, 1) := dk_42 (dk_at dksX3_tells_2_2 14 rfl rfl)
theorem dX3_tells_2_61 : decode cX3_tells_2 61 = .ok (.getfield 30, 3) := dk_180 0 30 (dk_at dksX3_tells_2_2 15 rfl rfl)
theorem dX3_tells_2_64 : decode cX3_tells_2 64 = .ok (.if_icmp .le 6, 3) := dk_164 0 6 (dk_at dksX3_tells_2_2 18 rfl rfl)
theorem dX3_tells_2_67 : decode cX3_tells_2 67 = .ok (.goto 123, 3) := dk_167 0 123 (dk_at dksX3_tells_2_2 21 rfl rfl)
theorem dX3_tells_2_70 : decode cX3_tells_2 70 = .ok (.aload_n 0, 1) := dk_42 (dk_at dksX3_tells_2_3 0 rfl rfl)
theorem dX3_tells_2_71 : decode cX3_tells_2 71 = .ok (.getfield 22, 3) := dk_180 0 22 (dk_at dksX3_tells_2_3 1 rfl rfl)
theorem dX3_tells_2_74 : decode cX3_tells_2 74 = .ok (.iload_n 3, 1) := dk_29 (dk_at dksX3_tells_2_3 4 rfl rfl)
theorem dX3_tells_2_75 : decode cX3_tells_2 75 = .ok (.iload_n 1, 1) := dk_27 (dk_at dksX3_tells_2_3 5 rfl rfl)
theorem dX3_tells_2_76 : decode cX3_tells_2 76 = .ok (.iload_n 2, 1) := dk_28 (dk_at dksX3_tells_2_3 6 rfl rfl)
theorem dX3_tells_2_77 : decode cX3_tells_2 77 = .ok (.invokevirtual 63, 3) := dk_182 0 63 (dk_at dksX3_tells_2_3 7 rfl rfl)
theorem dX3_tells_2_80 : decode cX3_tells_2 80 = .ok (.istore 5, 2) := dk_54 5 (dk_at dksX3_tells_2_3 10 rfl rfl)
theorem dX3_tells_2_82 : decode cX3_tells_2 82 = .ok (.aload_n 0, 1) := dk_42 (dk_at dksX3_tells_2_3 12 rfl rfl)
theorem dX3_tells_2_83 : decode cX3_tells_2 83 = .ok (.iload_n 1, 1) := dk_27 (dk_at dksX3_tells_2_3 13 rfl rfl)
theorem dX3_tells_2_84 : decode cX3_tells_2 84 = .ok (.iconst 1, 1) := dk_4 (dk_at dksX3_tells_2_3 14 rfl rfl)
theorem dX3_tells_2_85 : decode cX3_tells_2 85 = .ok (.iadd, 1) := dk_96 (dk_at dksX3_tells_2_3 15 rfl rfl)
theorem dX3_tells_2_86 : decode cX3_tells_2 86 = .ok (.iload 5, 2) := dk_21 5 (dk_at dksX3_tells_2_3 16 rfl rfl)
theorem dX3_tells_2_88 : decode cX3_tells_2 88 = .ok (.invokevirtual 67, 3) := dk_182 0 67 (dk_at dksX3_tells_2_3 18 rfl rfl)
theorem dX3_tells_2_91 : decode cX3_tells_2 91 = .ok (.ifCond .eq 6, 3) := dk_153 0 6 (dk_at dksX3_tells_2_3 21 rfl rfl)
theorem dX3_tells_2_94 : decode cX3_tells_2 94 = .ok (.goto 96, 3) := dk_167 0 96 (dk_at dksX3_tells_2_4 0 rfl rfl)
theorem dX3_tells_2_97 : decode cX3_tells_2 97 = .ok (.iload 4, 2) := dk_21 4 (dk_at dksX3_tells_2_4 3 rfl rfl)
theorem dX3_tells_2_99 : decode cX3_tells_2 99 = .ok (.aload_n 0, 1) := dk_42 (dk_at dksX3_tells_2_4 5 rfl rfl)
theorem dX3_tells_2_100 : decode cX3_tells_2 100 = .ok (.getfield 11, 3) := dk_180 0 11 (dk_at dksX3_tells_2_4 6 rfl rfl)
theorem dX3_tells_2_103 : decode cX3_tells_2 103 = .ok (.iload_n 1, 1) := dk_27 (dk_at dksX3_tells_2_4 9 rfl rfl)
theorem dX3_tells_2_104 : decode cX3_tells_2 104 = .ok (.iconst 1, 1) := dk_4 (dk_at dksX3_tells_2_4 10 rfl rfl)
theorem dX3_tells_2_105 : decode cX3_tells_2 105 = .ok (.iadd, 1) := dk_96 (dk_at dksX3_tells_2_4 11 rfl rfl)
theorem dX3_tells_2_106 : decode cX3_tells_2 106 = .ok (.aaload, 1) := dk_50 (dk_at dksX3_tells_2_4 12 rfl rfl)
theorem dX3_tells_2_107 : decode cX3_tells_2 107 = .ok (.iload 5, 2) := dk_21 5 (dk_at dksX3_tells_2_4 13 rfl rfl)
theorem dX3_tells_2_109 : decode cX3_tells_2 109 = .ok (.iaload, 1) := dk_46 (dk_at dksX3_tells_2_4 15 rfl rfl)
theorem dX3_tells_2_110 : decode cX3_tells_2 110 = .ok (.iadd, 1) := dk_96 (dk_at dksX3_tells_2_4 16 rfl rfl)
theorem dX3_tells_2_111 : decode cX3_tells_2 111 = .ok (.istore 6, 2) := dk_54 6 (dk_at dksX3_tells_2_4 17 rfl rfl)
theorem dX3_tells_2_113 : decode cX3_tells_2 113 = .ok (.aload_n 0, 1) := dk_42 (dk_at dksX3_tells_2_4 19 rfl rfl)
theorem dX3_tells_2_114 : decode cX3_tells_2 114 = .ok (.getfield 22, 3) := dk_180 0 22 (dk_at dksX3_tells_2_4 20 rfl rfl)
theorem dX3_tells_2_117 : decode cX3_tells_2 117 = .ok (.iload_n 3, 1) := dk_29 (dk_at dksX3_tells_2_4 23 rfl rfl)
theorem dX3_tells_2_118 : decode cX3_tells_2 118 = .ok (.iload_n 1, 1) := dk_27 (dk_at dksX3_tells_2_5 0 rfl rfl)
theorem dX3_tells_2_119 : decode cX3_tells_2 119 = .ok (.invokevirtual 71, 3) := dk_182 0 71 (dk_at dksX3_tells_2_5 1 rfl rfl)
theorem dX3_tells_2_122 : decode cX3_tells_2 122 = .ok (.aload_n 0, 1) := dk_42 (dk_at dksX3_tells_2_5 4 rfl rfl)
theorem dX3_tells_2_123 : decode cX3_tells_2 123 = .ok (.getfield 16, 3) := dk_180 0 16 (dk_at dksX3_tells_2_5 5 rfl rfl)
theorem dX3_tells_2_126 : decode cX3_tells_2 126 = .ok (.iload_n 1, 1) := dk_27 (dk_at dksX3_tells_2_5 8 rfl rfl)
theorem dX3_tells_2_127 : decode cX3_tells_2 127 = .ok (.iconst 1, 1) := dk_4 (dk_at dksX3_tells_2_5 9 rfl rfl)
theorem dX3_tells_2_128 : decode cX3_tells_2 128 = .ok (.iadd, 1) := dk_96 (dk_at dksX3_tells_2_5 10 rfl rfl)
theorem dX3_tells_2_129 : decode cX3_tells_2 129 = .ok (.aaload, 1) := dk_50 (dk_at dksX3_tells_2_5 11 rfl rfl)
theorem dX3_tells_2_130 : decode cX3_tells_2 130 = .ok (.iload 5, 2) := dk_21 5 (dk_at dksX3_tells_2_5 12 rfl rfl)
theorem dX3_tells_2_132 : decode cX3_tells_2 132 = .ok (.iaload, 1) := dk_46 (dk_at dksX3_tells_2_5 14 rfl rfl)
theorem dX3_tells_2_133 : decode cX3_tells_2 133 = .ok (.iadd, 1) := dk_96 (dk_at dksX3_tells_2_5 15 rfl rfl)
theorem dX3_tells_2_134 : decode cX3_tells_2 134 = .ok (.istore 7, 2) := dk_54 7 (dk_at dksX3_tells_2_5 16 rfl rfl)
theorem dX3_tells_2_136 : decode cX3_tells_2 136 = .ok (.aload_n 0, 1) := dk_42 (dk_at dksX3_tells_2_5 18 rfl rfl)
theorem dX3_tells_2_137 : decode cX3_tells_2 137 = .ok (.getfield 19, 3) := dk_180 0 19 (dk_at dksX3_tells_2_5 19 rfl rfl)
theorem dX3_tells_2_140 : decode cX3_tells_2 140 = .ok (.iload_n 1, 1) := dk_27 (dk_at dksX3_tells_2_5 22 rfl rfl)
theorem dX3_tells_2_141 : decode cX3_tells_2 141 = .ok (.aaload, 1) := dk_50 (dk_at dksX3_tells_2_5 23 rfl rfl)
theorem dX3_tells_2_142 : decode cX3_tells_2 142 = .ok (.iload_n 2, 1) := dk_28 (dk_at dksX3_tells_2_6 0 rfl rfl)
theorem dX3_tells_2_143 : decode cX3_tells_2 143 = .ok (.iaload, 1) := dk_46 (dk_at dksX3_tells_2_6 1 rfl rfl)
theorem dX3_tells_2_144 : decode cX3_tells_2 144 = .ok (.iconst (-1), 1) := dk_2 (dk_at dksX3_tells_2_6 2 rfl rfl)
theorem dX3_tells_2_145 : decode cX3_tells_2 145 = .ok (.if_icmp .eq 16, 3) := dk_159 0 16 (dk_at dksX3_tells_2_6 3 rfl rfl)
theorem dX3_tells_2_148 : decode cX3_tells_2 148 = .ok (.aload_n 0, 1) := dk_42 (dk_at dksX3_tells_2_6 6 rfl rfl)
theorem dX3_tells_2_149 : decode cX3_tells_2 149 = .ok (.iload 6, 2) := dk_21 6 (dk_at dksX3_tells_2_6 7 rfl rfl)
theorem dX3_tells_2_151 : decode cX3_tells_2 151 = .ok (.iload 7, 2) := dk_21 7 (dk_at dksX3_tells_2_6 9 rfl rfl)
theorem dX3_tells_2_153 : decode cX3_tells_2 153 = .ok (.iload_n 1, 1) := dk_27 (dk_at dksX3_tells_2_6 11 rfl rfl)
theorem dX3_tells_2_154 : decode cX3_tells_2 154 = .ok (.iload_n 2, 1) := dk_28 (dk_at dksX3_tells_2_6 12 rfl rfl)
theorem dX3_tells_2_155 : decode cX3_tells_2 155 = .ok (.invokevirtual 74, 3) := dk_182 0 74 (dk_at dksX3_tells_2_6 13 rfl rfl)
theorem dX3_tells_2_158 : decode cX3_tells_2 158 = .ok (.ifCond .eq 32, 3) := dk_153 0 32 (dk_at dksX3_tells_2_6 16 rfl rfl)
theorem dX3_tells_2_161 : decode cX3_tells_2 161 = .ok (.aload_n 0, 1) := dk_42 (dk_at dksX3_tells_2_6 19 rfl rfl)
theorem dX3_tells_2_162 : decode cX3_tells_2 162 = .ok (.getfield 19, 3) := dk_180 0 19 (dk_at dksX3_tells_2_6 20 rfl rfl)
theorem dX3_tells_2_165 : decode cX3_tells_2 165 = .ok (.iload_n 1, 1) := dk_27 (dk_at dksX3_tells_2_6 23 rfl rfl)
theorem dX3_tells_2_166 : decode cX3_tells_2 166 = .ok (.aaload, 1) := dk_50 (dk_at dksX3_tells_2_7 0 rfl rfl)
theorem dX3_tells_2_167 : decode cX3_tells_2 167 = .ok (.iload_n 2, 1) := dk_28 (dk_at dksX3_tells_2_7 1 rfl rfl)
theorem dX3_tells_2_168 : decode cX3_tells_2 168 = .ok (.iload_n 3, 1) := dk_29 (dk_at dksX3_tells_2_7 2 rfl rfl)
theorem dX3_tells_2_169 : decode cX3_tells_2 169 = .ok (.iastore, 1) := dk_79 (dk_at dksX3_tells_2_7 3 rfl rfl)
theorem dX3_tells_2_170 : decode cX3_tells_2 170 = .ok (.aload_n 0, 1) := dk_42 (dk_at dksX3_tells_2_7 4 rfl rfl)
theorem dX3_tells_2_171 : decode cX3_tells_2 171 = .ok (.getfield 11, 3) := dk_180 0 11 (dk_at dksX3_tells_2_7 5 rfl rfl)
theorem dX3_tells_2_174 : decode cX3_tells_2 174 = .ok (.iload_n 1, 1) := dk_27 (dk_at dksX3_tells_2_7 8 rfl rfl)
theorem dX3_tells_2_175 : decode cX3_tells_2 175 = .ok (.aaload, 1) := dk_50 (dk_at dksX3_tells_2_7 9 rfl rfl)
theorem dX3_tells_2_176 : decode cX3_tells_2 176 = .ok (.iload_n 2, 1) := dk_28 (dk_at dksX3_tells_2_7 10 rfl rfl)
theorem dX3_tells_2_177 : decode cX3_tells_2 177 = .ok (.iload 6, 2) := dk_21 6 (dk_at dksX3_tells_2_7 11 rfl rfl)
theorem dX3_tells_2_179 : decode cX3_tells_2 179 = .ok (.iastore, 1) := dk_79 (dk_at dksX3_tells_2_7 13 rfl rfl)
theorem dX3_tells_2_180 : decode cX3_tells_2 180 = .ok (.aload_n 0, 1) := dk_42 (dk_at dksX3_tells_2_7 14 rfl rfl)
theorem dX3_tells_2_181 : decode cX3_tells_2 181 = .ok (.getfield 16, 3) := dk_180 0 16 (dk_at dksX3_tells_2_7 15 rfl rfl)
theorem dX3_tells_2_184 : decode cX3_tells_2 184 = .ok (.iload_n 1, 1) := dk_27 (dk_at dksX3_tells_2_7 18 rfl rfl)
theorem dX3_tells_2_185 : decode cX3_tells_2 185 = .ok (.aaload, 1) := dk_50 (dk_at dksX3_tells_2_7 19 rfl rfl)
theorem dX3_tells_2_186 : decode cX3_tells_2 186 = .ok (.iload_n 2, 1) := dk_28 (dk_at dksX3_tells_2_7 20 rfl rfl)
theorem dX3_tells_2_187 : decode cX3_tells_2 187 = .ok (.iload 7, 2) := dk_21 7 (dk_at dksX3_tells_2_7 21 rfl rfl)
theorem dX3_tells_2_189 : decode cX3_tells_2 189 = .ok (.iastore, 1) := dk_79 (dk_at dksX3_tells_2_7 23 rfl rfl)
theorem dX3_tells_2_190 : decode cX3_tells_2 190 = .ok (.iinc 3 1, 3) := dk_132 3 1 (dk_at dksX3_tells_2_8 0 rfl rfl)
theorem dX3_tells_2_193 : decode cX3_tells_2 193 = .ok (.goto (-182), 3) := dk_167 255 74 (dk_at dksX3_tells_2_8 3 rfl rfl)
theorem dX3_tells_2_196 : decode cX3_tells_2 196 = .ok (.return_, 1) := dk_177 (dk_at dksX3_tells_2_8 6 rfl rfl)
abbrev cX3_isNone : ByteArray := prog_2_method_5_code
def yX3_isNone : MethodName := ⟨RX3, "isNone", "(II)Z"⟩
def dkwX3_isNone_1 : List UInt8 := [167, 0, 4, 3, 172]
abbrev dktX3_isNone_1 : List UInt8 := dkwX3_isNone_1 ++ []
def dkwX3_isNone_0 : List UInt8 := [27, 42, 180, 0, 22, 180, 0, 34, 162, 0, 19, 42, 180, 0, 19, 27, 50, 28, 46, 2, 160, 0, 7, 4]
abbrev dktX3_isNone_0 : List UInt8 := dkwX3_isNone_0 ++ dktX3_isNone_1
theorem dksX3_isNone_0 : cX3_isNone.data.toList.drop 0 = dktX3_isNone_0 := by decide +kernel
theorem dksX3_isNone_1 : cX3_isNone.data.toList.drop 24 = dktX3_isNone_1 := dk_seg dksX3_isNone_0 24 rfl rfl
theorem dX3_isNone_0 : decode cX3_isNone 0 = .ok (.iload_n 1, 1) := dk_27 (dk_at dksX3_isNone_0 0 rfl rfl)
theorem dX3_isNone_1 : decode cX3_isNone 1 = .ok (.aload_n 0, 1) := dk_42 (dk_at dksX3_isNone_0 1 rfl rfl)
theorem dX3_isNone_2 : decode cX3_isNone 2 = .ok (.getfield 22, 3) := dk_180 0 22 (dk_at dksX3_isNone_0 2 rfl rfl)
theorem dX3_isNone_5 : decode cX3_isNone 5 = .ok (.getfield 34, 3) := dk_180 0 34 (dk_at dksX3_isNone_0 5 rfl rfl)
theorem dX3_isNone_8 : decode cX3_isNone 8 = .ok (.if_icmp .ge 19, 3) := dk_162 0 19 (dk_at dksX3_isNone_0 8 rfl rfl)
theorem dX3_isNone_11 : decode cX3_isNone 11 = .ok (.aload_n 0, 1) := dk_42 (dk_at dksX3_isNone_0 11 rfl rfl)
theorem dX3_isNone_12 : decode cX3_isNone 12 = .ok (.getfield 19, 3) := dk_180 0 19 (dk_at dksX3_isNone_0 12 rfl rfl)
theorem dX3_isNone_15 : decode cX3_isNone 15 = .ok (.iload_n 1, 1) := dk_27 (dk_at dksX3_isNone_0 15 rfl rfl)
theorem dX3_isNone_16 : decode cX3_isNone 16 = .ok (.aaload, 1) := dk_50 (dk_at dksX3_isNone_0 16 rfl rfl)
theorem dX3_isNone_17 : decode cX3_isNone 17 = .ok (.iload_n 2, 1) := dk_28 (dk_at dksX3_isNone_0 17 rfl rfl)
theorem dX3_isNone_18 : decode cX3_isNone 18 = .ok (.iaload, 1) := dk_46 (dk_at dksX3_isNone_0 18 rfl rfl)
theorem dX3_isNone_19 : decode cX3_isNone 19 = .ok (.iconst (-1), 1) := dk_2 (dk_at dksX3_isNone_0 19 rfl rfl)
theorem dX3_isNone_20 : decode cX3_isNone 20 = .ok (.if_icmp .ne 7, 3) := dk_160 0 7 (dk_at dksX3_isNone_0 20 rfl rfl)
theorem dX3_isNone_23 : decode cX3_isNone 23 = .ok (.iconst 1, 1) := dk_4 (dk_at dksX3_isNone_0 23 rfl rfl)
theorem dX3_isNone_24 : decode cX3_isNone 24 = .ok (.goto 4, 3) := dk_167 0 4 (dk_at dksX3_isNone_1 0 rfl rfl)
theorem dX3_isNone_27 : decode cX3_isNone 27 = .ok (.iconst 0, 1) := dk_3 (dk_at dksX3_isNone_1 3 rfl rfl)
theorem dX3_isNone_28 : decode cX3_isNone 28 = .ok (.ireturn, 1) := dk_172 (dk_at dksX3_isNone_1 4 rfl rfl)
abbrev cX3_isLess : ByteArray := prog_2_method_4_code
def yX3_isLess : MethodName := ⟨RX3, "isLess", "(IIII)Z"⟩
def dkwX3_isLess_3 : List UInt8 := [156, 0, 7, 4, 167, 0, 4, 3, 172]
abbrev dktX3_isLess_3 : List UInt8 := dkwX3_isLess_3 ++ []
def dkwX3_isLess_2 : List UInt8 := [155, 0, 25, 21, 7, 154, 0, 24, 42, 180, 0, 26, 153, 0, 8, 21, 5, 167, 0, 5, 21, 6]
abbrev dktX3_isLess_2 : List UInt8 := dkwX3_isLess_2 ++ dktX3_isLess_3
def dkwX3_isLess_1 : List UInt8 := [46, 184, 0, 78, 54, 6, 42, 180, 0, 26, 153, 0, 8, 21, 6, 167, 0, 5, 21, 5, 54, 7, 21, 7]
abbrev dktX3_isLess_1 : List UInt8 := dkwX3_isLess_1 ++ dktX3_isLess_2
def dkwX3_isLess_0 : List UInt8 := [27, 42, 180, 0, 11, 29, 50, 21, 4, 46, 184, 0, 78, 54, 5, 28, 42, 180, 0, 16, 29, 50, 21, 4]
abbrev dktX3_isLess_0 : List UInt8 := dkwX3_isLess_0 ++ dktX3_isLess_1
theorem dksX3_isLess_0 : cX3_isLess.data.toList.drop 0 = dktX3_isLess_0 := by decide +kernel
theorem dksX3_isLess_1 : cX3_isLess.data.toList.drop 24 = dktX3_isLess_1 := dk_seg dksX3_isLess_0 24 rfl rfl
theorem dksX3_isLess_2 : cX3_isLess.data.toList.drop 48 = dktX3_isLess_2 := dk_seg dksX3_isLess_1 24 rfl rfl
theorem dksX3_isLess_3 : cX3_isLess.data.toList.drop 70 = dktX3_isLess_3 := dk_seg dksX3_isLess_2 22 rfl rfl
theorem dX3_isLess_0 : decode cX3_isLess 0 = .ok (.iload_n 1, 1) := dk_27 (dk_at dksX3_isLess_0 0 rfl rfl)
theorem dX3_isLess_1 : decode cX3_isLess 1 = .ok (.aload_n 0, 1) := dk_42 (dk_at dksX3_isLess_0 1 rfl rfl)
theorem dX3_isLess_2 : decode cX3_isLess 2 = .ok (.getfield 11, 3) := dk_180 0 11 (dk_at dksX3_isLess_0 2 rfl rfl)
theorem dX3_isLess_5 : decode cX3_isLess 5 = .ok (.iload_n 3, 1) := dk_29 (dk_at dksX3_isLess_0 5 rfl rfl)
theorem dX3_isLess_6 : decode cX3_isLess 6 = .ok (.aaload, 1) := dk_50 (dk_at dksX3_isLess_0 6 rfl rfl)
theorem dX3_isLess_7 : decode cX3_isLess 7 = .ok (.iload 4, 2) := dk_21 4 (dk_at dksX3_isLess_0 7 rfl rfl)
theorem dX3_isLess_9 : decode cX3_isLess 9 = .ok (.iaload, 1) := dk_46 (dk_at dksX3_isLess_0 9 rfl rfl)
theorem dX3_isLess_10 : decode cX3_isLess 10 = .ok (.invokestatic 78, 3) := dk_184 0 78 (dk_at dksX3_isLess_0 10 rfl rfl)
theorem dX3_isLess_13 : decode cX3_isLess 13 = .ok (.istore 5, 2) := dk_54 5 (dk_at dksX3_isLess_0 13 rfl rfl)
theorem dX3_isLess_15 : decode cX3_isLess 15 = .ok (.iload_n 2, 1) := dk_28 (dk_at dksX3_isLess_0 15 rfl rfl)
theorem dX3_isLess_16 : decode cX3_isLess 16 = .ok (.aload_n 0, 1) := dk_42 (dk_at dksX3_isLess_0 16 rfl rfl)
theorem dX3_isLess_17 : decode cX3_isLess 17 = .ok (.getfield 16, 3) := dk_180 0 16 (dk_at dksX3_isLess_0 17 rfl rfl)
theorem dX3_isLess_20 : decode cX3_isLess 20 = .ok (.iload_n 3, 1) := dk_29 (dk_at dksX3_isLess_0 20 rfl rfl)
theorem dX3_isLess_21 : decode cX3_isLess 21 = .ok (.aaload, 1) := dk_50 (dk_at dksX3_isLess_0 21 rfl rfl)
theorem dX3_isLess_22 : decode cX3_isLess 22 = .ok (.iload 4, 2) := dk_21 4 (dk_at dksX3_isLess_0 22 rfl rfl)
theorem dX3_isLess_24 : decode cX3_isLess 24 = .ok (.iaload, 1) := dk_46 (dk_at dksX3_isLess_1 0 rfl rfl)
theorem dX3_isLess_25 : decode cX3_isLess 25 = .ok (.invokestatic 78, 3) := dk_184 0 78 (dk_at dksX3_isLess_1 1 rfl rfl)
theorem dX3_isLess_28 : decode cX3_isLess 28 = .ok (.istore 6, 2) := dk_54 6 (dk_at dksX3_isLess_1 4 rfl rfl)
theorem dX3_isLess_30 : decode cX3_isLess 30 = .ok (.aload_n 0, 1) := dk_42 (dk_at dksX3_isLess_1 6 rfl rfl)
theorem dX3_isLess_31 : decode cX3_isLess 31 = .ok (.getfield 26, 3) := dk_180 0 26 (dk_at dksX3_isLess_1 7 rfl rfl)
theorem dX3_isLess_34 : decode cX3_isLess 34 = .ok (.ifCond .eq 8, 3) := dk_153 0 8 (dk_at dksX3_isLess_1 10 rfl rfl)
theorem dX3_isLess_37 : decode cX3_isLess 37 = .ok (.iload 6, 2) := dk_21 6 (dk_at dksX3_isLess_1 13 rfl rfl)
theorem dX3_isLess_39 : decode cX3_isLess 39 = .ok (.goto 5, 3) := dk_167 0 5 (dk_at dksX3_isLess_1 15 rfl rfl)
theorem dX3_isLess_42 : decode cX3_isLess 42 = .ok (.iload 5, 2) := dk_21 5 (dk_at dksX3_isLess_1 18 rfl rfl)
theorem dX3_isLess_44 : decode cX3_isLess 44 = .ok (.istore 7, 2) := dk_54 7 (dk_at dksX3_isLess_1 20 rfl rfl)
theorem dX3_isLess_46 : decode cX3_isLess 46 = .ok (.iload 7, 2) := dk_21 7 (dk_at dksX3_isLess_1 22 rfl rfl)
theorem dX3_isLess_48 : decode cX3_isLess 48 = .ok (.ifCond .lt 25, 3) := dk_155 0 25 (dk_at dksX3_isLess_2 0 rfl rfl)
theorem dX3_isLess_51 : decode cX3_isLess 51 = .ok (.iload 7, 2) := dk_21 7 (dk_at dksX3_isLess_2 3 rfl rfl)
theorem dX3_isLess_53 : decode cX3_isLess 53 = .ok (.ifCond .ne 24, 3) := dk_154 0 24 (dk_at dksX3_isLess_2 5 rfl rfl)
theorem dX3_isLess_56 : decode cX3_isLess 56 = .ok (.aload_n 0, 1) := dk_42 (dk_at dksX3_isLess_2 8 rfl rfl)
theorem dX3_isLess_57 : decode cX3_isLess 57 = .ok (.getfield 26, 3) := dk_180 0 26 (dk_at dksX3_isLess_2 9 rfl rfl)
theorem dX3_isLess_60 : decode cX3_isLess 60 = .ok (.ifCond .eq 8, 3) := dk_153 0 8 (dk_at dksX3_isLess_2 12 rfl rfl)
theorem dX3_isLess_63 : decode cX3_isLess 63 = .ok (.iload 5, 2) := dk_21 5 (dk_at dksX3_isLess_2 15 rfl rfl)
theorem dX3_isLess_65 : decode cX3_isLess 65 = .ok (.goto 5, 3) := dk_167 0 5 (dk_at dksX3_isLess_2 17 rfl rfl)
theorem dX3_isLess_68 : decode cX3_isLess 68 = .ok (.iload 6, 2) := dk_21 6 (dk_at dksX3_isLess_2 20 rfl rfl)
theorem dX3_isLess_70 : decode cX3_isLess 70 = .ok (.ifCond .ge 7, 3) := dk_156 0 7 (dk_at dksX3_isLess_3 0 rfl rfl)
theorem dX3_isLess_73 : decode cX3_isLess 73 = .ok (.iconst 1, 1) := dk_4 (dk_at dksX3_isLess_3 3 rfl rfl)
theorem dX3_isLess_74 : decode cX3_isLess 74 = .ok (.goto 4, 3) := dk_167 0 4 (dk_at dksX3_isLess_3 4 rfl rfl)
theorem dX3_isLess_77 : decode cX3_isLess 77 = .ok (.iconst 0, 1) := dk_3 (dk_at dksX3_isLess_3 7 rfl rfl)
theorem dX3_isLess_78 : decode cX3_isLess 78 = .ok (.ireturn, 1) := dk_172 (dk_at dksX3_isLess_3 8 rfl rfl)
abbrev cX3_isNone_2 : ByteArray := prog_2_method_6_code
def yX3_isNone_2 : MethodName := ⟨RX3, "isNone", "()Z"⟩
def dkwX3_isNone_2_0 : List UInt8 := [42, 3, 42, 180, 0, 22, 180, 0, 83, 182, 0, 87, 182, 0, 67, 172]
abbrev dktX3_isNone_2_0 : List UInt8 := dkwX3_isNone_2_0 ++ []
theorem dksX3_isNone_2_0 : cX3_isNone_2.data.toList.drop 0 = dktX3_isNone_2_0 := by decide +kernel
theorem dX3_isNone_2_0 : decode cX3_isNone_2 0 = .ok (.aload_n 0, 1) := dk_42 (dk_at dksX3_isNone_2_0 0 rfl rfl)
theorem dX3_isNone_2_1 : decode cX3_isNone_2 1 = .ok (.iconst 0, 1) := dk_3 (dk_at dksX3_isNone_2_0 1 rfl rfl)
theorem dX3_isNone_2_2 : decode cX3_isNone_2 2 = .ok (.aload_n 0, 1) := dk_42 (dk_at dksX3_isNone_2_0 2 rfl rfl)
theorem dX3_isNone_2_3 : decode cX3_isNone_2 3 = .ok (.getfield 22, 3) := dk_180 0 22 (dk_at dksX3_isNone_2_0 3 rfl rfl)
theorem dX3_isNone_2_6 : decode cX3_isNone_2 6 = .ok (.getfield 83, 3) := dk_180 0 83 (dk_at dksX3_isNone_2_0 6 rfl rfl)
theorem dX3_isNone_2_9 : decode cX3_isNone_2 9 = .ok (.invokevirtual 87, 3) := dk_182 0 87 (dk_at dksX3_isNone_2_0 9 rfl rfl)
theorem dX3_isNone_2_12 : decode cX3_isNone_2 12 = .ok (.invokevirtual 67, 3) := dk_182 0 67 (dk_at dksX3_isNone_2_0 12 rfl rfl)
theorem dX3_isNone_2_15 : decode cX3_isNone_2 15 = .ok (.ireturn, 1) := dk_172 (dk_at dksX3_isNone_2_0 15 rfl rfl)
abbrev cX3_slips : ByteArray := prog_2_method_8_code
def yX3_slips : MethodName := ⟨RX3, "slips", "()I"⟩
def dkwX3_slips_0 : List UInt8 := [42, 180, 0, 11, 3, 50, 42, 180, 0, 22, 180, 0, 83, 182, 0, 87, 46, 172]
abbrev dktX3_slips_0 : List UInt8 := dkwX3_slips_0 ++ []
theorem dksX3_slips_0 : cX3_slips.data.toList.drop 0 = dktX3_slips_0 := by decide +kernel
theorem dX3_slips_0 : decode cX3_slips 0 = .ok (.aload_n 0, 1) := dk_42 (dk_at dksX3_slips_0 0 rfl rfl)
theorem dX3_slips_1 : decode cX3_slips 1 = .ok (.getfield 11, 3) := dk_180 0 11 (dk_at dksX3_slips_0 1 rfl rfl)
theorem dX3_slips_4 : decode cX3_slips 4 = .ok (.iconst 0, 1) := dk_3 (dk_at dksX3_slips_0 4 rfl rfl)
theorem dX3_slips_5 : decode cX3_slips 5 = .ok (.aaload, 1) := dk_50 (dk_at dksX3_slips_0 5 rfl rfl)
theorem dX3_slips_6 : decode cX3_slips 6 = .ok (.aload_n 0, 1) := dk_42 (dk_at dksX3_slips_0 6 rfl rfl)
theorem dX3_slips_7 : decode cX3_slips 7 = .ok (.getfield 22, 3) := dk_180 0 22 (dk_at dksX3_slips_0 7 rfl rfl)
theorem dX3_slips_10 : decode cX3_slips 10 = .ok (.getfield 83, 3) := dk_180 0 83 (dk_at dksX3_slips_0 10 rfl rfl)
theorem dX3_slips_13 : decode cX3_slips 13 = .ok (.invokevirtual 87, 3) := dk_182 0 87 (dk_at dksX3_slips_0 13 rfl rfl)
theorem dX3_slips_16 : decode cX3_slips 16 = .ok (.iaload, 1) := dk_46 (dk_at dksX3_slips_0 16 rfl rfl)
theorem dX3_slips_17 : decode cX3_slips 17 = .ok (.ireturn, 1) := dk_172 (dk_at dksX3_slips_0 17 rfl rfl)
abbrev cX3_tires : ByteArray := prog_2_method_9_code
def yX3_tires : MethodName := ⟨RX3, "tires", "()I"⟩
def dkwX3_tires_0 : List UInt8 := [42, 180, 0, 16, 3, 50, 42, 180, 0, 22, 180, 0, 83, 182, 0, 87, 46, 172]
abbrev dktX3_tires_0 : List UInt8 := dkwX3_tires_0 ++ []
theorem dksX3_tires_0 : cX3_tires.data.toList.drop 0 = dktX3_tires_0 := by decide +kernel
theorem dX3_tires_0 : decode cX3_tires 0 = .ok (.aload_n 0, 1) := dk_42 (dk_at dksX3_tires_0 0 rfl rfl)
theorem dX3_tires_1 : decode cX3_tires 1 = .ok (.getfield 16, 3) := dk_180 0 16 (dk_at dksX3_tires_0 1 rfl rfl)
theorem dX3_tires_4 : decode cX3_tires 4 = .ok (.iconst 0, 1) := dk_3 (dk_at dksX3_tires_0 4 rfl rfl)
theorem dX3_tires_5 : decode cX3_tires 5 = .ok (.aaload, 1) := dk_50 (dk_at dksX3_tires_0 5 rfl rfl)
theorem dX3_tires_6 : decode cX3_tires 6 = .ok (.aload_n 0, 1) := dk_42 (dk_at dksX3_tires_0 6 rfl rfl)
theorem dX3_tires_7 : decode cX3_tires 7 = .ok (.getfield 22, 3) := dk_180 0 22 (dk_at dksX3_tires_0 7 rfl rfl)
theorem dX3_tires_10 : decode cX3_tires 10 = .ok (.getfield 83, 3) := dk_180 0 83 (dk_at dksX3_tires_0 10 rfl rfl)
theorem dX3_tires_13 : decode cX3_tires 13 = .ok (.invokevirtual 87, 3) := dk_182 0 87 (dk_at dksX3_tires_0 13 rfl rfl)
theorem dX3_tires_16 : decode cX3_tires 16 = .ok (.iaload, 1) := dk_46 (dk_at dksX3_tires_0 16 rfl rfl)
theorem dX3_tires_17 : decode cX3_tires 17 = .ok (.ireturn, 1) := dk_172 (dk_at dksX3_tires_0 17 rfl rfl)
abbrev cX3_ways : ByteArray := prog_2_method_10_code
def yX3_ways : MethodName := ⟨RX3, "ways", "()[I"⟩
def dkwX3_ways_2 : List UInt8 := [180, 0, 22, 43, 29, 46, 29, 28, 182, 0, 63, 61, 132, 3, 1, 167, 255, 218, 43, 176]
abbrev dktX3_ways_2 : List UInt8 := dkwX3_ways_2 ++ []
def dkwX3_ways_1 : List UInt8 := [42, 180, 0, 22, 180, 0, 34, 162, 0, 33, 43, 29, 42, 180, 0, 19, 29, 50, 28, 46, 79, 42]
abbrev dktX3_ways_1 : List UInt8 := dkwX3_ways_1 ++ dktX3_ways_2
def dkwX3_ways_0 : List UInt8 := [42, 180, 0, 22, 180, 0, 34, 188, 10, 76, 42, 180, 0, 22, 180, 0, 83, 182, 0, 87, 61, 3, 62, 29]
abbrev dktX3_ways_0 : List UInt8 := dkwX3_ways_0 ++ dktX3_ways_1
theorem dksX3_ways_0 : cX3_ways.data.toList.drop 0 = dktX3_ways_0 := by decide +kernel
theorem dksX3_ways_1 : cX3_ways.data.toList.drop 24 = dktX3_ways_1 := dk_seg dksX3_ways_0 24 rfl rfl
theorem dksX3_ways_2 : cX3_ways.data.toList.drop 46 = dktX3_ways_2 := dk_seg dksX3_ways_1 22 rfl rfl
theorem dX3_ways_0 : decode cX3_ways 0 = .ok (.aload_n 0, 1) := dk_42 (dk_at dksX3_ways_0 0 rfl rfl)
theorem dX3_ways_1 : decode cX3_ways 1 = .ok (.getfield 22, 3) := dk_180 0 22 (dk_at dksX3_ways_0 1 rfl rfl)
theorem dX3_ways_4 : decode cX3_ways 4 = .ok (.getfield 34, 3) := dk_180 0 34 (dk_at dksX3_ways_0 4 rfl rfl)
theorem dX3_ways_7 : decode cX3_ways 7 = .ok (.newarray .int, 2) := dk_188_10 (dk_at dksX3_ways_0 7 rfl rfl)
theorem dX3_ways_9 : decode cX3_ways 9 = .ok (.astore_n 1, 1) := dk_76 (dk_at dksX3_ways_0 9 rfl rfl)
theorem dX3_ways_10 : decode cX3_ways 10 = .ok (.aload_n 0, 1) := dk_42 (dk_at dksX3_ways_0 10 rfl rfl)
theorem dX3_ways_11 : decode cX3_ways 11 = .ok (.getfield 22, 3) := dk_180 0 22 (dk_at dksX3_ways_0 11 rfl rfl)
theorem dX3_ways_14 : decode cX3_ways 14 = .ok (.getfield 83, 3) := dk_180 0 83 (dk_at dksX3_ways_0 14 rfl rfl)
theorem dX3_ways_17 : decode cX3_ways 17 = .ok (.invokevirtual 87, 3) := dk_182 0 87 (dk_at dksX3_ways_0 17 rfl rfl)
theorem dX3_ways_20 : decode cX3_ways 20 = .ok (.istore_n 2, 1) := dk_61 (dk_at dksX3_ways_0 20 rfl rfl)
theorem dX3_ways_21 : decode cX3_ways 21 = .ok (.iconst 0, 1) := dk_3 (dk_at dksX3_ways_0 21 rfl rfl)
theorem dX3_ways_22 : decode cX3_ways 22 = .ok (.istore_n 3, 1) := dk_62 (dk_at dksX3_ways_0 22 rfl rfl)
theorem dX3_ways_23 : decode cX3_ways 23 = .ok (.iload_n 3, 1) := dk_29 (dk_at dksX3_ways_0 23 rfl rfl)
theorem dX3_ways_24 : decode cX3_ways 24 = .ok (.aload_n 0, 1) := dk_42 (dk_at dksX3_ways_1 0 rfl rfl)
theorem dX3_ways_25 : decode cX3_ways 25 = .ok (.getfield 22, 3) := dk_180 0 22 (dk_at dksX3_ways_1 1 rfl rfl)
theorem dX3_ways_28 : decode cX3_ways 28 = .ok (.getfield 34, 3) := dk_180 0 34 (dk_at dksX3_ways_1 4 rfl rfl)
theorem dX3_ways_31 : decode cX3_ways 31 = .ok (.if_icmp .ge 33, 3) := dk_162 0 33 (dk_at dksX3_ways_1 7 rfl rfl)
theorem dX3_ways_34 : decode cX3_ways 34 = .ok (.aload_n 1, 1) := dk_43 (dk_at dksX3_ways_1 10 rfl rfl)
theorem dX3_ways_35 : decode cX3_ways 35 = .ok (.iload_n 3, 1) := dk_29 (dk_at dksX3_ways_1 11 rfl rfl)
theorem dX3_ways_36 : decode cX3_ways 36 = .ok (.aload_n 0, 1) := dk_42 (dk_at dksX3_ways_1 12 rfl rfl)
theorem dX3_ways_37 : decode cX3_ways 37 = .ok (.getfield 19, 3) := dk_180 0 19 (dk_at dksX3_ways_1 13 rfl rfl)
theorem dX3_ways_40 : decode cX3_ways 40 = .ok (.iload_n 3, 1) := dk_29 (dk_at dksX3_ways_1 16 rfl rfl)
theorem dX3_ways_41 : decode cX3_ways 41 = .ok (.aaload, 1) := dk_50 (dk_at dksX3_ways_1 17 rfl rfl)
theorem dX3_ways_42 : decode cX3_ways 42 = .ok (.iload_n 2, 1) := dk_28 (dk_at dksX3_ways_1 18 rfl rfl)
theorem dX3_ways_43 : decode cX3_ways 43 = .ok (.iaload, 1) := dk_46 (dk_at dksX3_ways_1 19 rfl rfl)
theorem dX3_ways_44 : decode cX3_ways 44 = .ok (.iastore, 1) := dk_79 (dk_at dksX3_ways_1 20 rfl rfl)
theorem dX3_ways_45 : decode cX3_ways 45 = .ok (.aload_n 0, 1) := dk_42 (dk_at dksX3_ways_1 21 rfl rfl)
theorem dX3_ways_46 : decode cX3_ways 46 = .ok (.getfield 22, 3) := dk_180 0 22 (dk_at dksX3_ways_2 0 rfl rfl)
theorem dX3_ways_49 : decode cX3_ways 49 = .ok (.aload_n 1, 1) := dk_43 (dk_at dksX3_ways_2 3 rfl rfl)
theorem dX3_ways_50 : decode cX3_ways 50 = .ok (.iload_n 3, 1) := dk_29 (dk_at dksX3_ways_2 4 rfl rfl)
theorem dX3_ways_51 : decode cX3_ways 51 = .ok (.iaload, 1) := dk_46 (dk_at dksX3_ways_2 5 rfl rfl)
theorem dX3_ways_52 : decode cX3_ways 52 = .ok (.iload_n 3, 1) := dk_29 (dk_at dksX3_ways_2 6 rfl rfl)
theorem dX3_ways_53 : decode cX3_ways 53 = .ok (.iload_n 2, 1) := dk_28 (dk_at dksX3_ways_2 7 rfl rfl)
theorem dX3_ways_54 : decode cX3_ways 54 = .ok (.invokevirtual 63, 3) := dk_182 0 63 (dk_at dksX3_ways_2 8 rfl rfl)
theorem dX3_ways_57 : decode cX3_ways 57 = .ok (.istore_n 2, 1) := dk_61 (dk_at dksX3_ways_2 11 rfl rfl)
theorem dX3_ways_58 : decode cX3_ways 58 = .ok (.iinc 3 1, 3) := dk_132 3 1 (dk_at dksX3_ways_2 12 rfl rfl)
theorem dX3_ways_61 : decode cX3_ways 61 = .ok (.goto (-38), 3) := dk_167 255 218 (dk_at dksX3_ways_2 15 rfl rfl)
theorem dX3_ways_64 : decode cX3_ways 64 = .ok (.aload_n 1, 1) := dk_43 (dk_at dksX3_ways_2 18 rfl rfl)
theorem dX3_ways_65 : decode cX3_ways 65 = .ok (.areturn, 1) := dk_176 (dk_at dksX3_ways_2 19 rfl rfl)
abbrev cX3_slips_2 : ByteArray := prog_2_method_7_code
def yX3_slips_2 : MethodName := ⟨RX3, "slips", "(II)I"⟩
def dkwX3_slips_2_0 : List UInt8 := [42, 180, 0, 11, 27, 50, 28, 46, 172]
abbrev dktX3_slips_2_0 : List UInt8 := dkwX3_slips_2_0 ++ []
theorem dksX3_slips_2_0 : cX3_slips_2.data.toList.drop 0 = dktX3_slips_2_0 := by decide +kernel
theorem dX3_slips_2_0 : decode cX3_slips_2 0 = .ok (.aload_n 0, 1) := dk_42 (dk_at dksX3_slips_2_0 0 rfl rfl)
theorem dX3_slips_2_1 : decode cX3_slips_2 1 = .ok (.getfield 11, 3) := dk_180 0 11 (dk_at dksX3_slips_2_0 1 rfl rfl)
theorem dX3_slips_2_4 : decode cX3_slips_2 4 = .ok (.iload_n 1, 1) := dk_27 (dk_at dksX3_slips_2_0 4 rfl rfl)
theorem dX3_slips_2_5 : decode cX3_slips_2 5 = .ok (.aaload, 1) := dk_50 (dk_at dksX3_slips_2_0 5 rfl rfl)
theorem dX3_slips_2_6 : decode cX3_slips_2 6 = .ok (.iload_n 2, 1) := dk_28 (dk_at dksX3_slips_2_0 6 rfl rfl)
theorem dX3_slips_2_7 : decode cX3_slips_2 7 = .ok (.iaload, 1) := dk_46 (dk_at dksX3_slips_2_0 7 rfl rfl)
theorem dX3_slips_2_8 : decode cX3_slips_2 8 = .ok (.ireturn, 1) := dk_172 (dk_at dksX3_slips_2_0 8 rfl rfl)
theorem q77 : (Jvm.Cond.initialized "StairOnSticks$Best") ∈ lw_all := lw_g (lw_at lw_m1 4 rfl) rfl
theorem q143 : (Jvm.Cond.fieldLink "StairOnSticks$Best" (50 : Nat) "StairOnSticks$Stair" "step" "[LStairOnSticks$Step;") ∈ lw_all := lw_g (lw_at lw_m1 70 rfl) rfl
theorem q147 : (Jvm.Cond.fieldLink "StairOnSticks$Best" (46 : Nat) "StairOnSticks$Stair" "way" "[LStairOnSticks$Move;") ∈ lw_all := lw_g (lw_at lw_m1 74 rfl) rfl
theorem q150 : (Jvm.Cond.fieldLink "StairOnSticks$Best" (83 : Nat) "StairOnSticks$Stair" "person" "LStairOnSticks$Person;") ∈ lw_all := lw_g (lw_at lw_m1 77 rfl) rfl
theorem q154 : (Jvm.Cond.fieldLink "StairOnSticks$Best" (34 : Nat) "StairOnSticks$Stair" "steps" "I") ∈ lw_all := lw_g (lw_at lw_m1 81 rfl) rfl
theorem q158 : (Jvm.Cond.fieldLink "StairOnSticks$Best" (43 : Nat) "StairOnSticks$Stair" "ways" "I") ∈ lw_all := lw_g (lw_at lw_m1 85 rfl) rfl
theorem q189 : (Jvm.Cond.instantiable "StairOnSticks$Best" (6 : Nat)) ∈ lw_all := lw_g (lw_at lw_m1 116 rfl) rfl
theorem q191 : (Jvm.Cond.instanceMethod ({ cls := "StairOnSticks$Best", name := "<init>", desc := "()V" } : Jvm.MethodName)) ∈ lw_all := lw_g (lw_at lw_m1 118 rfl) rfl
theorem q192 : (Jvm.Cond.code ({ cls := "StairOnSticks$Best", name := "<init>", desc := "()V" } : Jvm.MethodName) prog_2_method_1_code (1 : Nat) (Option.none : Option Jvm.ClassFile.FieldType)) ∈ lw_all := lw_g (lw_at lw_m1 119 rfl) rfl
theorem q193 : (Jvm.Cond.methodLink "StairOnSticks$Best" (3 : Nat) ({ cls := "java/lang/Object", name := "<init>", desc := "()V" } : Jvm.MethodName)) ∈ lw_all := lw_g (lw_at lw_m1 120 rfl) rfl
theorem q194 : (Jvm.Cond.classLink "StairOnSticks$Best" (9 : Nat) "[[I") ∈ lw_all := lw_g (lw_at lw_m1 121 rfl) rfl
theorem q196 : (Jvm.Cond.fieldLink "StairOnSticks$Best" (11 : Nat) "StairOnSticks$Best" "slips" "[[I") ∈ lw_all := lw_g (lw_at lw_m1 123 rfl) rfl
theorem q197 : (Jvm.Cond.fieldLink "StairOnSticks$Best" (16 : Nat) "StairOnSticks$Best" "tires" "[[I") ∈ lw_all := lw_g (lw_at lw_m1 124 rfl) rfl
theorem q198 : (Jvm.Cond.fieldLink "StairOnSticks$Best" (19 : Nat) "StairOnSticks$Best" "by" "[[I") ∈ lw_all := lw_g (lw_at lw_m1 125 rfl) rfl
theorem q199 : (Jvm.Cond.fieldLink "StairOnSticks$Best" (22 : Nat) "StairOnSticks$Best" "stair" "LStairOnSticks$Stair;") ∈ lw_all := lw_g (lw_at lw_m1 126 rfl) rfl
theorem q200 : (Jvm.Cond.fieldLink "StairOnSticks$Best" (30 : Nat) "StairOnSticks$Best" "q" "I") ∈ lw_all := lw_g (lw_at lw_m1 127 rfl) rfl
theorem q201 : (Jvm.Cond.fieldLink "StairOnSticks$Best" (26 : Nat) "StairOnSticks$Best" "isEasy" "Z") ∈ lw_all := lw_g (lw_at lw_m1 128 rfl) rfl
theorem q202 : (Jvm.Cond.laysFinal "StairOnSticks$Best" "StairOnSticks$Best" "slips" "[[I") ∈ lw_all := lw_g (lw_at lw_m1 129 rfl) rfl
theorem q203 : (Jvm.Cond.soleField "StairOnSticks$Best" "slips") ∈ lw_all := lw_g (lw_at lw_m1 130 rfl) rfl
theorem q204 : (Jvm.Cond.laysFinal "StairOnSticks$Best" "StairOnSticks$Best" "tires" "[[I") ∈ lw_all := lw_g (lw_at lw_m1 131 rfl) rfl
theorem q205 : (Jvm.Cond.soleField "StairOnSticks$Best" "tires") ∈ lw_all := lw_g (lw_at lw_m1 132 rfl) rfl
theorem q206 : (Jvm.Cond.laysFinal "StairOnSticks$Best" "StairOnSticks$Best" "by" "[[I") ∈ lw_all := lw_g (lw_at lw_m1 133 rfl) rfl
theorem q207 : (Jvm.Cond.soleField "StairOnSticks$Best" "by") ∈ lw_all := lw_g (lw_at lw_m1 134 rfl) rfl
theorem q208 : (Jvm.Cond.lays "StairOnSticks$Best" "StairOnSticks$Best" "stair" "LStairOnSticks$Stair;") ∈ lw_all := lw_g (lw_at lw_m1 135 rfl) rfl
theorem q209 : (Jvm.Cond.soleField "StairOnSticks$Best" "stair") ∈ lw_all := lw_g (lw_at lw_m1 136 rfl) rfl
theorem q210 : (Jvm.Cond.lays "StairOnSticks$Best" "StairOnSticks$Best" "q" "I") ∈ lw_all := lw_g (lw_at lw_m1 137 rfl) rfl
theorem q211 : (Jvm.Cond.soleField "StairOnSticks$Best" "q") ∈ lw_all := lw_g (lw_at lw_m1 138 rfl) rfl
theorem q212 : (Jvm.Cond.lays "StairOnSticks$Best" "StairOnSticks$Best" "isEasy" "Z") ∈ lw_all := lw_g (lw_at lw_m1 139 rfl) rfl
theorem q213 : (Jvm.Cond.soleField "StairOnSticks$Best" "isEasy") ∈ lw_all := lw_g (lw_at lw_m1 140 rfl) rfl
theorem q214 : (Jvm.Cond.superclass "StairOnSticks$Best" "java/lang/Object") ∈ lw_all := lw_g (lw_at lw_m1 141 rfl) rfl
theorem q1294 : (Jvm.Cond.instanceMethod ({ cls := "StairOnSticks$Best", name := "tells", desc := "(LStairOnSticks$Stair;ZI)LStairOnSticks$Best;" } : Jvm.MethodName)) ∈ lw_all := lw_g (lw_at lw_m6 21 rfl) rfl
theorem q1295 : (Jvm.Cond.selects "StairOnSticks$Best" ({ cls := "StairOnSticks$Best", name := "tells", desc := "(LStairOnSticks$Stair;ZI)LStairOnSticks$Best;" } : Jvm.MethodName) ({ cls := "StairOnSticks$Best", name := "tells", desc := "(LStairOnSticks$Stair;ZI)LStairOnSticks$Best;" } : Jvm.MethodName)) ∈ lw_all := lw_g (lw_at lw_m6 22 rfl) rfl
theorem q1296 : (Jvm.Cond.code ({ cls := "StairOnSticks$Best", name := "tells", desc := "(LStairOnSticks$Stair;ZI)LStairOnSticks$Best;" } : Jvm.MethodName) prog_2_method_2_code (6 : Nat) (Option.some (Jvm.ClassFile.FieldType.object "StairOnSticks$Best"))) ∈ lw_all := lw_g (lw_at lw_m6 23 rfl) rfl
theorem q1297 : (Jvm.Cond.methodLink "StairOnSticks$Best" (39 : Nat) ({ cls := "StairOnSticks$Best", name := "tells", desc := "(II)V" } : Jvm.MethodName)) ∈ lw_all := lw_g (lw_at lw_m6 24 rfl) rfl
theorem q1298 : (Jvm.Cond.privateMethod ({ cls := "StairOnSticks$Best", name := "tells", desc := "(II)V" } : Jvm.MethodName)) ∈ lw_tbl := lw_at lw_m6 25 rfl
theorem q1299 : (Jvm.Cond.instanceMethod ({ cls := "StairOnSticks$Best", name := "tells", desc := "(II)V" } : Jvm.MethodName)) ∈ lw_all := lw_g (lw_at lw_m6 26 rfl) rfl
theorem q1300 : (Jvm.Cond.code ({ cls := "StairOnSticks$Best", name := "tells", desc := "(II)V" } : Jvm.MethodName) prog_2_method_3_code (8 : Nat) (Option.none : Option Jvm.ClassFile.FieldType)) ∈ lw_all := lw_g (lw_at lw_m6 27 rfl) rfl
theorem q1301 : (Jvm.Cond.methodLink "StairOnSticks$Best" (54 : Nat) ({ cls := "StairOnSticks$Move", name := "slips", desc := "(LStairOnSticks$Step;)I" } : Jvm.MethodName)) ∈ lw_all := lw_g (lw_at lw_m6 28 rfl) rfl
theorem q1302 : (Jvm.Cond.methodLink "StairOnSticks$Best" (59 : Nat) ({ cls := "StairOnSticks$Stair", name := "can", desc := "(III)Z" } : Jvm.MethodName)) ∈ lw_all := lw_g (lw_at lw_m6 29 rfl) rfl
theorem q1303 : (Jvm.Cond.methodLink "StairOnSticks$Best" (63 : Nat) ({ cls := "StairOnSticks$Stair", name := "left", desc := "(III)I" } : Jvm.MethodName)) ∈ lw_all := lw_g (lw_at lw_m6 30 rfl) rfl
theorem q1304 : (Jvm.Cond.methodLink "StairOnSticks$Best" (67 : Nat) ({ cls := "StairOnSticks$Best", name := "isNone", desc := "(II)Z" } : Jvm.MethodName)) ∈ lw_all := lw_g (lw_at lw_m6 31 rfl) rfl
theorem q1305 : (Jvm.Cond.instanceMethod ({ cls := "StairOnSticks$Best", name := "isNone", desc := "(II)Z" } : Jvm.MethodName)) ∈ lw_all := lw_g (lw_at lw_m6 32 rfl) rfl
theorem q1306 : (Jvm.Cond.selects "StairOnSticks$Best" ({ cls := "StairOnSticks$Best", name := "isNone", desc := "(II)Z" } : Jvm.MethodName) ({ cls := "StairOnSticks$Best", name := "isNone", desc := "(II)Z" } : Jvm.MethodName)) ∈ lw_all := lw_g (lw_at lw_m6 33 rfl) rfl
theorem q1307 : (Jvm.Cond.code ({ cls := "StairOnSticks$Best", name := "isNone", desc := "(II)Z" } : Jvm.MethodName) prog_2_method_5_code (3 : Nat) (Option.some Jvm.ClassFile.FieldType.boolean)) ∈ lw_all := lw_g (lw_at lw_m6 34 rfl) rfl
theorem q1308 : (Jvm.Cond.methodLink "StairOnSticks$Best" (71 : Nat) ({ cls := "StairOnSticks$Stair", name := "tires", desc := "(II)I" } : Jvm.MethodName)) ∈ lw_all := lw_g (lw_at lw_m6 35 rfl) rfl
theorem q1309 : (Jvm.Cond.methodLink "StairOnSticks$Best" (74 : Nat) ({ cls := "StairOnSticks$Best", name := "isLess", desc := "(IIII)Z" } : Jvm.MethodName)) ∈ lw_all := lw_g (lw_at lw_m6 36 rfl) rfl
theorem q1310 : (Jvm.Cond.privateMethod ({ cls := "StairOnSticks$Best", name := "isLess", desc := "(IIII)Z" } : Jvm.MethodName)) ∈ lw_tbl := lw_at lw_m6 37 rfl
theorem q1311 : (Jvm.Cond.instanceMethod ({ cls := "StairOnSticks$Best", name := "isLess", desc := "(IIII)Z" } : Jvm.MethodName)) ∈ lw_all := lw_g (lw_at lw_m6 38 rfl) rfl
theorem q1312 : (Jvm.Cond.code ({ cls := "StairOnSticks$Best", name := "isLess", desc := "(IIII)Z" } : Jvm.MethodName) prog_2_method_4_code (8 : Nat) (Option.some Jvm.ClassFile.FieldType.boolean)) ∈ lw_all := lw_g (lw_at lw_m6 39 rfl) rfl
theorem q1313 : (Jvm.Cond.methodLink "StairOnSticks$Best" (78 : Nat) ({ cls := "java/lang/Integer", name := "compare", desc := "(II)I" } : Jvm.MethodName)) ∈ lw_all := lw_g (lw_at lw_m6 40 rfl) rfl
theorem q1321 : (Jvm.Cond.instanceMethod ({ cls := "StairOnSticks$Best", name := "isNone", desc := "()Z" } : Jvm.MethodName)) ∈ lw_all := lw_g (lw_at lw_m6 48 rfl) rfl
theorem q1322 : (Jvm.Cond.selects "StairOnSticks$Best" ({ cls := "StairOnSticks$Best", name := "isNone", desc := "()Z" } : Jvm.MethodName) ({ cls := "StairOnSticks$Best", name := "isNone", desc := "()Z" } : Jvm.MethodName)) ∈ lw_all := lw_g (lw_at lw_m6 49 rfl) rfl
theorem q1323 : (Jvm.Cond.code ({ cls := "StairOnSticks$Best", name := "isNone", desc := "()Z" } : Jvm.MethodName) prog_2_method_6_code (1 : Nat) (Option.some Jvm.ClassFile.FieldType.boolean)) ∈ lw_all := lw_g (lw_at lw_m6 50 rfl) rfl
theorem q1324 : (Jvm.Cond.methodLink "StairOnSticks$Best" (87 : Nat) ({ cls := "StairOnSticks$Person", name := "arms", desc := "()I" } : Jvm.MethodName)) ∈ lw_all := lw_g (lw_at lw_m6 51 rfl) rfl
theorem q1326 : (Jvm.Cond.instanceMethod ({ cls := "StairOnSticks$Best", name := "slips", desc := "()I" } : Jvm.MethodName)) ∈ lw_all := lw_g (lw_at lw_m6 53 rfl) rfl
theorem q1327 : (Jvm.Cond.selects "StairOnSticks$Best" ({ cls := "StairOnSticks$Best", name := "slips", desc := "()I" } : Jvm.MethodName) ({ cls := "StairOnSticks$Best", name := "slips", desc := "()I" } : Jvm.MethodName)) ∈ lw_all := lw_g (lw_at lw_m6 54 rfl) rfl
theorem q1328 : (Jvm.Cond.code ({ cls := "StairOnSticks$Best", name := "slips", desc := "()I" } : Jvm.MethodName) prog_2_method_8_code (1 : Nat) (Option.some Jvm.ClassFile.FieldType.int)) ∈ lw_all := lw_g (lw_at lw_m6 55 rfl) rfl
theorem q1330 : (Jvm.Cond.instanceMethod ({ cls := "StairOnSticks$Best", name := "tires", desc := "()I" } : Jvm.MethodName)) ∈ lw_all := lw_g (lw_at lw_m6 57 rfl) rfl
theorem q1331 : (Jvm.Cond.selects "StairOnSticks$Best" ({ cls := "StairOnSticks$Best", name := "tires", desc := "()I" } : Jvm.MethodName) ({ cls := "StairOnSticks$Best", name := "tires", desc := "()I" } : Jvm.MethodName)) ∈ lw_all := lw_g (lw_at lw_m6 58 rfl) rfl
theorem q1332 : (Jvm.Cond.code ({ cls := "StairOnSticks$Best", name := "tires", desc := "()I" } : Jvm.MethodName) prog_2_method_9_code (1 : Nat) (Option.some Jvm.ClassFile.FieldType.int)) ∈ lw_all := lw_g (lw_at lw_m6 59 rfl) rfl
theorem q1334 : (Jvm.Cond.instanceMethod ({ cls := "StairOnSticks$Best", name := "ways", desc := "()[I" } : Jvm.MethodName)) ∈ lw_all := lw_g (lw_at lw_m6 61 rfl) rfl
theorem q1335 : (Jvm.Cond.selects "StairOnSticks$Best" ({ cls := "StairOnSticks$Best", name := "ways", desc := "()[I" } : Jvm.MethodName) ({ cls := "StairOnSticks$Best", name := "ways", desc := "()[I" } : Jvm.MethodName)) ∈ lw_all := lw_g (lw_at lw_m6 62 rfl) rfl
theorem q1336 : (Jvm.Cond.code ({ cls := "StairOnSticks$Best", name := "ways", desc := "()[I" } : Jvm.MethodName) prog_2_method_10_code (4 : Nat) (Option.some (Jvm.ClassFile.FieldType.array Jvm.ClassFile.FieldType.int))) ∈ lw_all := lw_g (lw_at lw_m6 63 rfl) rfl
theorem q1343 : (Jvm.Cond.instanceMethod ({ cls := "StairOnSticks$Best", name := "slips", desc := "(II)I" } : Jvm.MethodName)) ∈ lw_all := lw_g (lw_at lw_m6 70 rfl) rfl
theorem q1344 : (Jvm.Cond.selects "StairOnSticks$Best" ({ cls := "StairOnSticks$Best", name := "slips", desc := "(II)I" } : Jvm.MethodName) ({ cls := "StairOnSticks$Best", name := "slips", desc := "(II)I" } : Jvm.MethodName)) ∈ lw_all := lw_g (lw_at lw_m6 71 rfl) rfl
theorem q1345 : (Jvm.Cond.code ({ cls := "StairOnSticks$Best", name := "slips", desc := "(II)I" } : Jvm.MethodName) prog_2_method_7_code (3 : Nat) (Option.some Jvm.ClassFile.FieldType.int)) ∈ lw_all := lw_g (lw_at lw_m6 72 rfl) rfl
theorem in_X3 : ∀ w ∈ wsX30, w ∈ lw_all := lw_in wsX30 [202, 204, 206, 208, 210, 212] (by decide +kernel) (by decide +kernel)
/-! StairOnSticks$Sheet -/
set_option maxRecDepth 100000
def RX4 : String := "StairOnSticks$Sheet"
def TX4 : u_T := fun k => match k with
  | _ => ("StairOnSticks$Sheet", "held", "Ljava/lang/Object;", false)
def tyX4 : Nat → FieldType := fun k => match k with
  | _ => .object "java/lang/Object"
abbrev wsX40 : List Cond := u_ws RX4 TX4 1
theorem nmX4 : ∀ a, a < 1 → ∀ b, b < 1 → a ≠ b → (TX4 a).2.1 ≠ (TX4 b).2.1 := by decide +kernel
theorem tyX4_ok : ∀ k, k < 1 → parseFieldDescriptor (TX4 k).2.2.1 = some (tyX4 k) := by decide +kernel
abbrev cX4_init : ByteArray := prog_13_method_1_code
def yX4_init : MethodName := ⟨RX4, "<init>", "()V"⟩
theorem dX4_init_0 : decode cX4_init 0 = .ok (.aload_n 0, 1) := by decide +kernel
theorem dX4_init_1 : decode cX4_init 1 = .ok (.invokespecial 1, 3) := by decide +kernel
theorem dX4_init_4 : decode cX4_init 4 = .ok (.return_, 1) := by decide +kernel
theorem q78 : (Jvm.Cond.initialized "StairOnSticks$Sheet") ∈ lw_all := lw_g (lw_at lw_m1 5 rfl) rfl
theorem q217 : (Jvm.Cond.instantiable "StairOnSticks$Sheet" (1 : Nat)) ∈ lw_all := lw_g (lw_at lw_m1 144 rfl) rfl
theorem q219 : (Jvm.Cond.instanceMethod ({ cls := "StairOnSticks$Sheet", name := "<init>", desc := "()V" } : Jvm.MethodName)) ∈ lw_all := lw_g (lw_at lw_m1 146 rfl) rfl
theorem q220 : (Jvm.Cond.code ({ cls := "StairOnSticks$Sheet", name := "<init>", desc := "()V" } : Jvm.MethodName) prog_13_method_1_code (1 : Nat) (Option.none : Option Jvm.ClassFile.FieldType)) ∈ lw_all := lw_g (lw_at lw_m1 147 rfl) rfl
theorem q221 : (Jvm.Cond.methodLink "StairOnSticks$Sheet" (1 : Nat) ({ cls := "java/lang/Object", name := "<init>", desc := "()V" } : Jvm.MethodName)) ∈ lw_all := lw_g (lw_at lw_m1 148 rfl) rfl
theorem q223 : (Jvm.Cond.lays "StairOnSticks$Sheet" "StairOnSticks$Sheet" "held" "Ljava/lang/Object;") ∈ lw_all := lw_g (lw_at lw_m1 150 rfl) rfl
theorem q224 : (Jvm.Cond.soleField "StairOnSticks$Sheet" "held") ∈ lw_all := lw_g (lw_at lw_m1 151 rfl) rfl
theorem q225 : (Jvm.Cond.superclass "StairOnSticks$Sheet" "java/lang/Object") ∈ lw_all := lw_g (lw_at lw_m1 152 rfl) rfl
theorem in_X4 : ∀ w ∈ wsX40, w ∈ lw_all := lw_in wsX40 [223] (by decide +kernel) (by decide +kernel)
/-! StairOnSticks$Refused -/
set_option maxRecDepth 100000
def RX6 : String := "StairOnSticks$Refused"
def TX6 : u_T := fun k => match k with
  | 0 => ("java/lang/Throwable", "cause", "Ljava/lang/Throwable;", false)
  | 1 => ("java/lang/Throwable", "stackTrace", "[Ljava/lang/StackTraceElement;", false)
  | 2 => ("java/lang/Throwable", "suppressedExceptions", "Ljava/util/List;", false)
  | 3 => ("java/lang/Throwable", "detailMessage", "Ljava/lang/String;", false)
  | 4 => ("java/lang/Throwable", "backtrace", "Ljava/lang/Object;", false)
  | 5 => ("java/lang/Throwable", "depth", "I", false)
  | _ => ("StairOnSticks$Refused", "by", "I", true)
def tyX6 : Nat → FieldType := fun k => match k with
  | 0 => .object "java/lang/Throwable"
  | 1 => .array (.object "java/lang/StackTraceElement")
  | 2 => .object "java/util/List"
  | 3 => .object "java/lang/String"
  | 4 => .object "java/lang/Object"
  | 5 => .int
  | _ => .int
abbrev wsX60 : List Cond := u_ws RX6 TX6 7
theorem nmX6 : ∀ a, a < 7 → ∀ b, b < 7 → a ≠ b → (TX6 a).2.1 ≠ (TX6 b).2.1 := by decide +kernel
theorem tyX6_ok : ∀ k, k < 7 → parseFieldDescriptor (TX6 k).2.2.1 = some (tyX6 k) := by decide +kernel
abbrev cX6_init : ByteArray := prog_11_method_1_code
def yX6_init : MethodName := ⟨RX6, "<init>", "(I)V"⟩
def dkwX6_init_0 : List UInt8 := [42, 1, 1, 3, 3, 183, 0, 1, 42, 27, 181, 0, 7, 177]
abbrev dktX6_init_0 : List UInt8 := dkwX6_init_0 ++ []
theorem dksX6_init_0 : cX6_init.data.toList.drop 0 = dktX6_init_0 := by decide +kernel
theorem dX6_init_0 : decode cX6_init 0 = .ok (.aload_n 0, 1) := dk_42 (dk_at dksX6_init_0 0 rfl rfl)
theorem dX6_init_1 : decode cX6_init 1 = .ok (.aconst_null, 1) := dk_1 (dk_at dksX6_init_0 1 rfl rfl)
theorem dX6_init_2 : decode cX6_init 2 = .ok (.aconst_null, 1) := dk_1 (dk_at dksX6_init_0 2 rfl rfl)
theorem dX6_init_3 : decode cX6_init 3 = .ok (.iconst 0, 1) := dk_3 (dk_at dksX6_init_0 3 rfl rfl)
theorem dX6_init_4 : decode cX6_init 4 = .ok (.iconst 0, 1) := dk_3 (dk_at dksX6_init_0 4 rfl rfl)
theorem dX6_init_5 : decode cX6_init 5 = .ok (.invokespecial 1, 3) := dk_183 0 1 (dk_at dksX6_init_0 5 rfl rfl)
theorem dX6_init_8 : decode cX6_init 8 = .ok (.aload_n 0, 1) := dk_42 (dk_at dksX6_init_0 8 rfl rfl)
theorem dX6_init_9 : decode cX6_init 9 = .ok (.iload_n 1, 1) := dk_27 (dk_at dksX6_init_0 9 rfl rfl)
theorem dX6_init_10 : decode cX6_init 10 = .ok (.putfield 7, 3) := dk_181 0 7 (dk_at dksX6_init_0 10 rfl rfl)
theorem dX6_init_13 : decode cX6_init 13 = .ok (.return_, 1) := dk_177 (dk_at dksX6_init_0 13 rfl rfl)
theorem q87 : (Jvm.Cond.initialized "StairOnSticks$Refused") ∈ lw_all := lw_g (lw_at lw_m1 14 rfl) rfl
theorem q274 : (Jvm.Cond.selects "StairOnSticks$Refused" ({ cls := "java/lang/Throwable", name := "fillInStackTrace", desc := "()Ljava/lang/Throwable;" } : Jvm.MethodName) ({ cls := "java/lang/Throwable", name := "fillInStackTrace", desc := "()Ljava/lang/Throwable;" } : Jvm.MethodName)) ∈ lw_all := lw_g (lw_at lw_m1 201 rfl) rfl
theorem q385 : (Jvm.Cond.instantiable "StairOnSticks$Refused" (7 : Nat)) ∈ lw_all := lw_g (lw_at lw_m2 72 rfl) rfl
theorem q386 : (Jvm.Cond.castable "StairOnSticks$Refused" "StairOnSticks$Refused") ∈ lw_tbl := lw_at lw_m2 73 rfl
theorem q387 : (Jvm.Cond.selects "StairOnSticks$Refused" ({ cls := "java/lang/Throwable", name := "fillInStackTrace", desc := "(I)Ljava/lang/Throwable;" } : Jvm.MethodName) ({ cls := "java/lang/Throwable", name := "fillInStackTrace", desc := "(I)Ljava/lang/Throwable;" } : Jvm.MethodName)) ∈ lw_all := lw_g (lw_at lw_m2 74 rfl) rfl
theorem q388 : (Jvm.Cond.lays "StairOnSticks$Refused" "java/lang/Throwable" "cause" "Ljava/lang/Throwable;") ∈ lw_all := lw_g (lw_at lw_m2 75 rfl) rfl
theorem q389 : (Jvm.Cond.lays "StairOnSticks$Refused" "java/lang/Throwable" "stackTrace" "[Ljava/lang/StackTraceElement;") ∈ lw_all := lw_g (lw_at lw_m2 76 rfl) rfl
theorem q390 : (Jvm.Cond.lays "StairOnSticks$Refused" "java/lang/Throwable" "suppressedExceptions" "Ljava/util/List;") ∈ lw_all := lw_g (lw_at lw_m2 77 rfl) rfl
theorem q391 : (Jvm.Cond.lays "StairOnSticks$Refused" "java/lang/Throwable" "detailMessage" "Ljava/lang/String;") ∈ lw_all := lw_g (lw_at lw_m2 78 rfl) rfl
theorem q392 : (Jvm.Cond.lays "StairOnSticks$Refused" "java/lang/Throwable" "backtrace" "Ljava/lang/Object;") ∈ lw_all := lw_g (lw_at lw_m2 79 rfl) rfl
theorem q394 : (Jvm.Cond.instanceMethod ({ cls := "StairOnSticks$Refused", name := "<init>", desc := "(I)V" } : Jvm.MethodName)) ∈ lw_all := lw_g (lw_at lw_m2 81 rfl) rfl
theorem q395 : (Jvm.Cond.code ({ cls := "StairOnSticks$Refused", name := "<init>", desc := "(I)V" } : Jvm.MethodName) prog_11_method_1_code (2 : Nat) (Option.none : Option Jvm.ClassFile.FieldType)) ∈ lw_all := lw_g (lw_at lw_m2 82 rfl) rfl
theorem q396 : (Jvm.Cond.methodLink "StairOnSticks$Refused" (1 : Nat) ({ cls := "java/lang/RuntimeException", name := "<init>", desc := "(Ljava/lang/String;Ljava/lang/Throwable;ZZ)V" } : Jvm.MethodName)) ∈ lw_all := lw_g (lw_at lw_m2 83 rfl) rfl
theorem q405 : (Jvm.Cond.fieldLink "StairOnSticks$Refused" (7 : Nat) "StairOnSticks$Refused" "by" "I") ∈ lw_all := lw_g (lw_at lw_m2 92 rfl) rfl
theorem q407 : (Jvm.Cond.laysFinal "StairOnSticks$Refused" "StairOnSticks$Refused" "by" "I") ∈ lw_all := lw_g (lw_at lw_m2 94 rfl) rfl
theorem q408 : (Jvm.Cond.soleField "StairOnSticks$Refused" "by") ∈ lw_all := lw_g (lw_at lw_m2 95 rfl) rfl
theorem q409 : (Jvm.Cond.lays "StairOnSticks$Refused" "java/lang/Throwable" "depth" "I") ∈ lw_all := lw_g (lw_at lw_m2 96 rfl) rfl
theorem q410 : (Jvm.Cond.superclass "StairOnSticks$Refused" "java/lang/RuntimeException") ∈ lw_all := lw_g (lw_at lw_m2 97 rfl) rfl
theorem in_X6 : ∀ w ∈ wsX60, w ∈ lw_all := lw_in wsX60 [388, 389, 390, 391, 392, 409, 407] (by decide +kernel) (by decide +kernel)
/-! StairOnSticks$Step -/
set_option maxRecDepth 100000
def RX7 : String := "StairOnSticks$Step"
def TX7 : u_T := fun k => match k with
  | 0 => ("StairOnSticks$Step", "rise", "I", false)
  | 1 => ("StairOnSticks$Step", "wet", "Z", false)
  | 2 => ("StairOnSticks$Step", "rail", "Z", false)
  | _ => ("StairOnSticks$Step", "chair", "Z", false)
def tyX7 : Nat → FieldType := fun k => match k with
  | 0 => .int
  | 1 => .boolean
  | 2 => .boolean
  | _ => .boolean
abbrev wsX70 : List Cond := u_ws RX7 TX7 4
theorem nmX7 : ∀ a, a < 4 → ∀ b, b < 4 → a ≠ b → (TX7 a).2.1 ≠ (TX7 b).2.1 := by decide +kernel
theorem tyX7_ok : ∀ k, k < 4 → parseFieldDescriptor (TX7 k).2.2.1 = some (tyX7 k) := by decide +kernel
abbrev cX7_init : ByteArray := prog_15_method_1_code
def yX7_init : MethodName := ⟨RX7, "<init>", "()V"⟩
theorem dX7_init_0 : decode cX7_init 0 = .ok (.aload_n 0, 1) := by decide +kernel
theorem dX7_init_1 : decode cX7_init 1 = .ok (.invokespecial 3, 3) := by decide +kernel
theorem dX7_init_4 : decode cX7_init 4 = .ok (.return_, 1) := by decide +kernel
abbrev cX7_is : ByteArray := prog_15_method_3_code
def yX7_is : MethodName := ⟨RX7, "is", "(I)Z"⟩
def dkwX7_is_1 : List UInt8 := [180, 0, 16, 172]
abbrev dktX7_is_1 : List UInt8 := dkwX7_is_1 ++ []
def dkwX7_is_0 : List UInt8 := [27, 154, 0, 10, 42, 180, 0, 20, 167, 0, 19, 27, 4, 160, 0, 10, 42, 180, 0, 23, 167, 0, 7, 42]
abbrev dktX7_is_0 : List UInt8 := dkwX7_is_0 ++ dktX7_is_1
theorem dksX7_is_0 : cX7_is.data.toList.drop 0 = dktX7_is_0 := by decide +kernel
theorem dksX7_is_1 : cX7_is.data.toList.drop 24 = dktX7_is_1 := dk_seg dksX7_is_0 24 rfl rfl
theorem dX7_is_0 : decode cX7_is 0 = .ok (.iload_n 1, 1) := dk_27 (dk_at dksX7_is_0 0 rfl rfl)
theorem dX7_is_1 : decode cX7_is 1 = .ok (.ifCond .ne 10, 3) := dk_154 0 10 (dk_at dksX7_is_0 1 rfl rfl)
theorem dX7_is_4 : decode cX7_is 4 = .ok (.aload_n 0, 1) := dk_42 (dk_at dksX7_is_0 4 rfl rfl)
theorem dX7_is_5 : decode cX7_is 5 = .ok (.getfield 20, 3) := dk_180 0 20 (dk_at dksX7_is_0 5 rfl rfl)
theorem dX7_is_8 : decode cX7_is 8 = .ok (.goto 19, 3) := dk_167 0 19 (dk_at dksX7_is_0 8 rfl rfl)
theorem dX7_is_11 : decode cX7_is 11 = .ok (.iload_n 1, 1) := dk_27 (dk_at dksX7_is_0 11 rfl rfl)
theorem dX7_is_12 : decode cX7_is 12 = .ok (.iconst 1, 1) := dk_4 (dk_at dksX7_is_0 12 rfl rfl)
theorem dX7_is_13 : decode cX7_is 13 = .ok (.if_icmp .ne 10, 3) := dk_160 0 10 (dk_at dksX7_is_0 13 rfl rfl)
theorem dX7_is_16 : decode cX7_is 16 = .ok (.aload_n 0, 1) := dk_42 (dk_at dksX7_is_0 16 rfl rfl)
theorem dX7_is_17 : decode cX7_is 17 = .ok (.getfield 23, 3) := dk_180 0 23 (dk_at dksX7_is_0 17 rfl rfl)
theorem dX7_is_20 : decode cX7_is 20 = .ok (.goto 7, 3) := dk_167 0 7 (dk_at dksX7_is_0 20 rfl rfl)
theorem dX7_is_23 : decode cX7_is 23 = .ok (.aload_n 0, 1) := dk_42 (dk_at dksX7_is_0 23 rfl rfl)
theorem dX7_is_24 : decode cX7_is 24 = .ok (.getfield 16, 3) := dk_180 0 16 (dk_at dksX7_is_1 0 rfl rfl)
theorem dX7_is_27 : decode cX7_is 27 = .ok (.ireturn, 1) := dk_172 (dk_at dksX7_is_1 3 rfl rfl)
abbrev cX7_puts : ByteArray := prog_15_method_4_code
def yX7_puts : MethodName := ⟨RX7, "puts", "(IZ)V"⟩
def dkwX7_puts_2 : List UInt8 := [42, 28, 181, 0, 20, 167, 0, 16, 42, 28, 181, 0, 23, 167, 0, 8, 42, 28, 181, 0, 16, 177]
abbrev dktX7_puts_2 : List UInt8 := dkwX7_puts_2 ++ []
def dkwX7_puts_1 : List UInt8 := [171, 0, 0, 0, 0, 0, 43, 0, 0, 0, 2, 0, 0, 0, 0, 0, 0, 0, 27, 0, 0, 0, 1, 0, 0, 0, 35]
abbrev dktX7_puts_1 : List UInt8 := dkwX7_puts_1 ++ dktX7_puts_2
def dkwX7_puts_0 : List UInt8 := [27]
abbrev dktX7_puts_0 : List UInt8 := dkwX7_puts_0 ++ dktX7_puts_1
theorem dksX7_puts_0 : cX7_puts.data.toList.drop 0 = dktX7_puts_0 := by decide +kernel
theorem dksX7_puts_1 : cX7_puts.data.toList.drop 1 = dktX7_puts_1 := dk_seg dksX7_puts_0 1 rfl rfl
theorem dksX7_puts_2 : cX7_puts.data.toList.drop 28 = dktX7_puts_2 := dk_seg dksX7_puts_1 27 rfl rfl
theorem dX7_puts_0 : decode cX7_puts 0 = .ok (.iload_n 1, 1) := dk_27 (dk_at dksX7_puts_0 0 rfl rfl)
theorem dX7_puts_1 : decode cX7_puts 1 = .ok (.lookupswitch 43 #[(0, 27), (1, 35)], 27) := by decide +kernel
theorem dX7_puts_28 : decode cX7_puts 28 = .ok (.aload_n 0, 1) := dk_42 (dk_at dksX7_puts_2 0 rfl rfl)
theorem dX7_puts_29 : decode cX7_puts 29 = .ok (.iload_n 2, 1) := dk_28 (dk_at dksX7_puts_2 1 rfl rfl)
theorem dX7_puts_30 : decode cX7_puts 30 = .ok (.putfield 20, 3) := dk_181 0 20 (dk_at dksX7_puts_2 2 rfl rfl)
theorem dX7_puts_33 : decode cX7_puts 33 = .ok (.goto 16, 3) := dk_167 0 16 (dk_at dksX7_puts_2 5 rfl rfl)
theorem dX7_puts_36 : decode cX7_puts 36 = .ok (.aload_n 0, 1) := dk_42 (dk_at dksX7_puts_2 8 rfl rfl)
theorem dX7_puts_37 : decode cX7_puts 37 = .ok (.iload_n 2, 1) := dk_28 (dk_at dksX7_puts_2 9 rfl rfl)
theorem dX7_puts_38 : decode cX7_puts 38 = .ok (.putfield 23, 3) := dk_181 0 23 (dk_at dksX7_puts_2 10 rfl rfl)
theorem dX7_puts_41 : decode cX7_puts 41 = .ok (.goto 8, 3) := dk_167 0 8 (dk_at dksX7_puts_2 13 rfl rfl)
theorem dX7_puts_44 : decode cX7_puts 44 = .ok (.aload_n 0, 1) := dk_42 (dk_at dksX7_puts_2 16 rfl rfl)
theorem dX7_puts_45 : decode cX7_puts 45 = .ok (.iload_n 2, 1) := dk_28 (dk_at dksX7_puts_2 17 rfl rfl)
theorem dX7_puts_46 : decode cX7_puts 46 = .ok (.putfield 16, 3) := dk_181 0 16 (dk_at dksX7_puts_2 18 rfl rfl)
theorem dX7_puts_49 : decode cX7_puts 49 = .ok (.return_, 1) := dk_177 (dk_at dksX7_puts_2 21 rfl rfl)
abbrev cX7_copied : ByteArray := prog_15_method_2_code
def yX7_copied : MethodName := ⟨RX7, "copied", "()LStairOnSticks$Step;"⟩
def dkwX7_copied_1 : List UInt8 := [43, 42, 180, 0, 20, 181, 0, 20, 43, 42, 180, 0, 23, 181, 0, 23, 43, 176]
abbrev dktX7_copied_1 : List UInt8 := dkwX7_copied_1 ++ []
def dkwX7_copied_0 : List UInt8 := [187, 0, 9, 89, 183, 0, 11, 76, 43, 42, 180, 0, 12, 181, 0, 12, 43, 42, 180, 0, 16, 181, 0, 16]
abbrev dktX7_copied_0 : List UInt8 := dkwX7_copied_0 ++ dktX7_copied_1
theorem dksX7_copied_0 : cX7_copied.data.toList.drop 0 = dktX7_copied_0 := by decide +kernel
theorem dksX7_copied_1 : cX7_copied.data.toList.drop 24 = dktX7_copied_1 := dk_seg dksX7_copied_0 24 rfl rfl
theorem dX7_copied_0 : decode cX7_copied 0 = .ok (.new 9, 3) := dk_187 0 9 (dk_at dksX7_copied_0 0 rfl rfl)
theorem dX7_copied_3 : decode cX7_copied 3 = .ok (.dup, 1) := dk_89 (dk_at dksX7_copied_0 3 rfl rfl)
theorem dX7_copied_4 : decode cX7_copied 4 = .ok (.invokespecial 11, 3) := dk_183 0 11 (dk_at dksX7_copied_0 4 rfl rfl)
theorem dX7_copied_7 : decode cX7_copied 7 = .ok (.astore_n 1, 1) := dk_76 (dk_at dksX7_copied_0 7 rfl rfl)
theorem dX7_copied_8 : decode cX7_copied 8 = .ok (.aload_n 1, 1) := dk_43 (dk_at dksX7_copied_0 8 rfl rfl)
theorem dX7_copied_9 : decode cX7_copied 9 = .ok (.aload_n 0, 1) := dk_42 (dk_at dksX7_copied_0 9 rfl rfl)
theorem dX7_copied_10 : decode cX7_copied 10 = .ok (.getfield 12, 3) := dk_180 0 12 (dk_at dksX7_copied_0 10 rfl rfl)
theorem dX7_copied_13 : decode cX7_copied 13 = .ok (.putfield 12, 3) := dk_181 0 12 (dk_at dksX7_copied_0 13 rfl rfl)
theorem dX7_copied_16 : decode cX7_copied 16 = .ok (.aload_n 1, 1) := dk_43 (dk_at dksX7_copied_0 16 rfl rfl)
theorem dX7_copied_17 : decode cX7_copied 17 = .ok (.aload_n 0, 1) := dk_42 (dk_at dksX7_copied_0 17 rfl rfl)
theorem dX7_copied_18 : decode cX7_copied 18 = .ok (.getfield 16, 3) := dk_180 0 16 (dk_at dksX7_copied_0 18 rfl rfl)
theorem dX7_copied_21 : decode cX7_copied 21 = .ok (.putfield 16, 3) := dk_181 0 16 (dk_at dksX7_copied_0 21 rfl rfl)
theorem dX7_copied_24 : decode cX7_copied 24 = .ok (.aload_n 1, 1) := dk_43 (dk_at dksX7_copied_1 0 rfl rfl)
theorem dX7_copied_25 : decode cX7_copied 25 = .ok (.aload_n 0, 1) := dk_42 (dk_at dksX7_copied_1 1 rfl rfl)
theorem dX7_copied_26 : decode cX7_copied 26 = .ok (.getfield 20, 3) := dk_180 0 20 (dk_at dksX7_copied_1 2 rfl rfl)
theorem dX7_copied_29 : decode cX7_copied 29 = .ok (.putfield 20, 3) := dk_181 0 20 (dk_at dksX7_copied_1 5 rfl rfl)
theorem dX7_copied_32 : decode cX7_copied 32 = .ok (.aload_n 1, 1) := dk_43 (dk_at dksX7_copied_1 8 rfl rfl)
theorem dX7_copied_33 : decode cX7_copied 33 = .ok (.aload_n 0, 1) := dk_42 (dk_at dksX7_copied_1 9 rfl rfl)
theorem dX7_copied_34 : decode cX7_copied 34 = .ok (.getfield 23, 3) := dk_180 0 23 (dk_at dksX7_copied_1 10 rfl rfl)
theorem dX7_copied_37 : decode cX7_copied 37 = .ok (.putfield 23, 3) := dk_181 0 23 (dk_at dksX7_copied_1 13 rfl rfl)
theorem dX7_copied_40 : decode cX7_copied 40 = .ok (.aload_n 1, 1) := dk_43 (dk_at dksX7_copied_1 16 rfl rfl)
theorem dX7_copied_41 : decode cX7_copied 41 = .ok (.areturn, 1) := dk_176 (dk_at dksX7_copied_1 17 rfl rfl)
abbrev cX7_does : ByteArray := prog_15_method_6_code
def yX7_does : MethodName := ⟨RX7, "does", "(I)V"⟩
def dkwX7_does_2 : List UInt8 := [42, 16, 7, 181, 0, 12, 167, 0, 17, 42, 3, 181, 0, 16, 167, 0, 9, 42, 27, 4, 182, 0, 30, 177]
abbrev dktX7_does_2 : List UInt8 := dkwX7_does_2 ++ []
def dkwX7_does_1 : List UInt8 := [171, 0, 0, 0, 0, 0, 44, 0, 0, 0, 2, 0, 0, 0, 2, 0, 0, 0, 27, 0, 0, 0, 3, 0, 0, 0, 36]
abbrev dktX7_does_1 : List UInt8 := dkwX7_does_1 ++ dktX7_does_2
def dkwX7_does_0 : List UInt8 := [27]
abbrev dktX7_does_0 : List UInt8 := dkwX7_does_0 ++ dktX7_does_1
theorem dksX7_does_0 : cX7_does.data.toList.drop 0 = dktX7_does_0 := by decide +kernel
theorem dksX7_does_1 : cX7_does.data.toList.drop 1 = dktX7_does_1 := dk_seg dksX7_does_0 1 rfl rfl
theorem dksX7_does_2 : cX7_does.data.toList.drop 28 = dktX7_does_2 := dk_seg dksX7_does_1 27 rfl rfl
theorem dX7_does_0 : decode cX7_does 0 = .ok (.iload_n 1, 1) := dk_27 (dk_at dksX7_does_0 0 rfl rfl)
theorem dX7_does_1 : decode cX7_does 1 = .ok (.lookupswitch 44 #[(2, 27), (3, 36)], 27) := by decide +kernel
theorem dX7_does_28 : decode cX7_does 28 = .ok (.aload_n 0, 1) := dk_42 (dk_at dksX7_does_2 0 rfl rfl)
theorem dX7_does_29 : decode cX7_does 29 = .ok (.bipush 7, 2) := dk_16 7 (dk_at dksX7_does_2 1 rfl rfl)
theorem dX7_does_31 : decode cX7_does 31 = .ok (.putfield 12, 3) := dk_181 0 12 (dk_at dksX7_does_2 3 rfl rfl)
theorem dX7_does_34 : decode cX7_does 34 = .ok (.goto 17, 3) := dk_167 0 17 (dk_at dksX7_does_2 6 rfl rfl)
theorem dX7_does_37 : decode cX7_does 37 = .ok (.aload_n 0, 1) := dk_42 (dk_at dksX7_does_2 9 rfl rfl)
theorem dX7_does_38 : decode cX7_does 38 = .ok (.iconst 0, 1) := dk_3 (dk_at dksX7_does_2 10 rfl rfl)
theorem dX7_does_39 : decode cX7_does 39 = .ok (.putfield 16, 3) := dk_181 0 16 (dk_at dksX7_does_2 11 rfl rfl)
theorem dX7_does_42 : decode cX7_does 42 = .ok (.goto 9, 3) := dk_167 0 9 (dk_at dksX7_does_2 14 rfl rfl)
theorem dX7_does_45 : decode cX7_does 45 = .ok (.aload_n 0, 1) := dk_42 (dk_at dksX7_does_2 17 rfl rfl)
theorem dX7_does_46 : decode cX7_does 46 = .ok (.iload_n 1, 1) := dk_27 (dk_at dksX7_does_2 18 rfl rfl)
theorem dX7_does_47 : decode cX7_does 47 = .ok (.iconst 1, 1) := dk_4 (dk_at dksX7_does_2 19 rfl rfl)
theorem dX7_does_48 : decode cX7_does 48 = .ok (.invokevirtual 30, 3) := dk_182 0 30 (dk_at dksX7_does_2 20 rfl rfl)
theorem dX7_does_51 : decode cX7_does 51 = .ok (.return_, 1) := dk_177 (dk_at dksX7_does_2 23 rfl rfl)
abbrev cX7_isDone : ByteArray := prog_15_method_5_code
def yX7_isDone : MethodName := ⟨RX7, "isDone", "(I)Z"⟩
def dkwX7_isDone_1 : List UInt8 := [160, 0, 18, 42, 180, 0, 16, 154, 0, 7, 4, 167, 0, 12, 3, 167, 0, 8, 42, 27, 182, 0, 26, 172]
abbrev dktX7_isDone_1 : List UInt8 := dkwX7_isDone_1 ++ []
def dkwX7_isDone_0 : List UInt8 := [27, 5, 160, 0, 20, 42, 180, 0, 12, 16, 7, 160, 0, 7, 4, 167, 0, 32, 3, 167, 0, 28, 27, 6]
abbrev dktX7_isDone_0 : List UInt8 := dkwX7_isDone_0 ++ dktX7_isDone_1
theorem dksX7_isDone_0 : cX7_isDone.data.toList.drop 0 = dktX7_isDone_0 := by decide +kernel
theorem dksX7_isDone_1 : cX7_isDone.data.toList.drop 24 = dktX7_isDone_1 := dk_seg dksX7_isDone_0 24 rfl rfl
theorem dX7_isDone_0 : decode cX7_isDone 0 = .ok (.iload_n 1, 1) := dk_27 (dk_at dksX7_isDone_0 0 rfl rfl)
theorem dX7_isDone_1 : decode cX7_isDone 1 = .ok (.iconst 2, 1) := dk_5 (dk_at dksX7_isDone_0 1 rfl rfl)
theorem dX7_isDone_2 : decode cX7_isDone 2 = .ok (.if_icmp .ne 20, 3) := dk_160 0 20 (dk_at dksX7_isDone_0 2 rfl rfl)
theorem dX7_isDone_5 : decode cX7_isDone 5 = .ok (.aload_n 0, 1) := dk_42 (dk_at dksX7_isDone_0 5 rfl rfl)
theorem dX7_isDone_6 : decode cX7_isDone 6 = .ok (.getfield 12, 3) := dk_180 0 12 (dk_at dksX7_isDone_0 6 rfl rfl)
theorem dX7_isDone_9 : decode cX7_isDone 9 = .ok (.bipush 7, 2) := dk_16 7 (dk_at dksX7_isDone_0 9 rfl rfl)
theorem dX7_isDone_11 : decode cX7_isDone 11 = .ok (.if_icmp .ne 7, 3) := dk_160 0 7 (dk_at dksX7_isDone_0 11 rfl rfl)
theorem dX7_isDone_14 : decode cX7_isDone 14 = .ok (.iconst 1, 1) := dk_4 (dk_at dksX7_isDone_0 14 rfl rfl)
theorem dX7_isDone_15 : decode cX7_isDone 15 = .ok (.goto 32, 3) := dk_167 0 32 (dk_at dksX7_isDone_0 15 rfl rfl)
theorem dX7_isDone_18 : decode cX7_isDone 18 = .ok (.iconst 0, 1) := dk_3 (dk_at dksX7_isDone_0 18 rfl rfl)
theorem dX7_isDone_19 : decode cX7_isDone 19 = .ok (.goto 28, 3) := dk_167 0 28 (dk_at dksX7_isDone_0 19 rfl rfl)
theorem dX7_isDone_22 : decode cX7_isDone 22 = .ok (.iload_n 1, 1) := dk_27 (dk_at dksX7_isDone_0 22 rfl rfl)
theorem dX7_isDone_23 : decode cX7_isDone 23 = .ok (.iconst 3, 1) := dk_6 (dk_at dksX7_isDone_0 23 rfl rfl)
theorem dX7_isDone_24 : decode cX7_isDone 24 = .ok (.if_icmp .ne 18, 3) := dk_160 0 18 (dk_at dksX7_isDone_1 0 rfl rfl)
theorem dX7_isDone_27 : decode cX7_isDone 27 = .ok (.aload_n 0, 1) := dk_42 (dk_at dksX7_isDone_1 3 rfl rfl)
theorem dX7_isDone_28 : decode cX7_isDone 28 = .ok (.getfield 16, 3) := dk_180 0 16 (dk_at dksX7_isDone_1 4 rfl rfl)
theorem dX7_isDone_31 : decode cX7_isDone 31 = .ok (.ifCond .ne 7, 3) := dk_154 0 7 (dk_at dksX7_isDone_1 7 rfl rfl)
theorem dX7_isDone_34 : decode cX7_isDone 34 = .ok (.iconst 1, 1) := dk_4 (dk_at dksX7_isDone_1 10 rfl rfl)
theorem dX7_isDone_35 : decode cX7_isDone 35 = .ok (.goto 12, 3) := dk_167 0 12 (dk_at dksX7_isDone_1 11 rfl rfl)
theorem dX7_isDone_38 : decode cX7_isDone 38 = .ok (.iconst 0, 1) := dk_3 (dk_at dksX7_isDone_1 14 rfl rfl)
theorem dX7_isDone_39 : decode cX7_isDone 39 = .ok (.goto 8, 3) := dk_167 0 8 (dk_at dksX7_isDone_1 15 rfl rfl)
theorem dX7_isDone_42 : decode cX7_isDone 42 = .ok (.aload_n 0, 1) := dk_42 (dk_at dksX7_isDone_1 18 rfl rfl)
theorem dX7_isDone_43 : decode cX7_isDone 43 = .ok (.iload_n 1, 1) := dk_27 (dk_at dksX7_isDone_1 19 rfl rfl)
theorem dX7_isDone_44 : decode cX7_isDone 44 = .ok (.invokevirtual 26, 3) := dk_182 0 26 (dk_at dksX7_isDone_1 20 rfl rfl)
theorem dX7_isDone_47 : decode cX7_isDone 47 = .ok (.ireturn, 1) := dk_172 (dk_at dksX7_isDone_1 23 rfl rfl)
theorem q93 : (Jvm.Cond.initialized "StairOnSticks$Step") ∈ lw_all := lw_g (lw_at lw_m1 20 rfl) rfl
theorem q632 : (Jvm.Cond.instantiable "StairOnSticks$Step" (4 : Nat)) ∈ lw_all := lw_g (lw_at lw_m3 79 rfl) rfl
theorem q634 : (Jvm.Cond.instanceMethod ({ cls := "StairOnSticks$Step", name := "<init>", desc := "()V" } : Jvm.MethodName)) ∈ lw_all := lw_g (lw_at lw_m3 81 rfl) rfl
theorem q635 : (Jvm.Cond.code ({ cls := "StairOnSticks$Step", name := "<init>", desc := "()V" } : Jvm.MethodName) prog_15_method_1_code (1 : Nat) (Option.none : Option Jvm.ClassFile.FieldType)) ∈ lw_all := lw_g (lw_at lw_m3 82 rfl) rfl
theorem q636 : (Jvm.Cond.methodLink "StairOnSticks$Step" (3 : Nat) ({ cls := "java/lang/Object", name := "<init>", desc := "()V" } : Jvm.MethodName)) ∈ lw_all := lw_g (lw_at lw_m3 83 rfl) rfl
theorem q637 : (Jvm.Cond.fieldLink "StairOnSticks$Step" (12 : Nat) "StairOnSticks$Step" "rise" "I") ∈ lw_all := lw_g (lw_at lw_m3 84 rfl) rfl
theorem q644 : (Jvm.Cond.fieldLink "StairOnSticks$Step" (16 : Nat) "StairOnSticks$Step" "wet" "Z") ∈ lw_all := lw_g (lw_at lw_m3 91 rfl) rfl
theorem q649 : (Jvm.Cond.fieldLink "StairOnSticks$Step" (20 : Nat) "StairOnSticks$Step" "rail" "Z") ∈ lw_all := lw_g (lw_at lw_m3 96 rfl) rfl
theorem q653 : (Jvm.Cond.fieldLink "StairOnSticks$Step" (23 : Nat) "StairOnSticks$Step" "chair" "Z") ∈ lw_all := lw_g (lw_at lw_m3 100 rfl) rfl
theorem q656 : (Jvm.Cond.lays "StairOnSticks$Step" "StairOnSticks$Step" "rise" "I") ∈ lw_all := lw_g (lw_at lw_m3 103 rfl) rfl
theorem q657 : (Jvm.Cond.soleField "StairOnSticks$Step" "rise") ∈ lw_all := lw_g (lw_at lw_m3 104 rfl) rfl
theorem q658 : (Jvm.Cond.lays "StairOnSticks$Step" "StairOnSticks$Step" "wet" "Z") ∈ lw_all := lw_g (lw_at lw_m3 105 rfl) rfl
theorem q659 : (Jvm.Cond.soleField "StairOnSticks$Step" "wet") ∈ lw_all := lw_g (lw_at lw_m3 106 rfl) rfl
theorem q660 : (Jvm.Cond.lays "StairOnSticks$Step" "StairOnSticks$Step" "rail" "Z") ∈ lw_all := lw_g (lw_at lw_m3 107 rfl) rfl
theorem q661 : (Jvm.Cond.soleField "StairOnSticks$Step" "rail") ∈ lw_all := lw_g (lw_at lw_m3 108 rfl) rfl
theorem q662 : (Jvm.Cond.lays "StairOnSticks$Step" "StairOnSticks$Step" "chair" "Z") ∈ lw_all := lw_g (lw_at lw_m3 109 rfl) rfl
theorem q663 : (Jvm.Cond.soleField "StairOnSticks$Step" "chair") ∈ lw_all := lw_g (lw_at lw_m3 110 rfl) rfl
theorem q664 : (Jvm.Cond.superclass "StairOnSticks$Step" "java/lang/Object") ∈ lw_all := lw_g (lw_at lw_m3 111 rfl) rfl
theorem q747 : (Jvm.Cond.instanceMethod ({ cls := "StairOnSticks$Step", name := "is", desc := "(I)Z" } : Jvm.MethodName)) ∈ lw_all := lw_g (lw_at lw_m3 194 rfl) rfl
theorem q748 : (Jvm.Cond.selects "StairOnSticks$Step" ({ cls := "StairOnSticks$Step", name := "is", desc := "(I)Z" } : Jvm.MethodName) ({ cls := "StairOnSticks$Step", name := "is", desc := "(I)Z" } : Jvm.MethodName)) ∈ lw_all := lw_g (lw_at lw_m3 195 rfl) rfl
theorem q749 : (Jvm.Cond.code ({ cls := "StairOnSticks$Step", name := "is", desc := "(I)Z" } : Jvm.MethodName) prog_15_method_3_code (2 : Nat) (Option.some Jvm.ClassFile.FieldType.boolean)) ∈ lw_all := lw_g (lw_at lw_m3 196 rfl) rfl
theorem q751 : (Jvm.Cond.instanceMethod ({ cls := "StairOnSticks$Step", name := "puts", desc := "(IZ)V" } : Jvm.MethodName)) ∈ lw_all := lw_g (lw_at lw_m3 198 rfl) rfl
theorem q752 : (Jvm.Cond.selects "StairOnSticks$Step" ({ cls := "StairOnSticks$Step", name := "puts", desc := "(IZ)V" } : Jvm.MethodName) ({ cls := "StairOnSticks$Step", name := "puts", desc := "(IZ)V" } : Jvm.MethodName)) ∈ lw_all := lw_g (lw_at lw_m3 199 rfl) rfl
theorem q753 : (Jvm.Cond.code ({ cls := "StairOnSticks$Step", name := "puts", desc := "(IZ)V" } : Jvm.MethodName) prog_15_method_4_code (3 : Nat) (Option.none : Option Jvm.ClassFile.FieldType)) ∈ lw_all := lw_g (lw_at lw_m3 200 rfl) rfl
theorem q780 : (Jvm.Cond.instanceMethod ({ cls := "StairOnSticks$Step", name := "copied", desc := "()LStairOnSticks$Step;" } : Jvm.MethodName)) ∈ lw_all := lw_g (lw_at lw_m3 227 rfl) rfl
theorem q781 : (Jvm.Cond.selects "StairOnSticks$Step" ({ cls := "StairOnSticks$Step", name := "copied", desc := "()LStairOnSticks$Step;" } : Jvm.MethodName) ({ cls := "StairOnSticks$Step", name := "copied", desc := "()LStairOnSticks$Step;" } : Jvm.MethodName)) ∈ lw_all := lw_g (lw_at lw_m3 228 rfl) rfl
theorem q782 : (Jvm.Cond.code ({ cls := "StairOnSticks$Step", name := "copied", desc := "()LStairOnSticks$Step;" } : Jvm.MethodName) prog_15_method_2_code (2 : Nat) (Option.some (Jvm.ClassFile.FieldType.object "StairOnSticks$Step"))) ∈ lw_all := lw_g (lw_at lw_m3 229 rfl) rfl
theorem q783 : (Jvm.Cond.classLink "StairOnSticks$Step" (9 : Nat) "StairOnSticks$Step") ∈ lw_all := lw_g (lw_at lw_m3 230 rfl) rfl
theorem q784 : (Jvm.Cond.methodLink "StairOnSticks$Step" (11 : Nat) ({ cls := "StairOnSticks$Step", name := "<init>", desc := "()V" } : Jvm.MethodName)) ∈ lw_all := lw_g (lw_at lw_m3 231 rfl) rfl
theorem q1377 : (Jvm.Cond.instanceMethod ({ cls := "StairOnSticks$Step", name := "does", desc := "(I)V" } : Jvm.MethodName)) ∈ lw_all := lw_g (lw_at lw_m6 104 rfl) rfl
theorem q1378 : (Jvm.Cond.selects "StairOnSticks$Step" ({ cls := "StairOnSticks$Step", name := "does", desc := "(I)V" } : Jvm.MethodName) ({ cls := "StairOnSticks$Step", name := "does", desc := "(I)V" } : Jvm.MethodName)) ∈ lw_all := lw_g (lw_at lw_m6 105 rfl) rfl
theorem q1379 : (Jvm.Cond.code ({ cls := "StairOnSticks$Step", name := "does", desc := "(I)V" } : Jvm.MethodName) prog_15_method_6_code (2 : Nat) (Option.none : Option Jvm.ClassFile.FieldType)) ∈ lw_all := lw_g (lw_at lw_m6 106 rfl) rfl
theorem q1380 : (Jvm.Cond.methodLink "StairOnSticks$Step" (30 : Nat) ({ cls := "StairOnSticks$Step", name := "puts", desc := "(IZ)V" } : Jvm.MethodName)) ∈ lw_all := lw_g (lw_at lw_m6 107 rfl) rfl
theorem q1417 : (Jvm.Cond.instanceMethod ({ cls := "StairOnSticks$Step", name := "isDone", desc := "(I)Z" } : Jvm.MethodName)) ∈ lw_all := lw_g (lw_at lw_m6 144 rfl) rfl
theorem q1418 : (Jvm.Cond.selects "StairOnSticks$Step" ({ cls := "StairOnSticks$Step", name := "isDone", desc := "(I)Z" } : Jvm.MethodName) ({ cls := "StairOnSticks$Step", name := "isDone", desc := "(I)Z" } : Jvm.MethodName)) ∈ lw_all := lw_g (lw_at lw_m6 145 rfl) rfl
theorem q1419 : (Jvm.Cond.code ({ cls := "StairOnSticks$Step", name := "isDone", desc := "(I)Z" } : Jvm.MethodName) prog_15_method_5_code (2 : Nat) (Option.some Jvm.ClassFile.FieldType.boolean)) ∈ lw_all := lw_g (lw_at lw_m6 146 rfl) rfl
theorem q1420 : (Jvm.Cond.methodLink "StairOnSticks$Step" (26 : Nat) ({ cls := "StairOnSticks$Step", name := "is", desc := "(I)Z" } : Jvm.MethodName)) ∈ lw_all := lw_g (lw_at lw_m6 147 rfl) rfl
theorem in_X7 : ∀ w ∈ wsX70, w ∈ lw_all := lw_in wsX70 [656, 658, 660, 662] (by decide +kernel) (by decide +kernel)
/-! StairOnSticks$Move -/
set_option maxRecDepth 100000
def RX8 : String := "StairOnSticks$Move"
def TX8 : u_T := fun k => match k with
  | 0 => ("StairOnSticks$Move", "number", "I", true)
  | _ => ("StairOnSticks$Move", "a", "I", true)
def tyX8 : Nat → FieldType := fun k => match k with
  | 0 => .int
  | _ => .int
abbrev wsX80 : List Cond := u_ws RX8 TX8 2
theorem nmX8 : ∀ a, a < 2 → ∀ b, b < 2 → a ≠ b → (TX8 a).2.1 ≠ (TX8 b).2.1 := by decide +kernel
theorem tyX8_ok : ∀ k, k < 2 → parseFieldDescriptor (TX8 k).2.2.1 = some (tyX8 k) := by decide +kernel
abbrev cX8_says : ByteArray := prog_7_method_7_code
def yX8_says : MethodName := ⟨RX8, "says", "(LStairOnSticks$Person;LStairOnSticks$Step;I)I"⟩
def dkwX8_says_3 : List UInt8 := [182, 0, 41, 172]
abbrev dktX8_says_3 : List UInt8 := dkwX8_says_3 ++ []
def dkwX8_says_2 : List UInt8 := [42, 43, 44, 182, 0, 31, 172, 42, 43, 44, 182, 0, 35, 172, 42, 43, 44, 182, 0, 38, 172, 42, 44]
abbrev dktX8_says_2 : List UInt8 := dkwX8_says_2 ++ dktX8_says_3
def dkwX8_says_1 : List UInt8 := [170, 0, 0, 0, 0, 0, 48, 0, 0, 0, 0, 0, 0, 0, 2, 0, 0, 0, 27, 0, 0, 0, 34, 0, 0, 0, 41]
abbrev dktX8_says_1 : List UInt8 := dkwX8_says_1 ++ dktX8_says_2
def dkwX8_says_0 : List UInt8 := [29]
abbrev dktX8_says_0 : List UInt8 := dkwX8_says_0 ++ dktX8_says_1
theorem dksX8_says_0 : cX8_says.data.toList.drop 0 = dktX8_says_0 := by decide +kernel
theorem dksX8_says_1 : cX8_says.data.toList.drop 1 = dktX8_says_1 := dk_seg dksX8_says_0 1 rfl rfl
theorem dksX8_says_2 : cX8_says.data.toList.drop 28 = dktX8_says_2 := dk_seg dksX8_says_1 27 rfl rfl
theorem dksX8_says_3 : cX8_says.data.toList.drop 51 = dktX8_says_3 := dk_seg dksX8_says_2 23 rfl rfl
theorem dX8_says_0 : decode cX8_says 0 = .ok (.iload_n 3, 1) := dk_29 (dk_at dksX8_says_0 0 rfl rfl)
theorem dX8_says_1 : decode cX8_says 1 = .ok (.tableswitch 48 0 2 #[27, 34, 41], 27) := by decide +kernel
theorem dX8_says_28 : decode cX8_says 28 = .ok (.aload_n 0, 1) := dk_42 (dk_at dksX8_says_2 0 rfl rfl)
theorem dX8_says_29 : decode cX8_says 29 = .ok (.aload_n 1, 1) := dk_43 (dk_at dksX8_says_2 1 rfl rfl)
theorem dX8_says_30 : decode cX8_says 30 = .ok (.aload_n 2, 1) := dk_44 (dk_at dksX8_says_2 2 rfl rfl)
theorem dX8_says_31 : decode cX8_says 31 = .ok (.invokevirtual 31, 3) := dk_182 0 31 (dk_at dksX8_says_2 3 rfl rfl)
theorem dX8_says_34 : decode cX8_says 34 = .ok (.ireturn, 1) := dk_172 (dk_at dksX8_says_2 6 rfl rfl)
theorem dX8_says_35 : decode cX8_says 35 = .ok (.aload_n 0, 1) := dk_42 (dk_at dksX8_says_2 7 rfl rfl)
theorem dX8_says_36 : decode cX8_says 36 = .ok (.aload_n 1, 1) := dk_43 (dk_at dksX8_says_2 8 rfl rfl)
theorem dX8_says_37 : decode cX8_says 37 = .ok (.aload_n 2, 1) := dk_44 (dk_at dksX8_says_2 9 rfl rfl)
theorem dX8_says_38 : decode cX8_says 38 = .ok (.invokevirtual 35, 3) := dk_182 0 35 (dk_at dksX8_says_2 10 rfl rfl)
theorem dX8_says_41 : decode cX8_says 41 = .ok (.ireturn, 1) := dk_172 (dk_at dksX8_says_2 13 rfl rfl)
theorem dX8_says_42 : decode cX8_says 42 = .ok (.aload_n 0, 1) := dk_42 (dk_at dksX8_says_2 14 rfl rfl)
theorem dX8_says_43 : decode cX8_says 43 = .ok (.aload_n 1, 1) := dk_43 (dk_at dksX8_says_2 15 rfl rfl)
theorem dX8_says_44 : decode cX8_says 44 = .ok (.aload_n 2, 1) := dk_44 (dk_at dksX8_says_2 16 rfl rfl)
theorem dX8_says_45 : decode cX8_says 45 = .ok (.invokevirtual 38, 3) := dk_182 0 38 (dk_at dksX8_says_2 17 rfl rfl)
theorem dX8_says_48 : decode cX8_says 48 = .ok (.ireturn, 1) := dk_172 (dk_at dksX8_says_2 20 rfl rfl)
theorem dX8_says_49 : decode cX8_says 49 = .ok (.aload_n 0, 1) := dk_42 (dk_at dksX8_says_2 21 rfl rfl)
theorem dX8_says_50 : decode cX8_says 50 = .ok (.aload_n 2, 1) := dk_44 (dk_at dksX8_says_2 22 rfl rfl)
theorem dX8_says_51 : decode cX8_says 51 = .ok (.invokevirtual 41, 3) := dk_182 0 41 (dk_at dksX8_says_3 0 rfl rfl)
theorem dX8_says_54 : decode cX8_says 54 = .ok (.ireturn, 1) := dk_172 (dk_at dksX8_says_3 3 rfl rfl)
abbrev cX8_load : ByteArray := prog_7_method_3_code
def yX8_load : MethodName := ⟨RX8, "load", "(LStairOnSticks$Person;LStairOnSticks$Step;)I"⟩
def dkwX8_load_0 : List UInt8 := [43, 182, 0, 16, 5, 108, 172]
abbrev dktX8_load_0 : List UInt8 := dkwX8_load_0 ++ []
theorem dksX8_load_0 : cX8_load.data.toList.drop 0 = dktX8_load_0 := by decide +kernel
theorem dX8_load_0 : decode cX8_load 0 = .ok (.aload_n 1, 1) := dk_43 (dk_at dksX8_load_0 0 rfl rfl)
theorem dX8_load_1 : decode cX8_load 1 = .ok (.invokevirtual 16, 3) := dk_182 0 16 (dk_at dksX8_load_0 1 rfl rfl)
theorem dX8_load_4 : decode cX8_load 4 = .ok (.iconst 2, 1) := dk_5 (dk_at dksX8_load_0 4 rfl rfl)
theorem dX8_load_5 : decode cX8_load 5 = .ok (.idiv, 1) := dk_108 (dk_at dksX8_load_0 5 rfl rfl)
theorem dX8_load_6 : decode cX8_load 6 = .ok (.ireturn, 1) := dk_172 (dk_at dksX8_load_0 6 rfl rfl)
abbrev cX8_hands : ByteArray := prog_7_method_4_code
def yX8_hands : MethodName := ⟨RX8, "hands", "(LStairOnSticks$Person;LStairOnSticks$Step;)I"⟩
theorem dX8_hands_0 : decode cX8_hands 0 = .ok (.iconst 0, 1) := by decide +kernel
theorem dX8_hands_1 : decode cX8_hands 1 = .ok (.ireturn, 1) := by decide +kernel
abbrev cX8_tires : ByteArray := prog_7_method_5_code
def yX8_tires : MethodName := ⟨RX8, "tires", "(LStairOnSticks$Person;LStairOnSticks$Step;)I"⟩
theorem dX8_tires_0 : decode cX8_tires 0 = .ok (.iconst 1, 1) := by decide +kernel
theorem dX8_tires_1 : decode cX8_tires 1 = .ok (.ireturn, 1) := by decide +kernel
abbrev cX8_slips : ByteArray := prog_7_method_6_code
def yX8_slips : MethodName := ⟨RX8, "slips", "(LStairOnSticks$Step;)I"⟩
def dkwX8_slips_0 : List UInt8 := [43, 180, 0, 22, 43, 180, 0, 27, 153, 0, 8, 16, 10, 167, 0, 4, 3, 96, 172]
abbrev dktX8_slips_0 : List UInt8 := dkwX8_slips_0 ++ []
theorem dksX8_slips_0 : cX8_slips.data.toList.drop 0 = dktX8_slips_0 := by decide +kernel
theorem dX8_slips_0 : decode cX8_slips 0 = .ok (.aload_n 1, 1) := dk_43 (dk_at dksX8_slips_0 0 rfl rfl)
theorem dX8_slips_1 : decode cX8_slips 1 = .ok (.getfield 22, 3) := dk_180 0 22 (dk_at dksX8_slips_0 1 rfl rfl)
theorem dX8_slips_4 : decode cX8_slips 4 = .ok (.aload_n 1, 1) := dk_43 (dk_at dksX8_slips_0 4 rfl rfl)
theorem dX8_slips_5 : decode cX8_slips 5 = .ok (.getfield 27, 3) := dk_180 0 27 (dk_at dksX8_slips_0 5 rfl rfl)
theorem dX8_slips_8 : decode cX8_slips 8 = .ok (.ifCond .eq 8, 3) := dk_153 0 8 (dk_at dksX8_slips_0 8 rfl rfl)
theorem dX8_slips_11 : decode cX8_slips 11 = .ok (.bipush 10, 2) := dk_16 10 (dk_at dksX8_slips_0 11 rfl rfl)
theorem dX8_slips_13 : decode cX8_slips 13 = .ok (.goto 4, 3) := dk_167 0 4 (dk_at dksX8_slips_0 13 rfl rfl)
theorem dX8_slips_16 : decode cX8_slips 16 = .ok (.iconst 0, 1) := dk_3 (dk_at dksX8_slips_0 16 rfl rfl)
theorem dX8_slips_17 : decode cX8_slips 17 = .ok (.iadd, 1) := dk_96 (dk_at dksX8_slips_0 17 rfl rfl)
theorem dX8_slips_18 : decode cX8_slips 18 = .ok (.ireturn, 1) := dk_172 (dk_at dksX8_slips_0 18 rfl rfl)
abbrev cX8_init : ByteArray := prog_7_method_1_code
def yX8_init : MethodName := ⟨RX8, "<init>", "(II)V"⟩
def dkwX8_init_0 : List UInt8 := [42, 183, 0, 1, 42, 27, 181, 0, 7, 42, 28, 181, 0, 13, 177]
abbrev dktX8_init_0 : List UInt8 := dkwX8_init_0 ++ []
theorem dksX8_init_0 : cX8_init.data.toList.drop 0 = dktX8_init_0 := by decide +kernel
theorem dX8_init_0 : decode cX8_init 0 = .ok (.aload_n 0, 1) := dk_42 (dk_at dksX8_init_0 0 rfl rfl)
theorem dX8_init_1 : decode cX8_init 1 = .ok (.invokespecial 1, 3) := dk_183 0 1 (dk_at dksX8_init_0 1 rfl rfl)
theorem dX8_init_4 : decode cX8_init 4 = .ok (.aload_n 0, 1) := dk_42 (dk_at dksX8_init_0 4 rfl rfl)
theorem dX8_init_5 : decode cX8_init 5 = .ok (.iload_n 1, 1) := dk_27 (dk_at dksX8_init_0 5 rfl rfl)
theorem dX8_init_6 : decode cX8_init 6 = .ok (.putfield 7, 3) := dk_181 0 7 (dk_at dksX8_init_0 6 rfl rfl)
theorem dX8_init_9 : decode cX8_init 9 = .ok (.aload_n 0, 1) := dk_42 (dk_at dksX8_init_0 9 rfl rfl)
theorem dX8_init_10 : decode cX8_init 10 = .ok (.iload_n 2, 1) := dk_28 (dk_at dksX8_init_0 10 rfl rfl)
theorem dX8_init_11 : decode cX8_init 11 = .ok (.putfield 13, 3) := dk_181 0 13 (dk_at dksX8_init_0 11 rfl rfl)
theorem dX8_init_14 : decode cX8_init 14 = .ok (.return_, 1) := dk_177 (dk_at dksX8_init_0 14 rfl rfl)
abbrev cX8_kind : ByteArray := prog_7_method_2_code
def yX8_kind : MethodName := ⟨RX8, "kind", "()I"⟩
theorem dX8_kind_0 : decode cX8_kind 0 = .ok (.iconst 0, 1) := by decide +kernel
theorem dX8_kind_1 : decode cX8_kind 1 = .ok (.ireturn, 1) := by decide +kernel
theorem q94 : (Jvm.Cond.initialized "StairOnSticks$Move") ∈ lw_all := lw_g (lw_at lw_m1 21 rfl) rfl
theorem q512 : (Jvm.Cond.instanceMethod ({ cls := "StairOnSticks$Move", name := "says", desc := "(LStairOnSticks$Person;LStairOnSticks$Step;I)I" } : Jvm.MethodName)) ∈ lw_all := lw_g (lw_at lw_m2 199 rfl) rfl
theorem q513 : (Jvm.Cond.selects "StairOnSticks$Move" ({ cls := "StairOnSticks$Move", name := "says", desc := "(LStairOnSticks$Person;LStairOnSticks$Step;I)I" } : Jvm.MethodName) ({ cls := "StairOnSticks$Move", name := "says", desc := "(LStairOnSticks$Person;LStairOnSticks$Step;I)I" } : Jvm.MethodName)) ∈ lw_all := lw_g (lw_at lw_m2 200 rfl) rfl
theorem q514 : (Jvm.Cond.sameMethod "StairOnSticks$Move" "StairOnSticks$Move" "says" "(LStairOnSticks$Person;LStairOnSticks$Step;I)I") ∈ lw_all := lw_g (lw_at lw_m2 201 rfl) rfl
theorem q520 : (Jvm.Cond.code ({ cls := "StairOnSticks$Move", name := "says", desc := "(LStairOnSticks$Person;LStairOnSticks$Step;I)I" } : Jvm.MethodName) prog_7_method_7_code (4 : Nat) (Option.some Jvm.ClassFile.FieldType.int)) ∈ lw_all := lw_g (lw_at lw_m2 207 rfl) rfl
theorem q521 : (Jvm.Cond.methodLink "StairOnSticks$Move" (31 : Nat) ({ cls := "StairOnSticks$Move", name := "load", desc := "(LStairOnSticks$Person;LStairOnSticks$Step;)I" } : Jvm.MethodName)) ∈ lw_all := lw_g (lw_at lw_m2 208 rfl) rfl
theorem q522 : (Jvm.Cond.instanceMethod ({ cls := "StairOnSticks$Move", name := "load", desc := "(LStairOnSticks$Person;LStairOnSticks$Step;)I" } : Jvm.MethodName)) ∈ lw_all := lw_g (lw_at lw_m2 209 rfl) rfl
theorem q523 : (Jvm.Cond.selects "StairOnSticks$Move" ({ cls := "StairOnSticks$Move", name := "load", desc := "(LStairOnSticks$Person;LStairOnSticks$Step;)I" } : Jvm.MethodName) ({ cls := "StairOnSticks$Move", name := "load", desc := "(LStairOnSticks$Person;LStairOnSticks$Step;)I" } : Jvm.MethodName)) ∈ lw_all := lw_g (lw_at lw_m2 210 rfl) rfl
theorem q524 : (Jvm.Cond.sameMethod "StairOnSticks$Move" "StairOnSticks$Move" "load" "(LStairOnSticks$Person;LStairOnSticks$Step;)I") ∈ lw_all := lw_g (lw_at lw_m2 211 rfl) rfl
theorem q547 : (Jvm.Cond.code ({ cls := "StairOnSticks$Move", name := "load", desc := "(LStairOnSticks$Person;LStairOnSticks$Step;)I" } : Jvm.MethodName) prog_7_method_3_code (3 : Nat) (Option.some Jvm.ClassFile.FieldType.int)) ∈ lw_all := lw_g (lw_at lw_m2 234 rfl) rfl
theorem q548 : (Jvm.Cond.methodLink "StairOnSticks$Move" (16 : Nat) ({ cls := "StairOnSticks$Person", name := "weight", desc := "()I" } : Jvm.MethodName)) ∈ lw_all := lw_g (lw_at lw_m2 235 rfl) rfl
theorem q549 : (Jvm.Cond.methodLink "StairOnSticks$Move" (35 : Nat) ({ cls := "StairOnSticks$Move", name := "hands", desc := "(LStairOnSticks$Person;LStairOnSticks$Step;)I" } : Jvm.MethodName)) ∈ lw_all := lw_g (lw_at lw_m2 236 rfl) rfl
theorem q550 : (Jvm.Cond.instanceMethod ({ cls := "StairOnSticks$Move", name := "hands", desc := "(LStairOnSticks$Person;LStairOnSticks$Step;)I" } : Jvm.MethodName)) ∈ lw_all := lw_g (lw_at lw_m2 237 rfl) rfl
theorem q551 : (Jvm.Cond.selects "StairOnSticks$Move" ({ cls := "StairOnSticks$Move", name := "hands", desc := "(LStairOnSticks$Person;LStairOnSticks$Step;)I" } : Jvm.MethodName) ({ cls := "StairOnSticks$Move", name := "hands", desc := "(LStairOnSticks$Person;LStairOnSticks$Step;)I" } : Jvm.MethodName)) ∈ lw_all := lw_g (lw_at lw_m2 238 rfl) rfl
theorem q552 : (Jvm.Cond.sameMethod "StairOnSticks$Move" "StairOnSticks$Move" "hands" "(LStairOnSticks$Person;LStairOnSticks$Step;)I") ∈ lw_all := lw_g (lw_at lw_m2 239 rfl) rfl
theorem q569 : (Jvm.Cond.code ({ cls := "StairOnSticks$Move", name := "hands", desc := "(LStairOnSticks$Person;LStairOnSticks$Step;)I" } : Jvm.MethodName) prog_7_method_4_code (3 : Nat) (Option.some Jvm.ClassFile.FieldType.int)) ∈ lw_all := lw_g (lw_at lw_m3 16 rfl) rfl
theorem q570 : (Jvm.Cond.methodLink "StairOnSticks$Move" (38 : Nat) ({ cls := "StairOnSticks$Move", name := "tires", desc := "(LStairOnSticks$Person;LStairOnSticks$Step;)I" } : Jvm.MethodName)) ∈ lw_all := lw_g (lw_at lw_m3 17 rfl) rfl
theorem q571 : (Jvm.Cond.instanceMethod ({ cls := "StairOnSticks$Move", name := "tires", desc := "(LStairOnSticks$Person;LStairOnSticks$Step;)I" } : Jvm.MethodName)) ∈ lw_all := lw_g (lw_at lw_m3 18 rfl) rfl
theorem q572 : (Jvm.Cond.selects "StairOnSticks$Move" ({ cls := "StairOnSticks$Move", name := "tires", desc := "(LStairOnSticks$Person;LStairOnSticks$Step;)I" } : Jvm.MethodName) ({ cls := "StairOnSticks$Move", name := "tires", desc := "(LStairOnSticks$Person;LStairOnSticks$Step;)I" } : Jvm.MethodName)) ∈ lw_all := lw_g (lw_at lw_m3 19 rfl) rfl
theorem q573 : (Jvm.Cond.sameMethod "StairOnSticks$Move" "StairOnSticks$Move" "tires" "(LStairOnSticks$Person;LStairOnSticks$Step;)I") ∈ lw_all := lw_g (lw_at lw_m3 20 rfl) rfl
theorem q579 : (Jvm.Cond.code ({ cls := "StairOnSticks$Move", name := "tires", desc := "(LStairOnSticks$Person;LStairOnSticks$Step;)I" } : Jvm.MethodName) prog_7_method_5_code (3 : Nat) (Option.some Jvm.ClassFile.FieldType.int)) ∈ lw_all := lw_g (lw_at lw_m3 26 rfl) rfl
theorem q595 : (Jvm.Cond.methodLink "StairOnSticks$Move" (41 : Nat) ({ cls := "StairOnSticks$Move", name := "slips", desc := "(LStairOnSticks$Step;)I" } : Jvm.MethodName)) ∈ lw_all := lw_g (lw_at lw_m3 42 rfl) rfl
theorem q596 : (Jvm.Cond.instanceMethod ({ cls := "StairOnSticks$Move", name := "slips", desc := "(LStairOnSticks$Step;)I" } : Jvm.MethodName)) ∈ lw_all := lw_g (lw_at lw_m3 43 rfl) rfl
theorem q597 : (Jvm.Cond.selects "StairOnSticks$Move" ({ cls := "StairOnSticks$Move", name := "slips", desc := "(LStairOnSticks$Step;)I" } : Jvm.MethodName) ({ cls := "StairOnSticks$Move", name := "slips", desc := "(LStairOnSticks$Step;)I" } : Jvm.MethodName)) ∈ lw_all := lw_g (lw_at lw_m3 44 rfl) rfl
theorem q598 : (Jvm.Cond.sameMethod "StairOnSticks$Move" "StairOnSticks$Move" "slips" "(LStairOnSticks$Step;)I") ∈ lw_all := lw_g (lw_at lw_m3 45 rfl) rfl
theorem q603 : (Jvm.Cond.code ({ cls := "StairOnSticks$Move", name := "slips", desc := "(LStairOnSticks$Step;)I" } : Jvm.MethodName) prog_7_method_6_code (2 : Nat) (Option.some Jvm.ClassFile.FieldType.int)) ∈ lw_all := lw_g (lw_at lw_m3 50 rfl) rfl
theorem q642 : (Jvm.Cond.fieldLink "StairOnSticks$Move" (22 : Nat) "StairOnSticks$Step" "rise" "I") ∈ lw_all := lw_g (lw_at lw_m3 89 rfl) rfl
theorem q646 : (Jvm.Cond.fieldLink "StairOnSticks$Move" (27 : Nat) "StairOnSticks$Step" "wet" "Z") ∈ lw_all := lw_g (lw_at lw_m3 93 rfl) rfl
theorem q672 : (Jvm.Cond.instantiable "StairOnSticks$Move" (2 : Nat)) ∈ lw_all := lw_g (lw_at lw_m3 119 rfl) rfl
theorem q674 : (Jvm.Cond.instanceMethod ({ cls := "StairOnSticks$Move", name := "<init>", desc := "(II)V" } : Jvm.MethodName)) ∈ lw_all := lw_g (lw_at lw_m3 121 rfl) rfl
theorem q675 : (Jvm.Cond.code ({ cls := "StairOnSticks$Move", name := "<init>", desc := "(II)V" } : Jvm.MethodName) prog_7_method_1_code (3 : Nat) (Option.none : Option Jvm.ClassFile.FieldType)) ∈ lw_all := lw_g (lw_at lw_m3 122 rfl) rfl
theorem q676 : (Jvm.Cond.methodLink "StairOnSticks$Move" (1 : Nat) ({ cls := "java/lang/Object", name := "<init>", desc := "()V" } : Jvm.MethodName)) ∈ lw_all := lw_g (lw_at lw_m3 123 rfl) rfl
theorem q677 : (Jvm.Cond.fieldLink "StairOnSticks$Move" (7 : Nat) "StairOnSticks$Move" "number" "I") ∈ lw_all := lw_g (lw_at lw_m3 124 rfl) rfl
theorem q679 : (Jvm.Cond.fieldLink "StairOnSticks$Move" (13 : Nat) "StairOnSticks$Move" "a" "I") ∈ lw_all := lw_g (lw_at lw_m3 126 rfl) rfl
theorem q685 : (Jvm.Cond.laysFinal "StairOnSticks$Move" "StairOnSticks$Move" "number" "I") ∈ lw_all := lw_g (lw_at lw_m3 132 rfl) rfl
theorem q686 : (Jvm.Cond.soleField "StairOnSticks$Move" "number") ∈ lw_all := lw_g (lw_at lw_m3 133 rfl) rfl
theorem q687 : (Jvm.Cond.laysFinal "StairOnSticks$Move" "StairOnSticks$Move" "a" "I") ∈ lw_all := lw_g (lw_at lw_m3 134 rfl) rfl
theorem q688 : (Jvm.Cond.soleField "StairOnSticks$Move" "a") ∈ lw_all := lw_g (lw_at lw_m3 135 rfl) rfl
theorem q689 : (Jvm.Cond.superclass "StairOnSticks$Move" "java/lang/Object") ∈ lw_all := lw_g (lw_at lw_m3 136 rfl) rfl
theorem q1138 : (Jvm.Cond.instanceMethod ({ cls := "StairOnSticks$Move", name := "kind", desc := "()I" } : Jvm.MethodName)) ∈ lw_all := lw_g (lw_at lw_m5 105 rfl) rfl
theorem q1139 : (Jvm.Cond.selects "StairOnSticks$Move" ({ cls := "StairOnSticks$Move", name := "kind", desc := "()I" } : Jvm.MethodName) ({ cls := "StairOnSticks$Move", name := "kind", desc := "()I" } : Jvm.MethodName)) ∈ lw_all := lw_g (lw_at lw_m5 106 rfl) rfl
theorem q1140 : (Jvm.Cond.sameMethod "StairOnSticks$Move" "StairOnSticks$Move" "kind" "()I") ∈ lw_all := lw_g (lw_at lw_m5 107 rfl) rfl
theorem q1156 : (Jvm.Cond.code ({ cls := "StairOnSticks$Move", name := "kind", desc := "()I" } : Jvm.MethodName) prog_7_method_2_code (1 : Nat) (Option.some Jvm.ClassFile.FieldType.int)) ∈ lw_all := lw_g (lw_at lw_m5 123 rfl) rfl
theorem q1176 : (Jvm.Cond.unhidden "StairOnSticks$Move" "can" "(LStairOnSticks$Person;LStairOnSticks$Step;I)Z") ∈ lw_tbl := lw_at lw_m5 143 rfl
theorem q1195 : (Jvm.Cond.castable "StairOnSticks$Move" "StairOnSticks$Loads") ∈ lw_tbl := lw_at lw_m5 162 rfl
theorem q1196 : (Jvm.Cond.selects "StairOnSticks$Move" ({ cls := "StairOnSticks$Loads", name := "load", desc := "(LStairOnSticks$Person;LStairOnSticks$Step;)I" } : Jvm.MethodName) ({ cls := "StairOnSticks$Move", name := "load", desc := "(LStairOnSticks$Person;LStairOnSticks$Step;)I" } : Jvm.MethodName)) ∈ lw_all := lw_g (lw_at lw_m5 163 rfl) rfl
theorem q1197 : (Jvm.Cond.unhidden "StairOnSticks$Move" "load" "(LStairOnSticks$Person;LStairOnSticks$Step;)I") ∈ lw_tbl := lw_at lw_m5 164 rfl
theorem q1198 : (Jvm.Cond.publicMethod ({ cls := "StairOnSticks$Move", name := "load", desc := "(LStairOnSticks$Person;LStairOnSticks$Step;)I" } : Jvm.MethodName)) ∈ lw_tbl := lw_at lw_m5 165 rfl
theorem q1224 : (Jvm.Cond.selects "StairOnSticks$Move" ({ cls := "StairOnSticks$Loads", name := "tires", desc := "(LStairOnSticks$Person;LStairOnSticks$Step;)I" } : Jvm.MethodName) ({ cls := "StairOnSticks$Move", name := "tires", desc := "(LStairOnSticks$Person;LStairOnSticks$Step;)I" } : Jvm.MethodName)) ∈ lw_all := lw_g (lw_at lw_m5 191 rfl) rfl
theorem q1225 : (Jvm.Cond.unhidden "StairOnSticks$Move" "tires" "(LStairOnSticks$Person;LStairOnSticks$Step;)I") ∈ lw_tbl := lw_at lw_m5 192 rfl
theorem q1226 : (Jvm.Cond.publicMethod ({ cls := "StairOnSticks$Move", name := "tires", desc := "(LStairOnSticks$Person;LStairOnSticks$Step;)I" } : Jvm.MethodName)) ∈ lw_tbl := lw_at lw_m5 193 rfl
theorem in_X8 : ∀ w ∈ wsX80, w ∈ lw_all := lw_in wsX80 [685, 687] (by decide +kernel) (by decide +kernel)
/-! StairOnSticks$Cane -/
set_option maxRecDepth 100000
def RX9 : String := "StairOnSticks$Cane"
def TX9 : u_T := fun k => match k with
  | 0 => ("StairOnSticks$Move", "number", "I", true)
  | _ => ("StairOnSticks$Move", "a", "I", true)
def tyX9 : Nat → FieldType := fun k => match k with
  | 0 => .int
  | _ => .int
abbrev wsX90 : List Cond := u_ws RX9 TX9 2
theorem nmX9 : ∀ a, a < 2 → ∀ b, b < 2 → a ≠ b → (TX9 a).2.1 ≠ (TX9 b).2.1 := by decide +kernel
theorem tyX9_ok : ∀ k, k < 2 → parseFieldDescriptor (TX9 k).2.2.1 = some (tyX9 k) := by decide +kernel
abbrev cX9_load : ByteArray := prog_3_method_3_code
def yX9_load : MethodName := ⟨RX9, "load", "(LStairOnSticks$Person;LStairOnSticks$Step;)I"⟩
def dkwX9_load_0 : List UInt8 := [43, 182, 0, 7, 16, 10, 42, 180, 0, 13, 100, 104, 16, 20, 108, 172]
abbrev dktX9_load_0 : List UInt8 := dkwX9_load_0 ++ []
theorem dksX9_load_0 : cX9_load.data.toList.drop 0 = dktX9_load_0 := by decide +kernel
theorem dX9_load_0 : decode cX9_load 0 = .ok (.aload_n 1, 1) := dk_43 (dk_at dksX9_load_0 0 rfl rfl)
theorem dX9_load_1 : decode cX9_load 1 = .ok (.invokevirtual 7, 3) := dk_182 0 7 (dk_at dksX9_load_0 1 rfl rfl)
theorem dX9_load_4 : decode cX9_load 4 = .ok (.bipush 10, 2) := dk_16 10 (dk_at dksX9_load_0 4 rfl rfl)
theorem dX9_load_6 : decode cX9_load 6 = .ok (.aload_n 0, 1) := dk_42 (dk_at dksX9_load_0 6 rfl rfl)
theorem dX9_load_7 : decode cX9_load 7 = .ok (.getfield 13, 3) := dk_180 0 13 (dk_at dksX9_load_0 7 rfl rfl)
theorem dX9_load_10 : decode cX9_load 10 = .ok (.isub, 1) := dk_100 (dk_at dksX9_load_0 10 rfl rfl)
theorem dX9_load_11 : decode cX9_load 11 = .ok (.imul, 1) := dk_104 (dk_at dksX9_load_0 11 rfl rfl)
theorem dX9_load_12 : decode cX9_load 12 = .ok (.bipush 20, 2) := dk_16 20 (dk_at dksX9_load_0 12 rfl rfl)
theorem dX9_load_14 : decode cX9_load 14 = .ok (.idiv, 1) := dk_108 (dk_at dksX9_load_0 14 rfl rfl)
theorem dX9_load_15 : decode cX9_load 15 = .ok (.ireturn, 1) := dk_172 (dk_at dksX9_load_0 15 rfl rfl)
abbrev cX9_hands : ByteArray := prog_3_method_4_code
def yX9_hands : MethodName := ⟨RX9, "hands", "(LStairOnSticks$Person;LStairOnSticks$Step;)I"⟩
def dkwX9_hands_0 : List UInt8 := [43, 182, 0, 7, 42, 180, 0, 13, 104, 16, 10, 108, 172]
abbrev dktX9_hands_0 : List UInt8 := dkwX9_hands_0 ++ []
theorem dksX9_hands_0 : cX9_hands.data.toList.drop 0 = dktX9_hands_0 := by decide +kernel
theorem dX9_hands_0 : decode cX9_hands 0 = .ok (.aload_n 1, 1) := dk_43 (dk_at dksX9_hands_0 0 rfl rfl)
theorem dX9_hands_1 : decode cX9_hands 1 = .ok (.invokevirtual 7, 3) := dk_182 0 7 (dk_at dksX9_hands_0 1 rfl rfl)
theorem dX9_hands_4 : decode cX9_hands 4 = .ok (.aload_n 0, 1) := dk_42 (dk_at dksX9_hands_0 4 rfl rfl)
theorem dX9_hands_5 : decode cX9_hands 5 = .ok (.getfield 13, 3) := dk_180 0 13 (dk_at dksX9_hands_0 5 rfl rfl)
theorem dX9_hands_8 : decode cX9_hands 8 = .ok (.imul, 1) := dk_104 (dk_at dksX9_hands_0 8 rfl rfl)
theorem dX9_hands_9 : decode cX9_hands 9 = .ok (.bipush 10, 2) := dk_16 10 (dk_at dksX9_hands_0 9 rfl rfl)
theorem dX9_hands_11 : decode cX9_hands 11 = .ok (.idiv, 1) := dk_108 (dk_at dksX9_hands_0 11 rfl rfl)
theorem dX9_hands_12 : decode cX9_hands 12 = .ok (.ireturn, 1) := dk_172 (dk_at dksX9_hands_0 12 rfl rfl)
abbrev cX9_tires : ByteArray := prog_3_method_5_code
def yX9_tires : MethodName := ⟨RX9, "tires", "(LStairOnSticks$Person;LStairOnSticks$Step;)I"⟩
def dkwX9_tires_0 : List UInt8 := [44, 180, 0, 19, 42, 180, 0, 13, 104, 7, 108, 42, 43, 44, 183, 0, 24, 96, 172]
abbrev dktX9_tires_0 : List UInt8 := dkwX9_tires_0 ++ []
theorem dksX9_tires_0 : cX9_tires.data.toList.drop 0 = dktX9_tires_0 := by decide +kernel
theorem dX9_tires_0 : decode cX9_tires 0 = .ok (.aload_n 2, 1) := dk_44 (dk_at dksX9_tires_0 0 rfl rfl)
theorem dX9_tires_1 : decode cX9_tires 1 = .ok (.getfield 19, 3) := dk_180 0 19 (dk_at dksX9_tires_0 1 rfl rfl)
theorem dX9_tires_4 : decode cX9_tires 4 = .ok (.aload_n 0, 1) := dk_42 (dk_at dksX9_tires_0 4 rfl rfl)
theorem dX9_tires_5 : decode cX9_tires 5 = .ok (.getfield 13, 3) := dk_180 0 13 (dk_at dksX9_tires_0 5 rfl rfl)
theorem dX9_tires_8 : decode cX9_tires 8 = .ok (.imul, 1) := dk_104 (dk_at dksX9_tires_0 8 rfl rfl)
theorem dX9_tires_9 : decode cX9_tires 9 = .ok (.iconst 4, 1) := dk_7 (dk_at dksX9_tires_0 9 rfl rfl)
theorem dX9_tires_10 : decode cX9_tires 10 = .ok (.idiv, 1) := dk_108 (dk_at dksX9_tires_0 10 rfl rfl)
theorem dX9_tires_11 : decode cX9_tires 11 = .ok (.aload_n 0, 1) := dk_42 (dk_at dksX9_tires_0 11 rfl rfl)
theorem dX9_tires_12 : decode cX9_tires 12 = .ok (.aload_n 1, 1) := dk_43 (dk_at dksX9_tires_0 12 rfl rfl)
theorem dX9_tires_13 : decode cX9_tires 13 = .ok (.aload_n 2, 1) := dk_44 (dk_at dksX9_tires_0 13 rfl rfl)
theorem dX9_tires_14 : decode cX9_tires 14 = .ok (.invokespecial 24, 3) := dk_183 0 24 (dk_at dksX9_tires_0 14 rfl rfl)
theorem dX9_tires_17 : decode cX9_tires 17 = .ok (.iadd, 1) := dk_96 (dk_at dksX9_tires_0 17 rfl rfl)
theorem dX9_tires_18 : decode cX9_tires 18 = .ok (.ireturn, 1) := dk_172 (dk_at dksX9_tires_0 18 rfl rfl)
abbrev cX9_slips : ByteArray := prog_3_method_6_code
def yX9_slips : MethodName := ⟨RX9, "slips", "(LStairOnSticks$Step;)I"⟩
def dkwX9_slips_0 : List UInt8 := [42, 43, 183, 0, 28, 5, 108, 172]
abbrev dktX9_slips_0 : List UInt8 := dkwX9_slips_0 ++ []
theorem dksX9_slips_0 : cX9_slips.data.toList.drop 0 = dktX9_slips_0 := by decide +kernel
theorem dX9_slips_0 : decode cX9_slips 0 = .ok (.aload_n 0, 1) := dk_42 (dk_at dksX9_slips_0 0 rfl rfl)
theorem dX9_slips_1 : decode cX9_slips 1 = .ok (.aload_n 1, 1) := dk_43 (dk_at dksX9_slips_0 1 rfl rfl)
theorem dX9_slips_2 : decode cX9_slips 2 = .ok (.invokespecial 28, 3) := dk_183 0 28 (dk_at dksX9_slips_0 2 rfl rfl)
theorem dX9_slips_5 : decode cX9_slips 5 = .ok (.iconst 2, 1) := dk_5 (dk_at dksX9_slips_0 5 rfl rfl)
theorem dX9_slips_6 : decode cX9_slips 6 = .ok (.idiv, 1) := dk_108 (dk_at dksX9_slips_0 6 rfl rfl)
theorem dX9_slips_7 : decode cX9_slips 7 = .ok (.ireturn, 1) := dk_172 (dk_at dksX9_slips_0 7 rfl rfl)
abbrev cX9_init : ByteArray := prog_3_method_1_code
def yX9_init : MethodName := ⟨RX9, "<init>", "(II)V"⟩
def dkwX9_init_0 : List UInt8 := [42, 27, 28, 183, 0, 1, 177]
abbrev dktX9_init_0 : List UInt8 := dkwX9_init_0 ++ []
theorem dksX9_init_0 : cX9_init.data.toList.drop 0 = dktX9_init_0 := by decide +kernel
theorem dX9_init_0 : decode cX9_init 0 = .ok (.aload_n 0, 1) := dk_42 (dk_at dksX9_init_0 0 rfl rfl)
theorem dX9_init_1 : decode cX9_init 1 = .ok (.iload_n 1, 1) := dk_27 (dk_at dksX9_init_0 1 rfl rfl)
theorem dX9_init_2 : decode cX9_init 2 = .ok (.iload_n 2, 1) := dk_28 (dk_at dksX9_init_0 2 rfl rfl)
theorem dX9_init_3 : decode cX9_init 3 = .ok (.invokespecial 1, 3) := dk_183 0 1 (dk_at dksX9_init_0 3 rfl rfl)
theorem dX9_init_6 : decode cX9_init 6 = .ok (.return_, 1) := dk_177 (dk_at dksX9_init_0 6 rfl rfl)
abbrev cX9_kind : ByteArray := prog_3_method_2_code
def yX9_kind : MethodName := ⟨RX9, "kind", "()I"⟩
theorem dX9_kind_0 : decode cX9_kind 0 = .ok (.iconst 1, 1) := by decide +kernel
theorem dX9_kind_1 : decode cX9_kind 1 = .ok (.ireturn, 1) := by decide +kernel
theorem q95 : (Jvm.Cond.initialized "StairOnSticks$Cane") ∈ lw_all := lw_g (lw_at lw_m1 22 rfl) rfl
theorem q515 : (Jvm.Cond.selects "StairOnSticks$Cane" ({ cls := "StairOnSticks$Move", name := "says", desc := "(LStairOnSticks$Person;LStairOnSticks$Step;I)I" } : Jvm.MethodName) ({ cls := "StairOnSticks$Move", name := "says", desc := "(LStairOnSticks$Person;LStairOnSticks$Step;I)I" } : Jvm.MethodName)) ∈ lw_all := lw_g (lw_at lw_m2 202 rfl) rfl
theorem q525 : (Jvm.Cond.selects "StairOnSticks$Cane" ({ cls := "StairOnSticks$Move", name := "load", desc := "(LStairOnSticks$Person;LStairOnSticks$Step;)I" } : Jvm.MethodName) ({ cls := "StairOnSticks$Cane", name := "load", desc := "(LStairOnSticks$Person;LStairOnSticks$Step;)I" } : Jvm.MethodName)) ∈ lw_all := lw_g (lw_at lw_m2 212 rfl) rfl
theorem q526 : (Jvm.Cond.instanceMethod ({ cls := "StairOnSticks$Cane", name := "load", desc := "(LStairOnSticks$Person;LStairOnSticks$Step;)I" } : Jvm.MethodName)) ∈ lw_all := lw_g (lw_at lw_m2 213 rfl) rfl
theorem q527 : (Jvm.Cond.code ({ cls := "StairOnSticks$Cane", name := "load", desc := "(LStairOnSticks$Person;LStairOnSticks$Step;)I" } : Jvm.MethodName) prog_3_method_3_code (3 : Nat) (Option.some Jvm.ClassFile.FieldType.int)) ∈ lw_all := lw_g (lw_at lw_m2 214 rfl) rfl
theorem q528 : (Jvm.Cond.methodLink "StairOnSticks$Cane" (7 : Nat) ({ cls := "StairOnSticks$Person", name := "weight", desc := "()I" } : Jvm.MethodName)) ∈ lw_all := lw_g (lw_at lw_m2 215 rfl) rfl
theorem q553 : (Jvm.Cond.selects "StairOnSticks$Cane" ({ cls := "StairOnSticks$Move", name := "hands", desc := "(LStairOnSticks$Person;LStairOnSticks$Step;)I" } : Jvm.MethodName) ({ cls := "StairOnSticks$Cane", name := "hands", desc := "(LStairOnSticks$Person;LStairOnSticks$Step;)I" } : Jvm.MethodName)) ∈ lw_all := lw_g (lw_at lw_m3 0 rfl) rfl
theorem q554 : (Jvm.Cond.instanceMethod ({ cls := "StairOnSticks$Cane", name := "hands", desc := "(LStairOnSticks$Person;LStairOnSticks$Step;)I" } : Jvm.MethodName)) ∈ lw_all := lw_g (lw_at lw_m3 1 rfl) rfl
theorem q555 : (Jvm.Cond.code ({ cls := "StairOnSticks$Cane", name := "hands", desc := "(LStairOnSticks$Person;LStairOnSticks$Step;)I" } : Jvm.MethodName) prog_3_method_4_code (3 : Nat) (Option.some Jvm.ClassFile.FieldType.int)) ∈ lw_all := lw_g (lw_at lw_m3 2 rfl) rfl
theorem q574 : (Jvm.Cond.selects "StairOnSticks$Cane" ({ cls := "StairOnSticks$Move", name := "tires", desc := "(LStairOnSticks$Person;LStairOnSticks$Step;)I" } : Jvm.MethodName) ({ cls := "StairOnSticks$Cane", name := "tires", desc := "(LStairOnSticks$Person;LStairOnSticks$Step;)I" } : Jvm.MethodName)) ∈ lw_all := lw_g (lw_at lw_m3 21 rfl) rfl
theorem q575 : (Jvm.Cond.instanceMethod ({ cls := "StairOnSticks$Cane", name := "tires", desc := "(LStairOnSticks$Person;LStairOnSticks$Step;)I" } : Jvm.MethodName)) ∈ lw_all := lw_g (lw_at lw_m3 22 rfl) rfl
theorem q576 : (Jvm.Cond.code ({ cls := "StairOnSticks$Cane", name := "tires", desc := "(LStairOnSticks$Person;LStairOnSticks$Step;)I" } : Jvm.MethodName) prog_3_method_5_code (3 : Nat) (Option.some Jvm.ClassFile.FieldType.int)) ∈ lw_all := lw_g (lw_at lw_m3 23 rfl) rfl
theorem q577 : (Jvm.Cond.methodLink "StairOnSticks$Cane" (24 : Nat) ({ cls := "StairOnSticks$Move", name := "tires", desc := "(LStairOnSticks$Person;LStairOnSticks$Step;)I" } : Jvm.MethodName)) ∈ lw_all := lw_g (lw_at lw_m3 24 rfl) rfl
theorem q578 : (Jvm.Cond.superclass "StairOnSticks$Cane" "StairOnSticks$Move") ∈ lw_all := lw_g (lw_at lw_m3 25 rfl) rfl
theorem q599 : (Jvm.Cond.selects "StairOnSticks$Cane" ({ cls := "StairOnSticks$Move", name := "slips", desc := "(LStairOnSticks$Step;)I" } : Jvm.MethodName) ({ cls := "StairOnSticks$Cane", name := "slips", desc := "(LStairOnSticks$Step;)I" } : Jvm.MethodName)) ∈ lw_all := lw_g (lw_at lw_m3 46 rfl) rfl
theorem q600 : (Jvm.Cond.instanceMethod ({ cls := "StairOnSticks$Cane", name := "slips", desc := "(LStairOnSticks$Step;)I" } : Jvm.MethodName)) ∈ lw_all := lw_g (lw_at lw_m3 47 rfl) rfl
theorem q601 : (Jvm.Cond.code ({ cls := "StairOnSticks$Cane", name := "slips", desc := "(LStairOnSticks$Step;)I" } : Jvm.MethodName) prog_3_method_6_code (2 : Nat) (Option.some Jvm.ClassFile.FieldType.int)) ∈ lw_all := lw_g (lw_at lw_m3 48 rfl) rfl
theorem q602 : (Jvm.Cond.methodLink "StairOnSticks$Cane" (28 : Nat) ({ cls := "StairOnSticks$Move", name := "slips", desc := "(LStairOnSticks$Step;)I" } : Jvm.MethodName)) ∈ lw_all := lw_g (lw_at lw_m3 49 rfl) rfl
theorem q640 : (Jvm.Cond.fieldLink "StairOnSticks$Cane" (19 : Nat) "StairOnSticks$Step" "rise" "I") ∈ lw_all := lw_g (lw_at lw_m3 87 rfl) rfl
theorem q680 : (Jvm.Cond.fieldLink "StairOnSticks$Cane" (13 : Nat) "StairOnSticks$Cane" "a" "I") ∈ lw_all := lw_g (lw_at lw_m3 127 rfl) rfl
theorem q681 : (Jvm.Cond.sameField "StairOnSticks$Cane" "StairOnSticks$Move" "a" "I") ∈ lw_all := lw_g (lw_at lw_m3 128 rfl) rfl
theorem q690 : (Jvm.Cond.instantiable "StairOnSticks$Cane" (2 : Nat)) ∈ lw_all := lw_g (lw_at lw_m3 137 rfl) rfl
theorem q692 : (Jvm.Cond.instanceMethod ({ cls := "StairOnSticks$Cane", name := "<init>", desc := "(II)V" } : Jvm.MethodName)) ∈ lw_all := lw_g (lw_at lw_m3 139 rfl) rfl
theorem q693 : (Jvm.Cond.code ({ cls := "StairOnSticks$Cane", name := "<init>", desc := "(II)V" } : Jvm.MethodName) prog_3_method_1_code (3 : Nat) (Option.none : Option Jvm.ClassFile.FieldType)) ∈ lw_all := lw_g (lw_at lw_m3 140 rfl) rfl
theorem q694 : (Jvm.Cond.methodLink "StairOnSticks$Cane" (1 : Nat) ({ cls := "StairOnSticks$Move", name := "<init>", desc := "(II)V" } : Jvm.MethodName)) ∈ lw_all := lw_g (lw_at lw_m3 141 rfl) rfl
theorem q695 : (Jvm.Cond.laysFinal "StairOnSticks$Cane" "StairOnSticks$Move" "number" "I") ∈ lw_all := lw_g (lw_at lw_m3 142 rfl) rfl
theorem q696 : (Jvm.Cond.laysFinal "StairOnSticks$Cane" "StairOnSticks$Move" "a" "I") ∈ lw_all := lw_g (lw_at lw_m3 143 rfl) rfl
theorem q1141 : (Jvm.Cond.selects "StairOnSticks$Cane" ({ cls := "StairOnSticks$Move", name := "kind", desc := "()I" } : Jvm.MethodName) ({ cls := "StairOnSticks$Cane", name := "kind", desc := "()I" } : Jvm.MethodName)) ∈ lw_all := lw_g (lw_at lw_m5 108 rfl) rfl
theorem q1142 : (Jvm.Cond.instanceMethod ({ cls := "StairOnSticks$Cane", name := "kind", desc := "()I" } : Jvm.MethodName)) ∈ lw_all := lw_g (lw_at lw_m5 109 rfl) rfl
theorem q1143 : (Jvm.Cond.code ({ cls := "StairOnSticks$Cane", name := "kind", desc := "()I" } : Jvm.MethodName) prog_3_method_2_code (1 : Nat) (Option.some Jvm.ClassFile.FieldType.int)) ∈ lw_all := lw_g (lw_at lw_m5 110 rfl) rfl
theorem q1174 : (Jvm.Cond.unhidden "StairOnSticks$Cane" "can" "(LStairOnSticks$Person;LStairOnSticks$Step;I)Z") ∈ lw_tbl := lw_at lw_m5 141 rfl
theorem q1187 : (Jvm.Cond.castable "StairOnSticks$Cane" "StairOnSticks$Loads") ∈ lw_tbl := lw_at lw_m5 154 rfl
theorem q1188 : (Jvm.Cond.selects "StairOnSticks$Cane" ({ cls := "StairOnSticks$Loads", name := "load", desc := "(LStairOnSticks$Person;LStairOnSticks$Step;)I" } : Jvm.MethodName) ({ cls := "StairOnSticks$Cane", name := "load", desc := "(LStairOnSticks$Person;LStairOnSticks$Step;)I" } : Jvm.MethodName)) ∈ lw_all := lw_g (lw_at lw_m5 155 rfl) rfl
theorem q1189 : (Jvm.Cond.unhidden "StairOnSticks$Cane" "load" "(LStairOnSticks$Person;LStairOnSticks$Step;)I") ∈ lw_tbl := lw_at lw_m5 156 rfl
theorem q1190 : (Jvm.Cond.publicMethod ({ cls := "StairOnSticks$Cane", name := "load", desc := "(LStairOnSticks$Person;LStairOnSticks$Step;)I" } : Jvm.MethodName)) ∈ lw_tbl := lw_at lw_m5 157 rfl
theorem q1218 : (Jvm.Cond.selects "StairOnSticks$Cane" ({ cls := "StairOnSticks$Loads", name := "tires", desc := "(LStairOnSticks$Person;LStairOnSticks$Step;)I" } : Jvm.MethodName) ({ cls := "StairOnSticks$Cane", name := "tires", desc := "(LStairOnSticks$Person;LStairOnSticks$Step;)I" } : Jvm.MethodName)) ∈ lw_all := lw_g (lw_at lw_m5 185 rfl) rfl
theorem q1219 : (Jvm.Cond.unhidden "StairOnSticks$Cane" "tires" "(LStairOnSticks$Person;LStairOnSticks$Step;)I") ∈ lw_tbl := lw_at lw_m5 186 rfl
theorem q1220 : (Jvm.Cond.publicMethod ({ cls := "StairOnSticks$Cane", name := "tires", desc := "(LStairOnSticks$Person;LStairOnSticks$Step;)I" } : Jvm.MethodName)) ∈ lw_tbl := lw_at lw_m5 187 rfl
theorem q2030 : (Jvm.Cond.sameMethod "StairOnSticks$Cane" "StairOnSticks$Cane" "load" "(LStairOnSticks$Person;LStairOnSticks$Step;)I") ∈ lw_all := lw_g (lw_at lw_m9 37 rfl) rfl
theorem q2031 : (Jvm.Cond.sameMethod "StairOnSticks$Cane" "StairOnSticks$Cane" "tires" "(LStairOnSticks$Person;LStairOnSticks$Step;)I") ∈ lw_all := lw_g (lw_at lw_m9 38 rfl) rfl
theorem q2033 : (Jvm.Cond.sameMethod "StairOnSticks$Cane" "StairOnSticks$Cane" "slips" "(LStairOnSticks$Step;)I") ∈ lw_all := lw_g (lw_at lw_m9 40 rfl) rfl
theorem q2041 : (Jvm.Cond.castable "StairOnSticks$Cane" "StairOnSticks$Move") ∈ lw_tbl := lw_at lw_m9 48 rfl
theorem in_X9 : ∀ w ∈ wsX90, w ∈ lw_all := lw_in wsX90 [695, 696] (by decide +kernel) (by decide +kernel)
/-! StairOnSticks$Swung -/
set_option maxRecDepth 100000
def RX10 : String := "StairOnSticks$Swung"
def TX10 : u_T := fun k => match k with
  | 0 => ("StairOnSticks$Move", "number", "I", true)
  | _ => ("StairOnSticks$Move", "a", "I", true)
def tyX10 : Nat → FieldType := fun k => match k with
  | 0 => .int
  | _ => .int
abbrev wsX100 : List Cond := u_ws RX10 TX10 2
theorem nmX10 : ∀ a, a < 2 → ∀ b, b < 2 → a ≠ b → (TX10 a).2.1 ≠ (TX10 b).2.1 := by decide +kernel
theorem tyX10_ok : ∀ k, k < 2 → parseFieldDescriptor (TX10 k).2.2.1 = some (tyX10 k) := by decide +kernel
abbrev cX10_load : ByteArray := prog_16_method_3_code
def yX10_load : MethodName := ⟨RX10, "load", "(LStairOnSticks$Person;LStairOnSticks$Step;)I"⟩
theorem dX10_load_0 : decode cX10_load 0 = .ok (.iconst 0, 1) := by decide +kernel
theorem dX10_load_1 : decode cX10_load 1 = .ok (.ireturn, 1) := by decide +kernel
abbrev cX10_hands : ByteArray := prog_16_method_4_code
def yX10_hands : MethodName := ⟨RX10, "hands", "(LStairOnSticks$Person;LStairOnSticks$Step;)I"⟩
theorem dX10_hands_0 : decode cX10_hands 0 = .ok (.aload_n 1, 1) := by decide +kernel
theorem dX10_hands_1 : decode cX10_hands 1 = .ok (.invokevirtual 7, 3) := by decide +kernel
theorem dX10_hands_4 : decode cX10_hands 4 = .ok (.ireturn, 1) := by decide +kernel
abbrev cX10_tires : ByteArray := prog_16_method_5_code
def yX10_tires : MethodName := ⟨RX10, "tires", "(LStairOnSticks$Person;LStairOnSticks$Step;)I"⟩
def dkwX10_tires_0 : List UInt8 := [5, 42, 43, 44, 183, 0, 13, 104, 172]
abbrev dktX10_tires_0 : List UInt8 := dkwX10_tires_0 ++ []
theorem dksX10_tires_0 : cX10_tires.data.toList.drop 0 = dktX10_tires_0 := by decide +kernel
theorem dX10_tires_0 : decode cX10_tires 0 = .ok (.iconst 2, 1) := dk_5 (dk_at dksX10_tires_0 0 rfl rfl)
theorem dX10_tires_1 : decode cX10_tires 1 = .ok (.aload_n 0, 1) := dk_42 (dk_at dksX10_tires_0 1 rfl rfl)
theorem dX10_tires_2 : decode cX10_tires 2 = .ok (.aload_n 1, 1) := dk_43 (dk_at dksX10_tires_0 2 rfl rfl)
theorem dX10_tires_3 : decode cX10_tires 3 = .ok (.aload_n 2, 1) := dk_44 (dk_at dksX10_tires_0 3 rfl rfl)
theorem dX10_tires_4 : decode cX10_tires 4 = .ok (.invokespecial 13, 3) := dk_183 0 13 (dk_at dksX10_tires_0 4 rfl rfl)
theorem dX10_tires_7 : decode cX10_tires 7 = .ok (.imul, 1) := dk_104 (dk_at dksX10_tires_0 7 rfl rfl)
theorem dX10_tires_8 : decode cX10_tires 8 = .ok (.ireturn, 1) := dk_172 (dk_at dksX10_tires_0 8 rfl rfl)
abbrev cX10_slips : ByteArray := prog_16_method_6_code
def yX10_slips : MethodName := ⟨RX10, "slips", "(LStairOnSticks$Step;)I"⟩
def dkwX10_slips_0 : List UInt8 := [42, 43, 183, 0, 17, 8, 96, 172]
abbrev dktX10_slips_0 : List UInt8 := dkwX10_slips_0 ++ []
theorem dksX10_slips_0 : cX10_slips.data.toList.drop 0 = dktX10_slips_0 := by decide +kernel
theorem dX10_slips_0 : decode cX10_slips 0 = .ok (.aload_n 0, 1) := dk_42 (dk_at dksX10_slips_0 0 rfl rfl)
theorem dX10_slips_1 : decode cX10_slips 1 = .ok (.aload_n 1, 1) := dk_43 (dk_at dksX10_slips_0 1 rfl rfl)
theorem dX10_slips_2 : decode cX10_slips 2 = .ok (.invokespecial 17, 3) := dk_183 0 17 (dk_at dksX10_slips_0 2 rfl rfl)
theorem dX10_slips_5 : decode cX10_slips 5 = .ok (.iconst 5, 1) := dk_8 (dk_at dksX10_slips_0 5 rfl rfl)
theorem dX10_slips_6 : decode cX10_slips 6 = .ok (.iadd, 1) := dk_96 (dk_at dksX10_slips_0 6 rfl rfl)
theorem dX10_slips_7 : decode cX10_slips 7 = .ok (.ireturn, 1) := dk_172 (dk_at dksX10_slips_0 7 rfl rfl)
abbrev cX10_init : ByteArray := prog_16_method_1_code
def yX10_init : MethodName := ⟨RX10, "<init>", "(II)V"⟩
def dkwX10_init_0 : List UInt8 := [42, 27, 28, 183, 0, 1, 177]
abbrev dktX10_init_0 : List UInt8 := dkwX10_init_0 ++ []
theorem dksX10_init_0 : cX10_init.data.toList.drop 0 = dktX10_init_0 := by decide +kernel
theorem dX10_init_0 : decode cX10_init 0 = .ok (.aload_n 0, 1) := dk_42 (dk_at dksX10_init_0 0 rfl rfl)
theorem dX10_init_1 : decode cX10_init 1 = .ok (.iload_n 1, 1) := dk_27 (dk_at dksX10_init_0 1 rfl rfl)
theorem dX10_init_2 : decode cX10_init 2 = .ok (.iload_n 2, 1) := dk_28 (dk_at dksX10_init_0 2 rfl rfl)
theorem dX10_init_3 : decode cX10_init 3 = .ok (.invokespecial 1, 3) := dk_183 0 1 (dk_at dksX10_init_0 3 rfl rfl)
theorem dX10_init_6 : decode cX10_init 6 = .ok (.return_, 1) := dk_177 (dk_at dksX10_init_0 6 rfl rfl)
abbrev cX10_kind : ByteArray := prog_16_method_2_code
def yX10_kind : MethodName := ⟨RX10, "kind", "()I"⟩
theorem dX10_kind_0 : decode cX10_kind 0 = .ok (.iconst 2, 1) := by decide +kernel
theorem dX10_kind_1 : decode cX10_kind 1 = .ok (.ireturn, 1) := by decide +kernel
theorem q96 : (Jvm.Cond.initialized "StairOnSticks$Swung") ∈ lw_all := lw_g (lw_at lw_m1 23 rfl) rfl
theorem q519 : (Jvm.Cond.selects "StairOnSticks$Swung" ({ cls := "StairOnSticks$Move", name := "says", desc := "(LStairOnSticks$Person;LStairOnSticks$Step;I)I" } : Jvm.MethodName) ({ cls := "StairOnSticks$Move", name := "says", desc := "(LStairOnSticks$Person;LStairOnSticks$Step;I)I" } : Jvm.MethodName)) ∈ lw_all := lw_g (lw_at lw_m2 206 rfl) rfl
theorem q533 : (Jvm.Cond.instanceMethod ({ cls := "StairOnSticks$Swung", name := "load", desc := "(LStairOnSticks$Person;LStairOnSticks$Step;)I" } : Jvm.MethodName)) ∈ lw_all := lw_g (lw_at lw_m2 220 rfl) rfl
theorem q534 : (Jvm.Cond.code ({ cls := "StairOnSticks$Swung", name := "load", desc := "(LStairOnSticks$Person;LStairOnSticks$Step;)I" } : Jvm.MethodName) prog_16_method_3_code (3 : Nat) (Option.some Jvm.ClassFile.FieldType.int)) ∈ lw_all := lw_g (lw_at lw_m2 221 rfl) rfl
theorem q546 : (Jvm.Cond.selects "StairOnSticks$Swung" ({ cls := "StairOnSticks$Move", name := "load", desc := "(LStairOnSticks$Person;LStairOnSticks$Step;)I" } : Jvm.MethodName) ({ cls := "StairOnSticks$Swung", name := "load", desc := "(LStairOnSticks$Person;LStairOnSticks$Step;)I" } : Jvm.MethodName)) ∈ lw_all := lw_g (lw_at lw_m2 233 rfl) rfl
theorem q565 : (Jvm.Cond.selects "StairOnSticks$Swung" ({ cls := "StairOnSticks$Move", name := "hands", desc := "(LStairOnSticks$Person;LStairOnSticks$Step;)I" } : Jvm.MethodName) ({ cls := "StairOnSticks$Swung", name := "hands", desc := "(LStairOnSticks$Person;LStairOnSticks$Step;)I" } : Jvm.MethodName)) ∈ lw_all := lw_g (lw_at lw_m3 12 rfl) rfl
theorem q566 : (Jvm.Cond.instanceMethod ({ cls := "StairOnSticks$Swung", name := "hands", desc := "(LStairOnSticks$Person;LStairOnSticks$Step;)I" } : Jvm.MethodName)) ∈ lw_all := lw_g (lw_at lw_m3 13 rfl) rfl
theorem q567 : (Jvm.Cond.code ({ cls := "StairOnSticks$Swung", name := "hands", desc := "(LStairOnSticks$Person;LStairOnSticks$Step;)I" } : Jvm.MethodName) prog_16_method_4_code (3 : Nat) (Option.some Jvm.ClassFile.FieldType.int)) ∈ lw_all := lw_g (lw_at lw_m3 14 rfl) rfl
theorem q568 : (Jvm.Cond.methodLink "StairOnSticks$Swung" (7 : Nat) ({ cls := "StairOnSticks$Person", name := "weight", desc := "()I" } : Jvm.MethodName)) ∈ lw_all := lw_g (lw_at lw_m3 15 rfl) rfl
theorem q590 : (Jvm.Cond.selects "StairOnSticks$Swung" ({ cls := "StairOnSticks$Move", name := "tires", desc := "(LStairOnSticks$Person;LStairOnSticks$Step;)I" } : Jvm.MethodName) ({ cls := "StairOnSticks$Swung", name := "tires", desc := "(LStairOnSticks$Person;LStairOnSticks$Step;)I" } : Jvm.MethodName)) ∈ lw_all := lw_g (lw_at lw_m3 37 rfl) rfl
theorem q591 : (Jvm.Cond.instanceMethod ({ cls := "StairOnSticks$Swung", name := "tires", desc := "(LStairOnSticks$Person;LStairOnSticks$Step;)I" } : Jvm.MethodName)) ∈ lw_all := lw_g (lw_at lw_m3 38 rfl) rfl
theorem q592 : (Jvm.Cond.code ({ cls := "StairOnSticks$Swung", name := "tires", desc := "(LStairOnSticks$Person;LStairOnSticks$Step;)I" } : Jvm.MethodName) prog_16_method_5_code (3 : Nat) (Option.some Jvm.ClassFile.FieldType.int)) ∈ lw_all := lw_g (lw_at lw_m3 39 rfl) rfl
theorem q593 : (Jvm.Cond.methodLink "StairOnSticks$Swung" (13 : Nat) ({ cls := "StairOnSticks$Cane", name := "tires", desc := "(LStairOnSticks$Person;LStairOnSticks$Step;)I" } : Jvm.MethodName)) ∈ lw_all := lw_g (lw_at lw_m3 40 rfl) rfl
theorem q594 : (Jvm.Cond.superclass "StairOnSticks$Swung" "StairOnSticks$Cane") ∈ lw_all := lw_g (lw_at lw_m3 41 rfl) rfl
theorem q609 : (Jvm.Cond.instanceMethod ({ cls := "StairOnSticks$Swung", name := "slips", desc := "(LStairOnSticks$Step;)I" } : Jvm.MethodName)) ∈ lw_all := lw_g (lw_at lw_m3 56 rfl) rfl
theorem q610 : (Jvm.Cond.code ({ cls := "StairOnSticks$Swung", name := "slips", desc := "(LStairOnSticks$Step;)I" } : Jvm.MethodName) prog_16_method_6_code (2 : Nat) (Option.some Jvm.ClassFile.FieldType.int)) ∈ lw_all := lw_g (lw_at lw_m3 57 rfl) rfl
theorem q611 : (Jvm.Cond.methodLink "StairOnSticks$Swung" (17 : Nat) ({ cls := "StairOnSticks$Cane", name := "slips", desc := "(LStairOnSticks$Step;)I" } : Jvm.MethodName)) ∈ lw_all := lw_g (lw_at lw_m3 58 rfl) rfl
theorem q619 : (Jvm.Cond.selects "StairOnSticks$Swung" ({ cls := "StairOnSticks$Move", name := "slips", desc := "(LStairOnSticks$Step;)I" } : Jvm.MethodName) ({ cls := "StairOnSticks$Swung", name := "slips", desc := "(LStairOnSticks$Step;)I" } : Jvm.MethodName)) ∈ lw_all := lw_g (lw_at lw_m3 66 rfl) rfl
theorem q697 : (Jvm.Cond.instantiable "StairOnSticks$Swung" (2 : Nat)) ∈ lw_all := lw_g (lw_at lw_m3 144 rfl) rfl
theorem q699 : (Jvm.Cond.instanceMethod ({ cls := "StairOnSticks$Swung", name := "<init>", desc := "(II)V" } : Jvm.MethodName)) ∈ lw_all := lw_g (lw_at lw_m3 146 rfl) rfl
theorem q700 : (Jvm.Cond.code ({ cls := "StairOnSticks$Swung", name := "<init>", desc := "(II)V" } : Jvm.MethodName) prog_16_method_1_code (3 : Nat) (Option.none : Option Jvm.ClassFile.FieldType)) ∈ lw_all := lw_g (lw_at lw_m3 147 rfl) rfl
theorem q701 : (Jvm.Cond.methodLink "StairOnSticks$Swung" (1 : Nat) ({ cls := "StairOnSticks$Cane", name := "<init>", desc := "(II)V" } : Jvm.MethodName)) ∈ lw_all := lw_g (lw_at lw_m3 148 rfl) rfl
theorem q702 : (Jvm.Cond.laysFinal "StairOnSticks$Swung" "StairOnSticks$Move" "number" "I") ∈ lw_all := lw_g (lw_at lw_m3 149 rfl) rfl
theorem q703 : (Jvm.Cond.laysFinal "StairOnSticks$Swung" "StairOnSticks$Move" "a" "I") ∈ lw_all := lw_g (lw_at lw_m3 150 rfl) rfl
theorem q1153 : (Jvm.Cond.selects "StairOnSticks$Swung" ({ cls := "StairOnSticks$Move", name := "kind", desc := "()I" } : Jvm.MethodName) ({ cls := "StairOnSticks$Swung", name := "kind", desc := "()I" } : Jvm.MethodName)) ∈ lw_all := lw_g (lw_at lw_m5 120 rfl) rfl
theorem q1154 : (Jvm.Cond.instanceMethod ({ cls := "StairOnSticks$Swung", name := "kind", desc := "()I" } : Jvm.MethodName)) ∈ lw_all := lw_g (lw_at lw_m5 121 rfl) rfl
theorem q1155 : (Jvm.Cond.code ({ cls := "StairOnSticks$Swung", name := "kind", desc := "()I" } : Jvm.MethodName) prog_16_method_2_code (1 : Nat) (Option.some Jvm.ClassFile.FieldType.int)) ∈ lw_all := lw_g (lw_at lw_m5 122 rfl) rfl
theorem q1179 : (Jvm.Cond.unhidden "StairOnSticks$Swung" "can" "(LStairOnSticks$Person;LStairOnSticks$Step;I)Z") ∈ lw_tbl := lw_at lw_m5 146 rfl
theorem q1194 : (Jvm.Cond.publicMethod ({ cls := "StairOnSticks$Swung", name := "load", desc := "(LStairOnSticks$Person;LStairOnSticks$Step;)I" } : Jvm.MethodName)) ∈ lw_tbl := lw_at lw_m5 161 rfl
theorem q1207 : (Jvm.Cond.castable "StairOnSticks$Swung" "StairOnSticks$Loads") ∈ lw_tbl := lw_at lw_m5 174 rfl
theorem q1208 : (Jvm.Cond.selects "StairOnSticks$Swung" ({ cls := "StairOnSticks$Loads", name := "load", desc := "(LStairOnSticks$Person;LStairOnSticks$Step;)I" } : Jvm.MethodName) ({ cls := "StairOnSticks$Swung", name := "load", desc := "(LStairOnSticks$Person;LStairOnSticks$Step;)I" } : Jvm.MethodName)) ∈ lw_all := lw_g (lw_at lw_m5 175 rfl) rfl
theorem q1209 : (Jvm.Cond.unhidden "StairOnSticks$Swung" "load" "(LStairOnSticks$Person;LStairOnSticks$Step;)I") ∈ lw_tbl := lw_at lw_m5 176 rfl
theorem q1233 : (Jvm.Cond.selects "StairOnSticks$Swung" ({ cls := "StairOnSticks$Loads", name := "tires", desc := "(LStairOnSticks$Person;LStairOnSticks$Step;)I" } : Jvm.MethodName) ({ cls := "StairOnSticks$Swung", name := "tires", desc := "(LStairOnSticks$Person;LStairOnSticks$Step;)I" } : Jvm.MethodName)) ∈ lw_all := lw_g (lw_at lw_m5 200 rfl) rfl
theorem q1234 : (Jvm.Cond.unhidden "StairOnSticks$Swung" "tires" "(LStairOnSticks$Person;LStairOnSticks$Step;)I") ∈ lw_tbl := lw_at lw_m5 201 rfl
theorem q1235 : (Jvm.Cond.publicMethod ({ cls := "StairOnSticks$Swung", name := "tires", desc := "(LStairOnSticks$Person;LStairOnSticks$Step;)I" } : Jvm.MethodName)) ∈ lw_tbl := lw_at lw_m5 202 rfl
theorem q2032 : (Jvm.Cond.sameMethod "StairOnSticks$Swung" "StairOnSticks$Swung" "slips" "(LStairOnSticks$Step;)I") ∈ lw_all := lw_g (lw_at lw_m9 39 rfl) rfl
theorem q2045 : (Jvm.Cond.castable "StairOnSticks$Swung" "StairOnSticks$Move") ∈ lw_tbl := lw_at lw_m9 52 rfl
theorem q2048 : (Jvm.Cond.castable "StairOnSticks$Swung" "StairOnSticks$Cane") ∈ lw_tbl := lw_at lw_m9 55 rfl
theorem in_X10 : ∀ w ∈ wsX100, w ∈ lw_all := lw_in wsX100 [702, 703] (by decide +kernel) (by decide +kernel)
/-! StairOnSticks$Railed -/
set_option maxRecDepth 100000
def RX11 : String := "StairOnSticks$Railed"
def TX11 : u_T := fun k => match k with
  | 0 => ("StairOnSticks$Move", "number", "I", true)
  | _ => ("StairOnSticks$Move", "a", "I", true)
def tyX11 : Nat → FieldType := fun k => match k with
  | 0 => .int
  | _ => .int
abbrev wsX110 : List Cond := u_ws RX11 TX11 2
theorem nmX11 : ∀ a, a < 2 → ∀ b, b < 2 → a ≠ b → (TX11 a).2.1 ≠ (TX11 b).2.1 := by decide +kernel
theorem tyX11_ok : ∀ k, k < 2 → parseFieldDescriptor (TX11 k).2.2.1 = some (tyX11 k) := by decide +kernel
abbrev cX11_load : ByteArray := prog_9_method_3_code
def yX11_load : MethodName := ⟨RX11, "load", "(LStairOnSticks$Person;LStairOnSticks$Step;)I"⟩
def dkwX11_load_1 : List UInt8 := [167, 0, 4, 29, 172]
abbrev dktX11_load_1 : List UInt8 := dkwX11_load_1 ++ []
def dkwX11_load_0 : List UInt8 := [42, 43, 44, 183, 0, 7, 62, 44, 180, 0, 11, 153, 0, 16, 3, 29, 42, 180, 0, 17, 100, 184, 0, 23]
abbrev dktX11_load_0 : List UInt8 := dkwX11_load_0 ++ dktX11_load_1
theorem dksX11_load_0 : cX11_load.data.toList.drop 0 = dktX11_load_0 := by decide +kernel
theorem dksX11_load_1 : cX11_load.data.toList.drop 24 = dktX11_load_1 := dk_seg dksX11_load_0 24 rfl rfl
theorem dX11_load_0 : decode cX11_load 0 = .ok (.aload_n 0, 1) := dk_42 (dk_at dksX11_load_0 0 rfl rfl)
theorem dX11_load_1 : decode cX11_load 1 = .ok (.aload_n 1, 1) := dk_43 (dk_at dksX11_load_0 1 rfl rfl)
theorem dX11_load_2 : decode cX11_load 2 = .ok (.aload_n 2, 1) := dk_44 (dk_at dksX11_load_0 2 rfl rfl)
theorem dX11_load_3 : decode cX11_load 3 = .ok (.invokespecial 7, 3) := dk_183 0 7 (dk_at dksX11_load_0 3 rfl rfl)
theorem dX11_load_6 : decode cX11_load 6 = .ok (.istore_n 3, 1) := dk_62 (dk_at dksX11_load_0 6 rfl rfl)
theorem dX11_load_7 : decode cX11_load 7 = .ok (.aload_n 2, 1) := dk_44 (dk_at dksX11_load_0 7 rfl rfl)
theorem dX11_load_8 : decode cX11_load 8 = .ok (.getfield 11, 3) := dk_180 0 11 (dk_at dksX11_load_0 8 rfl rfl)
theorem dX11_load_11 : decode cX11_load 11 = .ok (.ifCond .eq 16, 3) := dk_153 0 16 (dk_at dksX11_load_0 11 rfl rfl)
theorem dX11_load_14 : decode cX11_load 14 = .ok (.iconst 0, 1) := dk_3 (dk_at dksX11_load_0 14 rfl rfl)
theorem dX11_load_15 : decode cX11_load 15 = .ok (.iload_n 3, 1) := dk_29 (dk_at dksX11_load_0 15 rfl rfl)
theorem dX11_load_16 : decode cX11_load 16 = .ok (.aload_n 0, 1) := dk_42 (dk_at dksX11_load_0 16 rfl rfl)
theorem dX11_load_17 : decode cX11_load 17 = .ok (.getfield 17, 3) := dk_180 0 17 (dk_at dksX11_load_0 17 rfl rfl)
theorem dX11_load_20 : decode cX11_load 20 = .ok (.isub, 1) := dk_100 (dk_at dksX11_load_0 20 rfl rfl)
theorem dX11_load_21 : decode cX11_load 21 = .ok (.invokestatic 23, 3) := dk_184 0 23 (dk_at dksX11_load_0 21 rfl rfl)
theorem dX11_load_24 : decode cX11_load 24 = .ok (.goto 4, 3) := dk_167 0 4 (dk_at dksX11_load_1 0 rfl rfl)
theorem dX11_load_27 : decode cX11_load 27 = .ok (.iload_n 3, 1) := dk_29 (dk_at dksX11_load_1 3 rfl rfl)
theorem dX11_load_28 : decode cX11_load 28 = .ok (.ireturn, 1) := dk_172 (dk_at dksX11_load_1 4 rfl rfl)
abbrev cX11_tires : ByteArray := prog_9_method_4_code
def yX11_tires : MethodName := ⟨RX11, "tires", "(LStairOnSticks$Person;LStairOnSticks$Step;)I"⟩
def dkwX11_tires_0 : List UInt8 := [42, 43, 44, 183, 0, 29, 62, 44, 180, 0, 11, 153, 0, 9, 29, 5, 108, 167, 0, 4, 29, 172]
abbrev dktX11_tires_0 : List UInt8 := dkwX11_tires_0 ++ []
theorem dksX11_tires_0 : cX11_tires.data.toList.drop 0 = dktX11_tires_0 := by decide +kernel
theorem dX11_tires_0 : decode cX11_tires 0 = .ok (.aload_n 0, 1) := dk_42 (dk_at dksX11_tires_0 0 rfl rfl)
theorem dX11_tires_1 : decode cX11_tires 1 = .ok (.aload_n 1, 1) := dk_43 (dk_at dksX11_tires_0 1 rfl rfl)
theorem dX11_tires_2 : decode cX11_tires 2 = .ok (.aload_n 2, 1) := dk_44 (dk_at dksX11_tires_0 2 rfl rfl)
theorem dX11_tires_3 : decode cX11_tires 3 = .ok (.invokespecial 29, 3) := dk_183 0 29 (dk_at dksX11_tires_0 3 rfl rfl)
theorem dX11_tires_6 : decode cX11_tires 6 = .ok (.istore_n 3, 1) := dk_62 (dk_at dksX11_tires_0 6 rfl rfl)
theorem dX11_tires_7 : decode cX11_tires 7 = .ok (.aload_n 2, 1) := dk_44 (dk_at dksX11_tires_0 7 rfl rfl)
theorem dX11_tires_8 : decode cX11_tires 8 = .ok (.getfield 11, 3) := dk_180 0 11 (dk_at dksX11_tires_0 8 rfl rfl)
theorem dX11_tires_11 : decode cX11_tires 11 = .ok (.ifCond .eq 9, 3) := dk_153 0 9 (dk_at dksX11_tires_0 11 rfl rfl)
theorem dX11_tires_14 : decode cX11_tires 14 = .ok (.iload_n 3, 1) := dk_29 (dk_at dksX11_tires_0 14 rfl rfl)
theorem dX11_tires_15 : decode cX11_tires 15 = .ok (.iconst 2, 1) := dk_5 (dk_at dksX11_tires_0 15 rfl rfl)
theorem dX11_tires_16 : decode cX11_tires 16 = .ok (.idiv, 1) := dk_108 (dk_at dksX11_tires_0 16 rfl rfl)
theorem dX11_tires_17 : decode cX11_tires 17 = .ok (.goto 4, 3) := dk_167 0 4 (dk_at dksX11_tires_0 17 rfl rfl)
theorem dX11_tires_20 : decode cX11_tires 20 = .ok (.iload_n 3, 1) := dk_29 (dk_at dksX11_tires_0 20 rfl rfl)
theorem dX11_tires_21 : decode cX11_tires 21 = .ok (.ireturn, 1) := dk_172 (dk_at dksX11_tires_0 21 rfl rfl)
abbrev cX11_slips : ByteArray := prog_9_method_5_code
def yX11_slips : MethodName := ⟨RX11, "slips", "(LStairOnSticks$Step;)I"⟩
def dkwX11_slips_0 : List UInt8 := [42, 43, 183, 0, 32, 61, 43, 180, 0, 11, 153, 0, 9, 28, 6, 108, 167, 0, 4, 28, 172]
abbrev dktX11_slips_0 : List UInt8 := dkwX11_slips_0 ++ []
theorem dksX11_slips_0 : cX11_slips.data.toList.drop 0 = dktX11_slips_0 := by decide +kernel
theorem dX11_slips_0 : decode cX11_slips 0 = .ok (.aload_n 0, 1) := dk_42 (dk_at dksX11_slips_0 0 rfl rfl)
theorem dX11_slips_1 : decode cX11_slips 1 = .ok (.aload_n 1, 1) := dk_43 (dk_at dksX11_slips_0 1 rfl rfl)
theorem dX11_slips_2 : decode cX11_slips 2 = .ok (.invokespecial 32, 3) := dk_183 0 32 (dk_at dksX11_slips_0 2 rfl rfl)
theorem dX11_slips_5 : decode cX11_slips 5 = .ok (.istore_n 2, 1) := dk_61 (dk_at dksX11_slips_0 5 rfl rfl)
theorem dX11_slips_6 : decode cX11_slips 6 = .ok (.aload_n 1, 1) := dk_43 (dk_at dksX11_slips_0 6 rfl rfl)
theorem dX11_slips_7 : decode cX11_slips 7 = .ok (.getfield 11, 3) := dk_180 0 11 (dk_at dksX11_slips_0 7 rfl rfl)
theorem dX11_slips_10 : decode cX11_slips 10 = .ok (.ifCond .eq 9, 3) := dk_153 0 9 (dk_at dksX11_slips_0 10 rfl rfl)
theorem dX11_slips_13 : decode cX11_slips 13 = .ok (.iload_n 2, 1) := dk_28 (dk_at dksX11_slips_0 13 rfl rfl)
theorem dX11_slips_14 : decode cX11_slips 14 = .ok (.iconst 3, 1) := dk_6 (dk_at dksX11_slips_0 14 rfl rfl)
theorem dX11_slips_15 : decode cX11_slips 15 = .ok (.idiv, 1) := dk_108 (dk_at dksX11_slips_0 15 rfl rfl)
theorem dX11_slips_16 : decode cX11_slips 16 = .ok (.goto 4, 3) := dk_167 0 4 (dk_at dksX11_slips_0 16 rfl rfl)
theorem dX11_slips_19 : decode cX11_slips 19 = .ok (.iload_n 2, 1) := dk_28 (dk_at dksX11_slips_0 19 rfl rfl)
theorem dX11_slips_20 : decode cX11_slips 20 = .ok (.ireturn, 1) := dk_172 (dk_at dksX11_slips_0 20 rfl rfl)
abbrev cX11_init : ByteArray := prog_9_method_1_code
def yX11_init : MethodName := ⟨RX11, "<init>", "(II)V"⟩
def dkwX11_init_0 : List UInt8 := [42, 27, 28, 183, 0, 1, 177]
abbrev dktX11_init_0 : List UInt8 := dkwX11_init_0 ++ []
theorem dksX11_init_0 : cX11_init.data.toList.drop 0 = dktX11_init_0 := by decide +kernel
theorem dX11_init_0 : decode cX11_init 0 = .ok (.aload_n 0, 1) := dk_42 (dk_at dksX11_init_0 0 rfl rfl)
theorem dX11_init_1 : decode cX11_init 1 = .ok (.iload_n 1, 1) := dk_27 (dk_at dksX11_init_0 1 rfl rfl)
theorem dX11_init_2 : decode cX11_init 2 = .ok (.iload_n 2, 1) := dk_28 (dk_at dksX11_init_0 2 rfl rfl)
theorem dX11_init_3 : decode cX11_init 3 = .ok (.invokespecial 1, 3) := dk_183 0 1 (dk_at dksX11_init_0 3 rfl rfl)
theorem dX11_init_6 : decode cX11_init 6 = .ok (.return_, 1) := dk_177 (dk_at dksX11_init_0 6 rfl rfl)
abbrev cX11_kind : ByteArray := prog_9_method_2_code
def yX11_kind : MethodName := ⟨RX11, "kind", "()I"⟩
theorem dX11_kind_0 : decode cX11_kind 0 = .ok (.iconst 3, 1) := by decide +kernel
theorem dX11_kind_1 : decode cX11_kind 1 = .ok (.ireturn, 1) := by decide +kernel
theorem q97 : (Jvm.Cond.initialized "StairOnSticks$Railed") ∈ lw_all := lw_g (lw_at lw_m1 24 rfl) rfl
theorem q517 : (Jvm.Cond.selects "StairOnSticks$Railed" ({ cls := "StairOnSticks$Move", name := "says", desc := "(LStairOnSticks$Person;LStairOnSticks$Step;I)I" } : Jvm.MethodName) ({ cls := "StairOnSticks$Move", name := "says", desc := "(LStairOnSticks$Person;LStairOnSticks$Step;I)I" } : Jvm.MethodName)) ∈ lw_all := lw_g (lw_at lw_m2 204 rfl) rfl
theorem q535 : (Jvm.Cond.selects "StairOnSticks$Railed" ({ cls := "StairOnSticks$Move", name := "load", desc := "(LStairOnSticks$Person;LStairOnSticks$Step;)I" } : Jvm.MethodName) ({ cls := "StairOnSticks$Railed", name := "load", desc := "(LStairOnSticks$Person;LStairOnSticks$Step;)I" } : Jvm.MethodName)) ∈ lw_all := lw_g (lw_at lw_m2 222 rfl) rfl
theorem q536 : (Jvm.Cond.instanceMethod ({ cls := "StairOnSticks$Railed", name := "load", desc := "(LStairOnSticks$Person;LStairOnSticks$Step;)I" } : Jvm.MethodName)) ∈ lw_all := lw_g (lw_at lw_m2 223 rfl) rfl
theorem q537 : (Jvm.Cond.code ({ cls := "StairOnSticks$Railed", name := "load", desc := "(LStairOnSticks$Person;LStairOnSticks$Step;)I" } : Jvm.MethodName) prog_9_method_3_code (4 : Nat) (Option.some Jvm.ClassFile.FieldType.int)) ∈ lw_all := lw_g (lw_at lw_m2 224 rfl) rfl
theorem q538 : (Jvm.Cond.methodLink "StairOnSticks$Railed" (7 : Nat) ({ cls := "StairOnSticks$Cane", name := "load", desc := "(LStairOnSticks$Person;LStairOnSticks$Step;)I" } : Jvm.MethodName)) ∈ lw_all := lw_g (lw_at lw_m2 225 rfl) rfl
theorem q539 : (Jvm.Cond.superclass "StairOnSticks$Railed" "StairOnSticks$Cane") ∈ lw_all := lw_g (lw_at lw_m2 226 rfl) rfl
theorem q540 : (Jvm.Cond.methodLink "StairOnSticks$Railed" (23 : Nat) ({ cls := "java/lang/Math", name := "max", desc := "(II)I" } : Jvm.MethodName)) ∈ lw_all := lw_g (lw_at lw_m2 227 rfl) rfl
theorem q559 : (Jvm.Cond.selects "StairOnSticks$Railed" ({ cls := "StairOnSticks$Move", name := "hands", desc := "(LStairOnSticks$Person;LStairOnSticks$Step;)I" } : Jvm.MethodName) ({ cls := "StairOnSticks$Cane", name := "hands", desc := "(LStairOnSticks$Person;LStairOnSticks$Step;)I" } : Jvm.MethodName)) ∈ lw_all := lw_g (lw_at lw_m3 6 rfl) rfl
theorem q583 : (Jvm.Cond.selects "StairOnSticks$Railed" ({ cls := "StairOnSticks$Move", name := "tires", desc := "(LStairOnSticks$Person;LStairOnSticks$Step;)I" } : Jvm.MethodName) ({ cls := "StairOnSticks$Railed", name := "tires", desc := "(LStairOnSticks$Person;LStairOnSticks$Step;)I" } : Jvm.MethodName)) ∈ lw_all := lw_g (lw_at lw_m3 30 rfl) rfl
theorem q584 : (Jvm.Cond.instanceMethod ({ cls := "StairOnSticks$Railed", name := "tires", desc := "(LStairOnSticks$Person;LStairOnSticks$Step;)I" } : Jvm.MethodName)) ∈ lw_all := lw_g (lw_at lw_m3 31 rfl) rfl
theorem q585 : (Jvm.Cond.code ({ cls := "StairOnSticks$Railed", name := "tires", desc := "(LStairOnSticks$Person;LStairOnSticks$Step;)I" } : Jvm.MethodName) prog_9_method_4_code (4 : Nat) (Option.some Jvm.ClassFile.FieldType.int)) ∈ lw_all := lw_g (lw_at lw_m3 32 rfl) rfl
theorem q586 : (Jvm.Cond.methodLink "StairOnSticks$Railed" (29 : Nat) ({ cls := "StairOnSticks$Cane", name := "tires", desc := "(LStairOnSticks$Person;LStairOnSticks$Step;)I" } : Jvm.MethodName)) ∈ lw_all := lw_g (lw_at lw_m3 33 rfl) rfl
theorem q612 : (Jvm.Cond.selects "StairOnSticks$Railed" ({ cls := "StairOnSticks$Move", name := "slips", desc := "(LStairOnSticks$Step;)I" } : Jvm.MethodName) ({ cls := "StairOnSticks$Railed", name := "slips", desc := "(LStairOnSticks$Step;)I" } : Jvm.MethodName)) ∈ lw_all := lw_g (lw_at lw_m3 59 rfl) rfl
theorem q613 : (Jvm.Cond.instanceMethod ({ cls := "StairOnSticks$Railed", name := "slips", desc := "(LStairOnSticks$Step;)I" } : Jvm.MethodName)) ∈ lw_all := lw_g (lw_at lw_m3 60 rfl) rfl
theorem q614 : (Jvm.Cond.code ({ cls := "StairOnSticks$Railed", name := "slips", desc := "(LStairOnSticks$Step;)I" } : Jvm.MethodName) prog_9_method_5_code (3 : Nat) (Option.some Jvm.ClassFile.FieldType.int)) ∈ lw_all := lw_g (lw_at lw_m3 61 rfl) rfl
theorem q615 : (Jvm.Cond.methodLink "StairOnSticks$Railed" (32 : Nat) ({ cls := "StairOnSticks$Cane", name := "slips", desc := "(LStairOnSticks$Step;)I" } : Jvm.MethodName)) ∈ lw_all := lw_g (lw_at lw_m3 62 rfl) rfl
theorem q650 : (Jvm.Cond.fieldLink "StairOnSticks$Railed" (11 : Nat) "StairOnSticks$Step" "rail" "Z") ∈ lw_all := lw_g (lw_at lw_m3 97 rfl) rfl
theorem q682 : (Jvm.Cond.fieldLink "StairOnSticks$Railed" (17 : Nat) "StairOnSticks$Railed" "a" "I") ∈ lw_all := lw_g (lw_at lw_m3 129 rfl) rfl
theorem q683 : (Jvm.Cond.sameField "StairOnSticks$Railed" "StairOnSticks$Move" "a" "I") ∈ lw_all := lw_g (lw_at lw_m3 130 rfl) rfl
theorem q704 : (Jvm.Cond.instantiable "StairOnSticks$Railed" (2 : Nat)) ∈ lw_all := lw_g (lw_at lw_m3 151 rfl) rfl
theorem q706 : (Jvm.Cond.instanceMethod ({ cls := "StairOnSticks$Railed", name := "<init>", desc := "(II)V" } : Jvm.MethodName)) ∈ lw_all := lw_g (lw_at lw_m3 153 rfl) rfl
theorem q707 : (Jvm.Cond.code ({ cls := "StairOnSticks$Railed", name := "<init>", desc := "(II)V" } : Jvm.MethodName) prog_9_method_1_code (3 : Nat) (Option.none : Option Jvm.ClassFile.FieldType)) ∈ lw_all := lw_g (lw_at lw_m3 154 rfl) rfl
theorem q708 : (Jvm.Cond.methodLink "StairOnSticks$Railed" (1 : Nat) ({ cls := "StairOnSticks$Cane", name := "<init>", desc := "(II)V" } : Jvm.MethodName)) ∈ lw_all := lw_g (lw_at lw_m3 155 rfl) rfl
theorem q709 : (Jvm.Cond.laysFinal "StairOnSticks$Railed" "StairOnSticks$Move" "number" "I") ∈ lw_all := lw_g (lw_at lw_m3 156 rfl) rfl
theorem q710 : (Jvm.Cond.laysFinal "StairOnSticks$Railed" "StairOnSticks$Move" "a" "I") ∈ lw_all := lw_g (lw_at lw_m3 157 rfl) rfl
theorem q1147 : (Jvm.Cond.selects "StairOnSticks$Railed" ({ cls := "StairOnSticks$Move", name := "kind", desc := "()I" } : Jvm.MethodName) ({ cls := "StairOnSticks$Railed", name := "kind", desc := "()I" } : Jvm.MethodName)) ∈ lw_all := lw_g (lw_at lw_m5 114 rfl) rfl
theorem q1148 : (Jvm.Cond.instanceMethod ({ cls := "StairOnSticks$Railed", name := "kind", desc := "()I" } : Jvm.MethodName)) ∈ lw_all := lw_g (lw_at lw_m5 115 rfl) rfl
theorem q1149 : (Jvm.Cond.code ({ cls := "StairOnSticks$Railed", name := "kind", desc := "()I" } : Jvm.MethodName) prog_9_method_2_code (1 : Nat) (Option.some Jvm.ClassFile.FieldType.int)) ∈ lw_all := lw_g (lw_at lw_m5 116 rfl) rfl
theorem q1177 : (Jvm.Cond.unhidden "StairOnSticks$Railed" "can" "(LStairOnSticks$Person;LStairOnSticks$Step;I)Z") ∈ lw_tbl := lw_at lw_m5 144 rfl
theorem q1199 : (Jvm.Cond.castable "StairOnSticks$Railed" "StairOnSticks$Loads") ∈ lw_tbl := lw_at lw_m5 166 rfl
theorem q1200 : (Jvm.Cond.selects "StairOnSticks$Railed" ({ cls := "StairOnSticks$Loads", name := "load", desc := "(LStairOnSticks$Person;LStairOnSticks$Step;)I" } : Jvm.MethodName) ({ cls := "StairOnSticks$Railed", name := "load", desc := "(LStairOnSticks$Person;LStairOnSticks$Step;)I" } : Jvm.MethodName)) ∈ lw_all := lw_g (lw_at lw_m5 167 rfl) rfl
theorem q1201 : (Jvm.Cond.unhidden "StairOnSticks$Railed" "load" "(LStairOnSticks$Person;LStairOnSticks$Step;)I") ∈ lw_tbl := lw_at lw_m5 168 rfl
theorem q1202 : (Jvm.Cond.publicMethod ({ cls := "StairOnSticks$Railed", name := "load", desc := "(LStairOnSticks$Person;LStairOnSticks$Step;)I" } : Jvm.MethodName)) ∈ lw_tbl := lw_at lw_m5 169 rfl
theorem q1227 : (Jvm.Cond.selects "StairOnSticks$Railed" ({ cls := "StairOnSticks$Loads", name := "tires", desc := "(LStairOnSticks$Person;LStairOnSticks$Step;)I" } : Jvm.MethodName) ({ cls := "StairOnSticks$Railed", name := "tires", desc := "(LStairOnSticks$Person;LStairOnSticks$Step;)I" } : Jvm.MethodName)) ∈ lw_all := lw_g (lw_at lw_m5 194 rfl) rfl
theorem q1228 : (Jvm.Cond.unhidden "StairOnSticks$Railed" "tires" "(LStairOnSticks$Person;LStairOnSticks$Step;)I") ∈ lw_tbl := lw_at lw_m5 195 rfl
theorem q1229 : (Jvm.Cond.publicMethod ({ cls := "StairOnSticks$Railed", name := "tires", desc := "(LStairOnSticks$Person;LStairOnSticks$Step;)I" } : Jvm.MethodName)) ∈ lw_tbl := lw_at lw_m5 196 rfl
theorem q2043 : (Jvm.Cond.castable "StairOnSticks$Railed" "StairOnSticks$Move") ∈ lw_tbl := lw_at lw_m9 50 rfl
theorem q2047 : (Jvm.Cond.castable "StairOnSticks$Railed" "StairOnSticks$Cane") ∈ lw_tbl := lw_at lw_m9 54 rfl
theorem in_X11 : ∀ w ∈ wsX110, w ∈ lw_all := lw_in wsX110 [709, 710] (by decide +kernel) (by decide +kernel)
/-! StairOnSticks$Seated -/
set_option maxRecDepth 100000
def RX12 : String := "StairOnSticks$Seated"
def TX12 : u_T := fun k => match k with
  | 0 => ("StairOnSticks$Move", "number", "I", true)
  | _ => ("StairOnSticks$Move", "a", "I", true)
def tyX12 : Nat → FieldType := fun k => match k with
  | 0 => .int
  | _ => .int
abbrev wsX120 : List Cond := u_ws RX12 TX12 2
theorem nmX12 : ∀ a, a < 2 → ∀ b, b < 2 → a ≠ b → (TX12 a).2.1 ≠ (TX12 b).2.1 := by decide +kernel
theorem tyX12_ok : ∀ k, k < 2 → parseFieldDescriptor (TX12 k).2.2.1 = some (tyX12 k) := by decide +kernel
abbrev cX12_load : ByteArray := prog_12_method_3_code
def yX12_load : MethodName := ⟨RX12, "load", "(LStairOnSticks$Person;LStairOnSticks$Step;)I"⟩
theorem dX12_load_0 : decode cX12_load 0 = .ok (.iconst 0, 1) := by decide +kernel
theorem dX12_load_1 : decode cX12_load 1 = .ok (.ireturn, 1) := by decide +kernel
abbrev cX12_hands : ByteArray := prog_12_method_4_code
def yX12_hands : MethodName := ⟨RX12, "hands", "(LStairOnSticks$Person;LStairOnSticks$Step;)I"⟩
def dkwX12_hands_0 : List UInt8 := [42, 43, 44, 183, 0, 7, 172]
abbrev dktX12_hands_0 : List UInt8 := dkwX12_hands_0 ++ []
theorem dksX12_hands_0 : cX12_hands.data.toList.drop 0 = dktX12_hands_0 := by decide +kernel
theorem dX12_hands_0 : decode cX12_hands 0 = .ok (.aload_n 0, 1) := dk_42 (dk_at dksX12_hands_0 0 rfl rfl)
theorem dX12_hands_1 : decode cX12_hands 1 = .ok (.aload_n 1, 1) := dk_43 (dk_at dksX12_hands_0 1 rfl rfl)
theorem dX12_hands_2 : decode cX12_hands 2 = .ok (.aload_n 2, 1) := dk_44 (dk_at dksX12_hands_0 2 rfl rfl)
theorem dX12_hands_3 : decode cX12_hands 3 = .ok (.invokespecial 7, 3) := dk_183 0 7 (dk_at dksX12_hands_0 3 rfl rfl)
theorem dX12_hands_6 : decode cX12_hands 6 = .ok (.ireturn, 1) := dk_172 (dk_at dksX12_hands_0 6 rfl rfl)
abbrev cX12_tires : ByteArray := prog_12_method_5_code
def yX12_tires : MethodName := ⟨RX12, "tires", "(LStairOnSticks$Person;LStairOnSticks$Step;)I"⟩
def dkwX12_tires_0 : List UInt8 := [6, 44, 180, 0, 11, 104, 172]
abbrev dktX12_tires_0 : List UInt8 := dkwX12_tires_0 ++ []
theorem dksX12_tires_0 : cX12_tires.data.toList.drop 0 = dktX12_tires_0 := by decide +kernel
theorem dX12_tires_0 : decode cX12_tires 0 = .ok (.iconst 3, 1) := dk_6 (dk_at dksX12_tires_0 0 rfl rfl)
theorem dX12_tires_1 : decode cX12_tires 1 = .ok (.aload_n 2, 1) := dk_44 (dk_at dksX12_tires_0 1 rfl rfl)
theorem dX12_tires_2 : decode cX12_tires 2 = .ok (.getfield 11, 3) := dk_180 0 11 (dk_at dksX12_tires_0 2 rfl rfl)
theorem dX12_tires_5 : decode cX12_tires 5 = .ok (.imul, 1) := dk_104 (dk_at dksX12_tires_0 5 rfl rfl)
theorem dX12_tires_6 : decode cX12_tires 6 = .ok (.ireturn, 1) := dk_172 (dk_at dksX12_tires_0 6 rfl rfl)
abbrev cX12_slips : ByteArray := prog_12_method_6_code
def yX12_slips : MethodName := ⟨RX12, "slips", "(LStairOnSticks$Step;)I"⟩
theorem dX12_slips_0 : decode cX12_slips 0 = .ok (.iconst 0, 1) := by decide +kernel
theorem dX12_slips_1 : decode cX12_slips 1 = .ok (.ireturn, 1) := by decide +kernel
abbrev cX12_init : ByteArray := prog_12_method_1_code
def yX12_init : MethodName := ⟨RX12, "<init>", "(II)V"⟩
def dkwX12_init_0 : List UInt8 := [42, 27, 28, 183, 0, 1, 177]
abbrev dktX12_init_0 : List UInt8 := dkwX12_init_0 ++ []
theorem dksX12_init_0 : cX12_init.data.toList.drop 0 = dktX12_init_0 := by decide +kernel
theorem dX12_init_0 : decode cX12_init 0 = .ok (.aload_n 0, 1) := dk_42 (dk_at dksX12_init_0 0 rfl rfl)
theorem dX12_init_1 : decode cX12_init 1 = .ok (.iload_n 1, 1) := dk_27 (dk_at dksX12_init_0 1 rfl rfl)
theorem dX12_init_2 : decode cX12_init 2 = .ok (.iload_n 2, 1) := dk_28 (dk_at dksX12_init_0 2 rfl rfl)
theorem dX12_init_3 : decode cX12_init 3 = .ok (.invokespecial 1, 3) := dk_183 0 1 (dk_at dksX12_init_0 3 rfl rfl)
theorem dX12_init_6 : decode cX12_init 6 = .ok (.return_, 1) := dk_177 (dk_at dksX12_init_0 6 rfl rfl)
abbrev cX12_kind : ByteArray := prog_12_method_2_code
def yX12_kind : MethodName := ⟨RX12, "kind", "()I"⟩
theorem dX12_kind_0 : decode cX12_kind 0 = .ok (.iconst 4, 1) := by decide +kernel
theorem dX12_kind_1 : decode cX12_kind 1 = .ok (.ireturn, 1) := by decide +kernel
theorem q98 : (Jvm.Cond.initialized "StairOnSticks$Seated") ∈ lw_all := lw_g (lw_at lw_m1 25 rfl) rfl
theorem q518 : (Jvm.Cond.selects "StairOnSticks$Seated" ({ cls := "StairOnSticks$Move", name := "says", desc := "(LStairOnSticks$Person;LStairOnSticks$Step;I)I" } : Jvm.MethodName) ({ cls := "StairOnSticks$Move", name := "says", desc := "(LStairOnSticks$Person;LStairOnSticks$Step;I)I" } : Jvm.MethodName)) ∈ lw_all := lw_g (lw_at lw_m2 205 rfl) rfl
theorem q543 : (Jvm.Cond.selects "StairOnSticks$Seated" ({ cls := "StairOnSticks$Move", name := "load", desc := "(LStairOnSticks$Person;LStairOnSticks$Step;)I" } : Jvm.MethodName) ({ cls := "StairOnSticks$Seated", name := "load", desc := "(LStairOnSticks$Person;LStairOnSticks$Step;)I" } : Jvm.MethodName)) ∈ lw_all := lw_g (lw_at lw_m2 230 rfl) rfl
theorem q544 : (Jvm.Cond.instanceMethod ({ cls := "StairOnSticks$Seated", name := "load", desc := "(LStairOnSticks$Person;LStairOnSticks$Step;)I" } : Jvm.MethodName)) ∈ lw_all := lw_g (lw_at lw_m2 231 rfl) rfl
theorem q545 : (Jvm.Cond.code ({ cls := "StairOnSticks$Seated", name := "load", desc := "(LStairOnSticks$Person;LStairOnSticks$Step;)I" } : Jvm.MethodName) prog_12_method_3_code (3 : Nat) (Option.some Jvm.ClassFile.FieldType.int)) ∈ lw_all := lw_g (lw_at lw_m2 232 rfl) rfl
theorem q560 : (Jvm.Cond.selects "StairOnSticks$Seated" ({ cls := "StairOnSticks$Move", name := "hands", desc := "(LStairOnSticks$Person;LStairOnSticks$Step;)I" } : Jvm.MethodName) ({ cls := "StairOnSticks$Seated", name := "hands", desc := "(LStairOnSticks$Person;LStairOnSticks$Step;)I" } : Jvm.MethodName)) ∈ lw_all := lw_g (lw_at lw_m3 7 rfl) rfl
theorem q561 : (Jvm.Cond.instanceMethod ({ cls := "StairOnSticks$Seated", name := "hands", desc := "(LStairOnSticks$Person;LStairOnSticks$Step;)I" } : Jvm.MethodName)) ∈ lw_all := lw_g (lw_at lw_m3 8 rfl) rfl
theorem q562 : (Jvm.Cond.code ({ cls := "StairOnSticks$Seated", name := "hands", desc := "(LStairOnSticks$Person;LStairOnSticks$Step;)I" } : Jvm.MethodName) prog_12_method_4_code (3 : Nat) (Option.some Jvm.ClassFile.FieldType.int)) ∈ lw_all := lw_g (lw_at lw_m3 9 rfl) rfl
theorem q563 : (Jvm.Cond.methodLink "StairOnSticks$Seated" (7 : Nat) ({ cls := "StairOnSticks$Move", name := "load", desc := "(LStairOnSticks$Person;LStairOnSticks$Step;)I" } : Jvm.MethodName)) ∈ lw_all := lw_g (lw_at lw_m3 10 rfl) rfl
theorem q564 : (Jvm.Cond.superclass "StairOnSticks$Seated" "StairOnSticks$Move") ∈ lw_all := lw_g (lw_at lw_m3 11 rfl) rfl
theorem q587 : (Jvm.Cond.selects "StairOnSticks$Seated" ({ cls := "StairOnSticks$Move", name := "tires", desc := "(LStairOnSticks$Person;LStairOnSticks$Step;)I" } : Jvm.MethodName) ({ cls := "StairOnSticks$Seated", name := "tires", desc := "(LStairOnSticks$Person;LStairOnSticks$Step;)I" } : Jvm.MethodName)) ∈ lw_all := lw_g (lw_at lw_m3 34 rfl) rfl
theorem q588 : (Jvm.Cond.instanceMethod ({ cls := "StairOnSticks$Seated", name := "tires", desc := "(LStairOnSticks$Person;LStairOnSticks$Step;)I" } : Jvm.MethodName)) ∈ lw_all := lw_g (lw_at lw_m3 35 rfl) rfl
theorem q589 : (Jvm.Cond.code ({ cls := "StairOnSticks$Seated", name := "tires", desc := "(LStairOnSticks$Person;LStairOnSticks$Step;)I" } : Jvm.MethodName) prog_12_method_5_code (3 : Nat) (Option.some Jvm.ClassFile.FieldType.int)) ∈ lw_all := lw_g (lw_at lw_m3 36 rfl) rfl
theorem q616 : (Jvm.Cond.selects "StairOnSticks$Seated" ({ cls := "StairOnSticks$Move", name := "slips", desc := "(LStairOnSticks$Step;)I" } : Jvm.MethodName) ({ cls := "StairOnSticks$Seated", name := "slips", desc := "(LStairOnSticks$Step;)I" } : Jvm.MethodName)) ∈ lw_all := lw_g (lw_at lw_m3 63 rfl) rfl
theorem q617 : (Jvm.Cond.instanceMethod ({ cls := "StairOnSticks$Seated", name := "slips", desc := "(LStairOnSticks$Step;)I" } : Jvm.MethodName)) ∈ lw_all := lw_g (lw_at lw_m3 64 rfl) rfl
theorem q618 : (Jvm.Cond.code ({ cls := "StairOnSticks$Seated", name := "slips", desc := "(LStairOnSticks$Step;)I" } : Jvm.MethodName) prog_12_method_6_code (2 : Nat) (Option.some Jvm.ClassFile.FieldType.int)) ∈ lw_all := lw_g (lw_at lw_m3 65 rfl) rfl
theorem q641 : (Jvm.Cond.fieldLink "StairOnSticks$Seated" (11 : Nat) "StairOnSticks$Step" "rise" "I") ∈ lw_all := lw_g (lw_at lw_m3 88 rfl) rfl
theorem q711 : (Jvm.Cond.instantiable "StairOnSticks$Seated" (2 : Nat)) ∈ lw_all := lw_g (lw_at lw_m3 158 rfl) rfl
theorem q713 : (Jvm.Cond.instanceMethod ({ cls := "StairOnSticks$Seated", name := "<init>", desc := "(II)V" } : Jvm.MethodName)) ∈ lw_all := lw_g (lw_at lw_m3 160 rfl) rfl
theorem q714 : (Jvm.Cond.code ({ cls := "StairOnSticks$Seated", name := "<init>", desc := "(II)V" } : Jvm.MethodName) prog_12_method_1_code (3 : Nat) (Option.none : Option Jvm.ClassFile.FieldType)) ∈ lw_all := lw_g (lw_at lw_m3 161 rfl) rfl
theorem q715 : (Jvm.Cond.methodLink "StairOnSticks$Seated" (1 : Nat) ({ cls := "StairOnSticks$Move", name := "<init>", desc := "(II)V" } : Jvm.MethodName)) ∈ lw_all := lw_g (lw_at lw_m3 162 rfl) rfl
theorem q716 : (Jvm.Cond.laysFinal "StairOnSticks$Seated" "StairOnSticks$Move" "number" "I") ∈ lw_all := lw_g (lw_at lw_m3 163 rfl) rfl
theorem q717 : (Jvm.Cond.laysFinal "StairOnSticks$Seated" "StairOnSticks$Move" "a" "I") ∈ lw_all := lw_g (lw_at lw_m3 164 rfl) rfl
theorem q1150 : (Jvm.Cond.selects "StairOnSticks$Seated" ({ cls := "StairOnSticks$Move", name := "kind", desc := "()I" } : Jvm.MethodName) ({ cls := "StairOnSticks$Seated", name := "kind", desc := "()I" } : Jvm.MethodName)) ∈ lw_all := lw_g (lw_at lw_m5 117 rfl) rfl
theorem q1151 : (Jvm.Cond.instanceMethod ({ cls := "StairOnSticks$Seated", name := "kind", desc := "()I" } : Jvm.MethodName)) ∈ lw_all := lw_g (lw_at lw_m5 118 rfl) rfl
theorem q1152 : (Jvm.Cond.code ({ cls := "StairOnSticks$Seated", name := "kind", desc := "()I" } : Jvm.MethodName) prog_12_method_2_code (1 : Nat) (Option.some Jvm.ClassFile.FieldType.int)) ∈ lw_all := lw_g (lw_at lw_m5 119 rfl) rfl
theorem q1178 : (Jvm.Cond.unhidden "StairOnSticks$Seated" "can" "(LStairOnSticks$Person;LStairOnSticks$Step;I)Z") ∈ lw_tbl := lw_at lw_m5 145 rfl
theorem q1203 : (Jvm.Cond.castable "StairOnSticks$Seated" "StairOnSticks$Loads") ∈ lw_tbl := lw_at lw_m5 170 rfl
theorem q1204 : (Jvm.Cond.selects "StairOnSticks$Seated" ({ cls := "StairOnSticks$Loads", name := "load", desc := "(LStairOnSticks$Person;LStairOnSticks$Step;)I" } : Jvm.MethodName) ({ cls := "StairOnSticks$Seated", name := "load", desc := "(LStairOnSticks$Person;LStairOnSticks$Step;)I" } : Jvm.MethodName)) ∈ lw_all := lw_g (lw_at lw_m5 171 rfl) rfl
theorem q1205 : (Jvm.Cond.unhidden "StairOnSticks$Seated" "load" "(LStairOnSticks$Person;LStairOnSticks$Step;)I") ∈ lw_tbl := lw_at lw_m5 172 rfl
theorem q1206 : (Jvm.Cond.publicMethod ({ cls := "StairOnSticks$Seated", name := "load", desc := "(LStairOnSticks$Person;LStairOnSticks$Step;)I" } : Jvm.MethodName)) ∈ lw_tbl := lw_at lw_m5 173 rfl
theorem q1230 : (Jvm.Cond.selects "StairOnSticks$Seated" ({ cls := "StairOnSticks$Loads", name := "tires", desc := "(LStairOnSticks$Person;LStairOnSticks$Step;)I" } : Jvm.MethodName) ({ cls := "StairOnSticks$Seated", name := "tires", desc := "(LStairOnSticks$Person;LStairOnSticks$Step;)I" } : Jvm.MethodName)) ∈ lw_all := lw_g (lw_at lw_m5 197 rfl) rfl
theorem q1231 : (Jvm.Cond.unhidden "StairOnSticks$Seated" "tires" "(LStairOnSticks$Person;LStairOnSticks$Step;)I") ∈ lw_tbl := lw_at lw_m5 198 rfl
theorem q1232 : (Jvm.Cond.publicMethod ({ cls := "StairOnSticks$Seated", name := "tires", desc := "(LStairOnSticks$Person;LStairOnSticks$Step;)I" } : Jvm.MethodName)) ∈ lw_tbl := lw_at lw_m5 199 rfl
theorem q2044 : (Jvm.Cond.castable "StairOnSticks$Seated" "StairOnSticks$Move") ∈ lw_tbl := lw_at lw_m9 51 rfl
theorem in_X12 : ∀ w ∈ wsX120, w ∈ lw_all := lw_in wsX120 [716, 717] (by decide +kernel) (by decide +kernel)
/-! StairOnSticks$Hopped -/
set_option maxRecDepth 100000
def RX13 : String := "StairOnSticks$Hopped"
def TX13 : u_T := fun k => match k with
  | 0 => ("StairOnSticks$Move", "number", "I", true)
  | _ => ("StairOnSticks$Move", "a", "I", true)
def tyX13 : Nat → FieldType := fun k => match k with
  | 0 => .int
  | _ => .int
abbrev wsX130 : List Cond := u_ws RX13 TX13 2
theorem nmX13 : ∀ a, a < 2 → ∀ b, b < 2 → a ≠ b → (TX13 a).2.1 ≠ (TX13 b).2.1 := by decide +kernel
theorem tyX13_ok : ∀ k, k < 2 → parseFieldDescriptor (TX13 k).2.2.1 = some (tyX13 k) := by decide +kernel
abbrev cX13_hands : ByteArray := prog_5_method_3_code
def yX13_hands : MethodName := ⟨RX13, "hands", "(LStairOnSticks$Person;LStairOnSticks$Step;)I"⟩
theorem dX13_hands_0 : decode cX13_hands 0 = .ok (.iconst 0, 1) := by decide +kernel
theorem dX13_hands_1 : decode cX13_hands 1 = .ok (.ireturn, 1) := by decide +kernel
abbrev cX13_tires : ByteArray := prog_5_method_4_code
def yX13_tires : MethodName := ⟨RX13, "tires", "(LStairOnSticks$Person;LStairOnSticks$Step;)I"⟩
def dkwX13_tires_0 : List UInt8 := [5, 44, 180, 0, 7, 104, 172]
abbrev dktX13_tires_0 : List UInt8 := dkwX13_tires_0 ++ []
theorem dksX13_tires_0 : cX13_tires.data.toList.drop 0 = dktX13_tires_0 := by decide +kernel
theorem dX13_tires_0 : decode cX13_tires 0 = .ok (.iconst 2, 1) := dk_5 (dk_at dksX13_tires_0 0 rfl rfl)
theorem dX13_tires_1 : decode cX13_tires 1 = .ok (.aload_n 2, 1) := dk_44 (dk_at dksX13_tires_0 1 rfl rfl)
theorem dX13_tires_2 : decode cX13_tires 2 = .ok (.getfield 7, 3) := dk_180 0 7 (dk_at dksX13_tires_0 2 rfl rfl)
theorem dX13_tires_5 : decode cX13_tires 5 = .ok (.imul, 1) := dk_104 (dk_at dksX13_tires_0 5 rfl rfl)
theorem dX13_tires_6 : decode cX13_tires 6 = .ok (.ireturn, 1) := dk_172 (dk_at dksX13_tires_0 6 rfl rfl)
abbrev cX13_slips : ByteArray := prog_5_method_5_code
def yX13_slips : MethodName := ⟨RX13, "slips", "(LStairOnSticks$Step;)I"⟩
def dkwX13_slips_0 : List UInt8 := [5, 42, 43, 183, 0, 13, 104, 172]
abbrev dktX13_slips_0 : List UInt8 := dkwX13_slips_0 ++ []
theorem dksX13_slips_0 : cX13_slips.data.toList.drop 0 = dktX13_slips_0 := by decide +kernel
theorem dX13_slips_0 : decode cX13_slips 0 = .ok (.iconst 2, 1) := dk_5 (dk_at dksX13_slips_0 0 rfl rfl)
theorem dX13_slips_1 : decode cX13_slips 1 = .ok (.aload_n 0, 1) := dk_42 (dk_at dksX13_slips_0 1 rfl rfl)
theorem dX13_slips_2 : decode cX13_slips 2 = .ok (.aload_n 1, 1) := dk_43 (dk_at dksX13_slips_0 2 rfl rfl)
theorem dX13_slips_3 : decode cX13_slips 3 = .ok (.invokespecial 13, 3) := dk_183 0 13 (dk_at dksX13_slips_0 3 rfl rfl)
theorem dX13_slips_6 : decode cX13_slips 6 = .ok (.imul, 1) := dk_104 (dk_at dksX13_slips_0 6 rfl rfl)
theorem dX13_slips_7 : decode cX13_slips 7 = .ok (.ireturn, 1) := dk_172 (dk_at dksX13_slips_0 7 rfl rfl)
abbrev cX13_init : ByteArray := prog_5_method_1_code
def yX13_init : MethodName := ⟨RX13, "<init>", "(II)V"⟩
def dkwX13_init_0 : List UInt8 := [42, 27, 28, 183, 0, 1, 177]
abbrev dktX13_init_0 : List UInt8 := dkwX13_init_0 ++ []
theorem dksX13_init_0 : cX13_init.data.toList.drop 0 = dktX13_init_0 := by decide +kernel
theorem dX13_init_0 : decode cX13_init 0 = .ok (.aload_n 0, 1) := dk_42 (dk_at dksX13_init_0 0 rfl rfl)
theorem dX13_init_1 : decode cX13_init 1 = .ok (.iload_n 1, 1) := dk_27 (dk_at dksX13_init_0 1 rfl rfl)
theorem dX13_init_2 : decode cX13_init 2 = .ok (.iload_n 2, 1) := dk_28 (dk_at dksX13_init_0 2 rfl rfl)
theorem dX13_init_3 : decode cX13_init 3 = .ok (.invokespecial 1, 3) := dk_183 0 1 (dk_at dksX13_init_0 3 rfl rfl)
theorem dX13_init_6 : decode cX13_init 6 = .ok (.return_, 1) := dk_177 (dk_at dksX13_init_0 6 rfl rfl)
abbrev cX13_kind : ByteArray := prog_5_method_2_code
def yX13_kind : MethodName := ⟨RX13, "kind", "()I"⟩
theorem dX13_kind_0 : decode cX13_kind 0 = .ok (.iconst 5, 1) := by decide +kernel
theorem dX13_kind_1 : decode cX13_kind 1 = .ok (.ireturn, 1) := by decide +kernel
theorem q99 : (Jvm.Cond.initialized "StairOnSticks$Hopped") ∈ lw_all := lw_g (lw_at lw_m1 26 rfl) rfl
theorem q516 : (Jvm.Cond.selects "StairOnSticks$Hopped" ({ cls := "StairOnSticks$Move", name := "says", desc := "(LStairOnSticks$Person;LStairOnSticks$Step;I)I" } : Jvm.MethodName) ({ cls := "StairOnSticks$Move", name := "says", desc := "(LStairOnSticks$Person;LStairOnSticks$Step;I)I" } : Jvm.MethodName)) ∈ lw_all := lw_g (lw_at lw_m2 203 rfl) rfl
theorem q532 : (Jvm.Cond.selects "StairOnSticks$Hopped" ({ cls := "StairOnSticks$Move", name := "load", desc := "(LStairOnSticks$Person;LStairOnSticks$Step;)I" } : Jvm.MethodName) ({ cls := "StairOnSticks$Swung", name := "load", desc := "(LStairOnSticks$Person;LStairOnSticks$Step;)I" } : Jvm.MethodName)) ∈ lw_all := lw_g (lw_at lw_m2 219 rfl) rfl
theorem q556 : (Jvm.Cond.selects "StairOnSticks$Hopped" ({ cls := "StairOnSticks$Move", name := "hands", desc := "(LStairOnSticks$Person;LStairOnSticks$Step;)I" } : Jvm.MethodName) ({ cls := "StairOnSticks$Hopped", name := "hands", desc := "(LStairOnSticks$Person;LStairOnSticks$Step;)I" } : Jvm.MethodName)) ∈ lw_all := lw_g (lw_at lw_m3 3 rfl) rfl
theorem q557 : (Jvm.Cond.instanceMethod ({ cls := "StairOnSticks$Hopped", name := "hands", desc := "(LStairOnSticks$Person;LStairOnSticks$Step;)I" } : Jvm.MethodName)) ∈ lw_all := lw_g (lw_at lw_m3 4 rfl) rfl
theorem q558 : (Jvm.Cond.code ({ cls := "StairOnSticks$Hopped", name := "hands", desc := "(LStairOnSticks$Person;LStairOnSticks$Step;)I" } : Jvm.MethodName) prog_5_method_3_code (3 : Nat) (Option.some Jvm.ClassFile.FieldType.int)) ∈ lw_all := lw_g (lw_at lw_m3 5 rfl) rfl
theorem q580 : (Jvm.Cond.selects "StairOnSticks$Hopped" ({ cls := "StairOnSticks$Move", name := "tires", desc := "(LStairOnSticks$Person;LStairOnSticks$Step;)I" } : Jvm.MethodName) ({ cls := "StairOnSticks$Hopped", name := "tires", desc := "(LStairOnSticks$Person;LStairOnSticks$Step;)I" } : Jvm.MethodName)) ∈ lw_all := lw_g (lw_at lw_m3 27 rfl) rfl
theorem q581 : (Jvm.Cond.instanceMethod ({ cls := "StairOnSticks$Hopped", name := "tires", desc := "(LStairOnSticks$Person;LStairOnSticks$Step;)I" } : Jvm.MethodName)) ∈ lw_all := lw_g (lw_at lw_m3 28 rfl) rfl
theorem q582 : (Jvm.Cond.code ({ cls := "StairOnSticks$Hopped", name := "tires", desc := "(LStairOnSticks$Person;LStairOnSticks$Step;)I" } : Jvm.MethodName) prog_5_method_4_code (3 : Nat) (Option.some Jvm.ClassFile.FieldType.int)) ∈ lw_all := lw_g (lw_at lw_m3 29 rfl) rfl
theorem q604 : (Jvm.Cond.selects "StairOnSticks$Hopped" ({ cls := "StairOnSticks$Move", name := "slips", desc := "(LStairOnSticks$Step;)I" } : Jvm.MethodName) ({ cls := "StairOnSticks$Hopped", name := "slips", desc := "(LStairOnSticks$Step;)I" } : Jvm.MethodName)) ∈ lw_all := lw_g (lw_at lw_m3 51 rfl) rfl
theorem q605 : (Jvm.Cond.instanceMethod ({ cls := "StairOnSticks$Hopped", name := "slips", desc := "(LStairOnSticks$Step;)I" } : Jvm.MethodName)) ∈ lw_all := lw_g (lw_at lw_m3 52 rfl) rfl
theorem q606 : (Jvm.Cond.code ({ cls := "StairOnSticks$Hopped", name := "slips", desc := "(LStairOnSticks$Step;)I" } : Jvm.MethodName) prog_5_method_5_code (2 : Nat) (Option.some Jvm.ClassFile.FieldType.int)) ∈ lw_all := lw_g (lw_at lw_m3 53 rfl) rfl
theorem q607 : (Jvm.Cond.methodLink "StairOnSticks$Hopped" (13 : Nat) ({ cls := "StairOnSticks$Swung", name := "slips", desc := "(LStairOnSticks$Step;)I" } : Jvm.MethodName)) ∈ lw_all := lw_g (lw_at lw_m3 54 rfl) rfl
theorem q608 : (Jvm.Cond.superclass "StairOnSticks$Hopped" "StairOnSticks$Swung") ∈ lw_all := lw_g (lw_at lw_m3 55 rfl) rfl
theorem q639 : (Jvm.Cond.fieldLink "StairOnSticks$Hopped" (7 : Nat) "StairOnSticks$Step" "rise" "I") ∈ lw_all := lw_g (lw_at lw_m3 86 rfl) rfl
theorem q718 : (Jvm.Cond.instantiable "StairOnSticks$Hopped" (2 : Nat)) ∈ lw_all := lw_g (lw_at lw_m3 165 rfl) rfl
theorem q720 : (Jvm.Cond.instanceMethod ({ cls := "StairOnSticks$Hopped", name := "<init>", desc := "(II)V" } : Jvm.MethodName)) ∈ lw_all := lw_g (lw_at lw_m3 167 rfl) rfl
theorem q721 : (Jvm.Cond.code ({ cls := "StairOnSticks$Hopped", name := "<init>", desc := "(II)V" } : Jvm.MethodName) prog_5_method_1_code (3 : Nat) (Option.none : Option Jvm.ClassFile.FieldType)) ∈ lw_all := lw_g (lw_at lw_m3 168 rfl) rfl
theorem q722 : (Jvm.Cond.methodLink "StairOnSticks$Hopped" (1 : Nat) ({ cls := "StairOnSticks$Swung", name := "<init>", desc := "(II)V" } : Jvm.MethodName)) ∈ lw_all := lw_g (lw_at lw_m3 169 rfl) rfl
theorem q723 : (Jvm.Cond.laysFinal "StairOnSticks$Hopped" "StairOnSticks$Move" "number" "I") ∈ lw_all := lw_g (lw_at lw_m3 170 rfl) rfl
theorem q724 : (Jvm.Cond.laysFinal "StairOnSticks$Hopped" "StairOnSticks$Move" "a" "I") ∈ lw_all := lw_g (lw_at lw_m3 171 rfl) rfl
theorem q1144 : (Jvm.Cond.selects "StairOnSticks$Hopped" ({ cls := "StairOnSticks$Move", name := "kind", desc := "()I" } : Jvm.MethodName) ({ cls := "StairOnSticks$Hopped", name := "kind", desc := "()I" } : Jvm.MethodName)) ∈ lw_all := lw_g (lw_at lw_m5 111 rfl) rfl
theorem q1145 : (Jvm.Cond.instanceMethod ({ cls := "StairOnSticks$Hopped", name := "kind", desc := "()I" } : Jvm.MethodName)) ∈ lw_all := lw_g (lw_at lw_m5 112 rfl) rfl
theorem q1146 : (Jvm.Cond.code ({ cls := "StairOnSticks$Hopped", name := "kind", desc := "()I" } : Jvm.MethodName) prog_5_method_2_code (1 : Nat) (Option.some Jvm.ClassFile.FieldType.int)) ∈ lw_all := lw_g (lw_at lw_m5 113 rfl) rfl
theorem q1175 : (Jvm.Cond.unhidden "StairOnSticks$Hopped" "can" "(LStairOnSticks$Person;LStairOnSticks$Step;I)Z") ∈ lw_tbl := lw_at lw_m5 142 rfl
theorem q1191 : (Jvm.Cond.castable "StairOnSticks$Hopped" "StairOnSticks$Loads") ∈ lw_tbl := lw_at lw_m5 158 rfl
theorem q1192 : (Jvm.Cond.selects "StairOnSticks$Hopped" ({ cls := "StairOnSticks$Loads", name := "load", desc := "(LStairOnSticks$Person;LStairOnSticks$Step;)I" } : Jvm.MethodName) ({ cls := "StairOnSticks$Swung", name := "load", desc := "(LStairOnSticks$Person;LStairOnSticks$Step;)I" } : Jvm.MethodName)) ∈ lw_all := lw_g (lw_at lw_m5 159 rfl) rfl
theorem q1193 : (Jvm.Cond.unhidden "StairOnSticks$Hopped" "load" "(LStairOnSticks$Person;LStairOnSticks$Step;)I") ∈ lw_tbl := lw_at lw_m5 160 rfl
theorem q1221 : (Jvm.Cond.selects "StairOnSticks$Hopped" ({ cls := "StairOnSticks$Loads", name := "tires", desc := "(LStairOnSticks$Person;LStairOnSticks$Step;)I" } : Jvm.MethodName) ({ cls := "StairOnSticks$Hopped", name := "tires", desc := "(LStairOnSticks$Person;LStairOnSticks$Step;)I" } : Jvm.MethodName)) ∈ lw_all := lw_g (lw_at lw_m5 188 rfl) rfl
theorem q1222 : (Jvm.Cond.unhidden "StairOnSticks$Hopped" "tires" "(LStairOnSticks$Person;LStairOnSticks$Step;)I") ∈ lw_tbl := lw_at lw_m5 189 rfl
theorem q1223 : (Jvm.Cond.publicMethod ({ cls := "StairOnSticks$Hopped", name := "tires", desc := "(LStairOnSticks$Person;LStairOnSticks$Step;)I" } : Jvm.MethodName)) ∈ lw_tbl := lw_at lw_m5 190 rfl
theorem q2042 : (Jvm.Cond.castable "StairOnSticks$Hopped" "StairOnSticks$Move") ∈ lw_tbl := lw_at lw_m9 49 rfl
theorem q2046 : (Jvm.Cond.castable "StairOnSticks$Hopped" "StairOnSticks$Cane") ∈ lw_tbl := lw_at lw_m9 53 rfl
theorem q2049 : (Jvm.Cond.castable "StairOnSticks$Hopped" "StairOnSticks$Swung") ∈ lw_tbl := lw_at lw_m9 56 rfl
theorem in_X13 : ∀ w ∈ wsX130, w ∈ lw_all := lw_in wsX130 [723, 724] (by decide +kernel) (by decide +kernel)
/-! StairOnSticks$Reader -/
set_option maxRecDepth 100000
def RX14 : String := "StairOnSticks$Reader"
def TX14 : u_T := fun k => match k with
  | 0 => ("StairOnSticks$Reader", "tape", "[I", true)
  | 1 => ("StairOnSticks$Reader", "size", "I", true)
  | 2 => ("StairOnSticks$Reader", "stair", "LStairOnSticks$Stair;", true)
  | 3 => ("StairOnSticks$Reader", "at", "I", false)
  | 4 => ("StairOnSticks$Reader", "from", "I", false)
  | 5 => ("StairOnSticks$Reader", "word", "Ljava/lang/String;", false)
  | _ => ("StairOnSticks$Reader", "number", "I", false)
def tyX14 : Nat → FieldType := fun k => match k with
  | 0 => .array .int
  | 1 => .int
  | 2 => .object "StairOnSticks$Stair"
  | 3 => .int
  | 4 => .int
  | 5 => .object "java/lang/String"
  | _ => .int
abbrev wsX140 : List Cond := u_ws RX14 TX14 7
theorem nmX14 : ∀ a, a < 7 → ∀ b, b < 7 → a ≠ b → (TX14 a).2.1 ≠ (TX14 b).2.1 := by decide +kernel
theorem tyX14_ok : ∀ k, k < 7 → parseFieldDescriptor (TX14 k).2.2.1 = some (tyX14 k) := by decide +kernel
abbrev cX14_init : ByteArray := prog_10_method_1_code
def yX14_init : MethodName := ⟨RX14, "<init>", "([IILStairOnSticks$Stair;)V"⟩
def dkwX14_init_0 : List UInt8 := [42, 183, 0, 3, 42, 43, 181, 0, 9, 42, 28, 181, 0, 15, 42, 45, 181, 0, 19, 177]
abbrev dktX14_init_0 : List UInt8 := dkwX14_init_0 ++ []
theorem dksX14_init_0 : cX14_init.data.toList.drop 0 = dktX14_init_0 := by decide +kernel
theorem dX14_init_0 : decode cX14_init 0 = .ok (.aload_n 0, 1) := dk_42 (dk_at dksX14_init_0 0 rfl rfl)
theorem dX14_init_1 : decode cX14_init 1 = .ok (.invokespecial 3, 3) := dk_183 0 3 (dk_at dksX14_init_0 1 rfl rfl)
theorem dX14_init_4 : decode cX14_init 4 = .ok (.aload_n 0, 1) := dk_42 (dk_at dksX14_init_0 4 rfl rfl)
theorem dX14_init_5 : decode cX14_init 5 = .ok (.aload_n 1, 1) := dk_43 (dk_at dksX14_init_0 5 rfl rfl)
theorem dX14_init_6 : decode cX14_init 6 = .ok (.putfield 9, 3) := dk_181 0 9 (dk_at dksX14_init_0 6 rfl rfl)
theorem dX14_init_9 : decode cX14_init 9 = .ok (.aload_n 0, 1) := dk_42 (dk_at dksX14_init_0 9 rfl rfl)
theorem dX14_init_10 : decode cX14_init 10 = .ok (.iload_n 2, 1) := dk_28 (dk_at dksX14_init_0 10 rfl rfl)
theorem dX14_init_11 : decode cX14_init 11 = .ok (.putfield 15, 3) := dk_181 0 15 (dk_at dksX14_init_0 11 rfl rfl)
theorem dX14_init_14 : decode cX14_init 14 = .ok (.aload_n 0, 1) := dk_42 (dk_at dksX14_init_0 14 rfl rfl)
theorem dX14_init_15 : decode cX14_init 15 = .ok (.aload_n 3, 1) := dk_45 (dk_at dksX14_init_0 15 rfl rfl)
theorem dX14_init_16 : decode cX14_init 16 = .ok (.putfield 19, 3) := dk_181 0 19 (dk_at dksX14_init_0 16 rfl rfl)
theorem dX14_init_19 : decode cX14_init 19 = .ok (.return_, 1) := dk_177 (dk_at dksX14_init_0 19 rfl rfl)
abbrev cX14_read : ByteArray := prog_10_method_10_code
def yX14_read : MethodName := ⟨RX14, "read", "()I"⟩
def dkwX14_read_1 : List UInt8 := [182, 0, 117, 154, 0, 8, 42, 182, 0, 73, 191, 42, 182, 0, 151, 132, 1, 1, 167, 255, 224, 27, 172]
abbrev dktX14_read_1 : List UInt8 := dkwX14_read_1 ++ []
def dkwX14_read_0 : List UInt8 := [4, 60, 42, 182, 0, 70, 42, 182, 0, 151, 42, 180, 0, 30, 42, 180, 0, 15, 162, 0, 27, 42, 18, 57]
abbrev dktX14_read_0 : List UInt8 := dkwX14_read_0 ++ dktX14_read_1
theorem dksX14_read_0 : cX14_read.data.toList.drop 0 = dktX14_read_0 := by decide +kernel
theorem dksX14_read_1 : cX14_read.data.toList.drop 24 = dktX14_read_1 := dk_seg dksX14_read_0 24 rfl rfl
theorem dX14_read_0 : decode cX14_read 0 = .ok (.iconst 1, 1) := dk_4 (dk_at dksX14_read_0 0 rfl rfl)
theorem dX14_read_1 : decode cX14_read 1 = .ok (.istore_n 1, 1) := dk_60 (dk_at dksX14_read_0 1 rfl rfl)
theorem dX14_read_2 : decode cX14_read 2 = .ok (.aload_n 0, 1) := dk_42 (dk_at dksX14_read_0 2 rfl rfl)
theorem dX14_read_3 : decode cX14_read 3 = .ok (.invokevirtual 70, 3) := dk_182 0 70 (dk_at dksX14_read_0 3 rfl rfl)
theorem dX14_read_6 : decode cX14_read 6 = .ok (.aload_n 0, 1) := dk_42 (dk_at dksX14_read_0 6 rfl rfl)
theorem dX14_read_7 : decode cX14_read 7 = .ok (.invokevirtual 151, 3) := dk_182 0 151 (dk_at dksX14_read_0 7 rfl rfl)
theorem dX14_read_10 : decode cX14_read 10 = .ok (.aload_n 0, 1) := dk_42 (dk_at dksX14_read_0 10 rfl rfl)
theorem dX14_read_11 : decode cX14_read 11 = .ok (.getfield 30, 3) := dk_180 0 30 (dk_at dksX14_read_0 11 rfl rfl)
theorem dX14_read_14 : decode cX14_read 14 = .ok (.aload_n 0, 1) := dk_42 (dk_at dksX14_read_0 14 rfl rfl)
theorem dX14_read_15 : decode cX14_read 15 = .ok (.getfield 15, 3) := dk_180 0 15 (dk_at dksX14_read_0 15 rfl rfl)
theorem dX14_read_18 : decode cX14_read 18 = .ok (.if_icmp .ge 27, 3) := dk_162 0 27 (dk_at dksX14_read_0 18 rfl rfl)
theorem dX14_read_21 : decode cX14_read 21 = .ok (.aload_n 0, 1) := dk_42 (dk_at dksX14_read_0 21 rfl rfl)
theorem dX14_read_22 : decode cX14_read 22 = .ok (.ldc 57, 2) := dk_18 57 (dk_at dksX14_read_0 22 rfl rfl)
theorem dX14_read_24 : decode cX14_read 24 = .ok (.invokevirtual 117, 3) := dk_182 0 117 (dk_at dksX14_read_1 0 rfl rfl)
theorem dX14_read_27 : decode cX14_read 27 = .ok (.ifCond .ne 8, 3) := dk_154 0 8 (dk_at dksX14_read_1 3 rfl rfl)
theorem dX14_read_30 : decode cX14_read 30 = .ok (.aload_n 0, 1) := dk_42 (dk_at dksX14_read_1 6 rfl rfl)
theorem dX14_read_31 : decode cX14_read 31 = .ok (.invokevirtual 73, 3) := dk_182 0 73 (dk_at dksX14_read_1 7 rfl rfl)
theorem dX14_read_34 : decode cX14_read 34 = .ok (.athrow, 1) := dk_191 (dk_at dksX14_read_1 10 rfl rfl)
theorem dX14_read_35 : decode cX14_read 35 = .ok (.aload_n 0, 1) := dk_42 (dk_at dksX14_read_1 11 rfl rfl)
theorem dX14_read_36 : decode cX14_read 36 = .ok (.invokevirtual 151, 3) := dk_182 0 151 (dk_at dksX14_read_1 12 rfl rfl)
theorem dX14_read_39 : decode cX14_read 39 = .ok (.iinc 1 1, 3) := dk_132 1 1 (dk_at dksX14_read_1 15 rfl rfl)
theorem dX14_read_42 : decode cX14_read 42 = .ok (.goto (-32), 3) := dk_167 255 224 (dk_at dksX14_read_1 18 rfl rfl)
theorem dX14_read_45 : decode cX14_read 45 = .ok (.iload_n 1, 1) := dk_27 (dk_at dksX14_read_1 21 rfl rfl)
theorem dX14_read_46 : decode cX14_read 46 = .ok (.ireturn, 1) := dk_172 (dk_at dksX14_read_1 22 rfl rfl)
abbrev cX14_next : ByteArray := prog_10_method_3_code
def yX14_next : MethodName := ⟨RX14, "next", "()V"⟩
def dkwX14_next_9 : List UInt8 := [42, 18, 57, 181, 0, 33, 42, 89, 180, 0, 23, 4, 96, 181, 0, 23, 177]
abbrev dktX14_next_9 : List UInt8 := dkwX14_next_9 ++ []
def dkwX14_next_8 : List UInt8 := [17, 3, 232, 167, 0, 4, 27, 181, 0, 37, 167, 0, 30, 42, 16, 59, 16, 59, 182, 0, 26, 153, 0, 19]
abbrev dktX14_next_8 : List UInt8 := dkwX14_next_8 ++ dktX14_next_9
def dkwX14_next_7 : List UInt8 := [4, 96, 181, 0, 23, 167, 255, 211, 42, 42, 180, 0, 23, 42, 180, 0, 30, 100, 6, 164, 0, 9]
abbrev dktX14_next_7 : List UInt8 := dkwX14_next_7 ++ dktX14_next_8
def dkwX14_next_6 : List UInt8 := [27, 104, 42, 180, 0, 9, 42, 180, 0, 23, 46, 96, 16, 48, 100, 184, 0, 51, 60, 42, 89, 180, 0, 23]
abbrev dktX14_next_6 : List UInt8 := dkwX14_next_6 ++ dktX14_next_7
def dkwX14_next_5 : List UInt8 := [182, 0, 26, 153, 0, 80, 3, 60, 42, 16, 48, 16, 57, 182, 0, 26, 153, 0, 40, 17, 3, 232, 16, 10]
abbrev dktX14_next_5 : List UInt8 := dkwX14_next_5 ++ dktX14_next_6
def dkwX14_next_4 : List UInt8 := [96, 181, 0, 23, 167, 255, 220, 42, 43, 182, 0, 47, 181, 0, 33, 167, 0, 118, 42, 16, 48, 16, 57]
abbrev dktX14_next_4 : List UInt8 := dkwX14_next_4 ++ dktX14_next_5
def dkwX14_next_3 : List UInt8 := [153, 0, 31, 43, 42, 180, 0, 9, 42, 180, 0, 23, 46, 146, 182, 0, 43, 87, 42, 89, 180, 0, 23, 4]
abbrev dktX14_next_3 : List UInt8 := dkwX14_next_3 ++ dktX14_next_4
def dkwX14_next_2 : List UInt8 := [182, 0, 26, 153, 0, 61, 187, 0, 40, 89, 183, 0, 42, 76, 42, 16, 97, 16, 122, 182, 0, 26]
abbrev dktX14_next_2 : List UInt8 := dkwX14_next_2 ++ dktX14_next_3
def dkwX14_next_1 : List UInt8 := [42, 42, 180, 0, 23, 181, 0, 30, 42, 1, 181, 0, 33, 42, 2, 181, 0, 37, 42, 16, 97, 16, 122]
abbrev dktX14_next_1 : List UInt8 := dkwX14_next_1 ++ dktX14_next_2
def dkwX14_next_0 : List UInt8 := [42, 16, 32, 16, 32, 182, 0, 26, 153, 0, 16, 42, 89, 180, 0, 23, 4, 96, 181, 0, 23, 167, 255, 235]
abbrev dktX14_next_0 : List UInt8 := dkwX14_next_0 ++ dktX14_next_1
theorem dksX14_next_0 : cX14_next.data.toList.drop 0 = dktX14_next_0 := by decide +kernel
theorem dksX14_next_1 : cX14_next.data.toList.drop 24 = dktX14_next_1 := dk_seg dksX14_next_0 24 rfl rfl
theorem dksX14_next_2 : cX14_next.data.toList.drop 47 = dktX14_next_2 := dk_seg dksX14_next_1 23 rfl rfl
theorem dksX14_next_3 : cX14_next.data.toList.drop 69 = dktX14_next_3 := dk_seg dksX14_next_2 22 rfl rfl
theorem dksX14_next_4 : cX14_next.data.toList.drop 93 = dktX14_next_4 := dk_seg dksX14_next_3 24 rfl rfl
theorem dksX14_next_5 : cX14_next.data.toList.drop 116 = dktX14_next_5 := dk_seg dksX14_next_4 23 rfl rfl
theorem dksX14_next_6 : cX14_next.data.toList.drop 140 = dktX14_next_6 := dk_seg dksX14_next_5 24 rfl rfl
theorem dksX14_next_7 : cX14_next.data.toList.drop 164 = dktX14_next_7 := dk_seg dksX14_next_6 24 rfl rfl
theorem dksX14_next_8 : cX14_next.data.toList.drop 186 = dktX14_next_8 := dk_seg dksX14_next_7 22 rfl rfl
theorem dksX14_next_9 : cX14_next.data.toList.drop 210 = dktX14_next_9 := dk_seg dksX14_next_8 24 rfl rfl
theorem dX14_next_0 : decode cX14_next 0 = .ok (.aload_n 0, 1) := dk_42 (dk_at dksX14_next_0 0 rfl rfl)
theorem dX14_next_1 : decode cX14_next 1 = .ok (.bipush 32, 2) := dk_16 32 (dk_at dksX14_next_0 1 rfl rfl)
theorem dX14_next_3 : decode cX14_next 3 = .ok (.bipush 32, 2) := dk_16 32 (dk_at dksX14_next_0 3 rfl rfl)
theorem dX14_next_5 : decode cX14_next 5 = .ok (.invokevirtual 26, 3) := dk_182 0 26 (dk_at dksX14_next_0 5 rfl rfl)
theorem dX14_next_8 : decode cX14_next 8 = .ok (.ifCond .eq 16, 3) := dk_153 0 16 (dk_at dksX14_next_0 8 rfl rfl)
theorem dX14_next_11 : decode cX14_next 11 = .ok (.aload_n 0, 1) := dk_42 (dk_at dksX14_next_0 11 rfl rfl)
theorem dX14_next_12 : decode cX14_next 12 = .ok (.dup, 1) := dk_89 (dk_at dksX14_next_0 12 rfl rfl)
theorem dX14_next_13 : decode cX14_next 13 = .ok (.getfield 23, 3) := dk_180 0 23 (dk_at dksX14_next_0 13 rfl rfl)
theorem dX14_next_16 : decode cX14_next 16 = .ok (.iconst 1, 1) := dk_4 (dk_at dksX14_next_0 16 rfl rfl)
theorem dX14_next_17 : decode cX14_next 17 = .ok (.iadd, 1) := dk_96 (dk_at dksX14_next_0 17 rfl rfl)
theorem dX14_next_18 : decode cX14_next 18 = .ok (.putfield 23, 3) := dk_181 0 23 (dk_at dksX14_next_0 18 rfl rfl)
theorem dX14_next_21 : decode cX14_next 21 = .ok (.goto (-21), 3) := dk_167 255 235 (dk_at dksX14_next_0 21 rfl rfl)
theorem dX14_next_24 : decode cX14_next 24 = .ok (.aload_n 0, 1) := dk_42 (dk_at dksX14_next_1 0 rfl rfl)
theorem dX14_next_25 : decode cX14_next 25 = .ok (.aload_n 0, 1) := dk_42 (dk_at dksX14_next_1 1 rfl rfl)
theorem dX14_next_26 : decode cX14_next 26 = .ok (.getfield 23, 3) := dk_180 0 23 (dk_at dksX14_next_1 2 rfl rfl)
theorem dX14_next_29 : decode cX14_next 29 = .ok (.putfield 30, 3) := dk_181 0 30 (dk_at dksX14_next_1 5 rfl rfl)
theorem dX14_next_32 : decode cX14_next 32 = .ok (.aload_n 0, 1) := dk_42 (dk_at dksX14_next_1 8 rfl rfl)
theorem dX14_next_33 : decode cX14_next 33 = .ok (.aconst_null, 1) := dk_1 (dk_at dksX14_next_1 9 rfl rfl)
theorem dX14_next_34 : decode cX14_next 34 = .ok (.putfield 33, 3) := dk_181 0 33 (dk_at dksX14_next_1 10 rfl rfl)
theorem dX14_next_37 : decode cX14_next 37 = .ok (.aload_n 0, 1) := dk_42 (dk_at dksX14_next_1 13 rfl rfl)
theorem dX14_next_38 : decode cX14_next 38 = .ok (.iconst (-1), 1) := dk_2 (dk_at dksX14_next_1 14 rfl rfl)
theorem dX14_next_39 : decode cX14_next 39 = .ok (.putfield 37, 3) := dk_181 0 37 (dk_at dksX14_next_1 15 rfl rfl)
theorem dX14_next_42 : decode cX14_next 42 = .ok (.aload_n 0, 1) := dk_42 (dk_at dksX14_next_1 18 rfl rfl)
theorem dX14_next_43 : decode cX14_next 43 = .ok (.bipush 97, 2) := dk_16 97 (dk_at dksX14_next_1 19 rfl rfl)
theorem dX14_next_45 : decode cX14_next 45 = .ok (.bipush 122, 2) := dk_16 122 (dk_at dksX14_next_1 21 rfl rfl)
theorem dX14_next_47 : decode cX14_next 47 = .ok (.invokevirtual 26, 3) := dk_182 0 26 (dk_at dksX14_next_2 0 rfl rfl)
theorem dX14_next_50 : decode cX14_next 50 = .ok (.ifCond .eq 61, 3) := dk_153 0 61 (dk_at dksX14_next_2 3 rfl rfl)
theorem dX14_next_53 : decode cX14_next 53 = .ok (.new 40, 3) := dk_187 0 40 (dk_at dksX14_next_2 6 rfl rfl)
theorem dX14_next_56 : decode cX14_next 56 = .ok (.dup, 1) := dk_89 (dk_at dksX14_next_2 9 rfl rfl)
theorem dX14_next_57 : decode cX14_next 57 = .ok (.invokespecial 42, 3) := dk_183 0 42 (dk_at dksX14_next_2 10 rfl rfl)
theorem dX14_next_60 : decode cX14_next 60 = .ok (.astore_n 1, 1) := dk_76 (dk_at dksX14_next_2 13 rfl rfl)
theorem dX14_next_61 : decode cX14_next 61 = .ok (.aload_n 0, 1) := dk_42 (dk_at dksX14_next_2 14 rfl rfl)
theorem dX14_next_62 : decode cX14_next 62 = .ok (.bipush 97, 2) := dk_16 97 (dk_at dksX14_next_2 15 rfl rfl)
theorem dX14_next_64 : decode cX14_next 64 = .ok (.bipush 122, 2) := dk_16 122 (dk_at dksX14_next_2 17 rfl rfl)
theorem dX14_next_66 : decode cX14_next 66 = .ok (.invokevirtual 26, 3) := dk_182 0 26 (dk_at dksX14_next_2 19 rfl rfl)
theorem dX14_next_69 : decode cX14_next 69 = .ok (.ifCond .eq 31, 3) := dk_153 0 31 (dk_at dksX14_next_3 0 rfl rfl)
theorem dX14_next_72 : decode cX14_next 72 = .ok (.aload_n 1, 1) := dk_43 (dk_at dksX14_next_3 3 rfl rfl)
theorem dX14_next_73 : decode cX14_next 73 = .ok (.aload_n 0, 1) := dk_42 (dk_at dksX14_next_3 4 rfl rfl)
theorem dX14_next_74 : decode cX14_next 74 = .ok (.getfield 9, 3) := dk_180 0 9 (dk_at dksX14_next_3 5 rfl rfl)
theorem dX14_next_77 : decode cX14_next 77 = .ok (.aload_n 0, 1) := dk_42 (dk_at dksX14_next_3 8 rfl rfl)
theorem dX14_next_78 : decode cX14_next 78 = .ok (.getfield 23, 3) := dk_180 0 23 (dk_at dksX14_next_3 9 rfl rfl)
theorem dX14_next_81 : decode cX14_next 81 = .ok (.iaload, 1) := dk_46 (dk_at dksX14_next_3 12 rfl rfl)
theorem dX14_next_82 : decode cX14_next 82 = .ok (.i2c, 1) := dk_146 (dk_at dksX14_next_3 13 rfl rfl)
theorem dX14_next_83 : decode cX14_next 83 = .ok (.invokevirtual 43, 3) := dk_182 0 43 (dk_at dksX14_next_3 14 rfl rfl)
theorem dX14_next_86 : decode cX14_next 86 = .ok (.pop, 1) := dk_87 (dk_at dksX14_next_3 17 rfl rfl)
theorem dX14_next_87 : decode cX14_next 87 = .ok (.aload_n 0, 1) := dk_42 (dk_at dksX14_next_3 18 rfl rfl)
theorem dX14_next_88 : decode cX14_next 88 = .ok (.dup, 1) := dk_89 (dk_at dksX14_next_3 19 rfl rfl)
theorem dX14_next_89 : decode cX14_next 89 = .ok (.getfield 23, 3) := dk_180 0 23 (dk_at dksX14_next_3 20 rfl rfl)
theorem dX14_next_92 : decode cX14_next 92 = .ok (.iconst 1, 1) := dk_4 (dk_at dksX14_next_3 23 rfl rfl)
theorem dX14_next_93 : decode cX14_next 93 = .ok (.iadd, 1) := dk_96 (dk_at dksX14_next_4 0 rfl rfl)
theorem dX14_next_94 : decode cX14_next 94 = .ok (.putfield 23, 3) := dk_181 0 23 (dk_at dksX14_next_4 1 rfl rfl)
theorem dX14_next_97 : decode cX14_next 97 = .ok (.goto (-36), 3) := dk_167 255 220 (dk_at dksX14_next_4 4 rfl rfl)
theorem dX14_next_100 : decode cX14_next 100 = .ok (.aload_n 0, 1) := dk_42 (dk_at dksX14_next_4 7 rfl rfl)
theorem dX14_next_101 : decode cX14_next 101 = .ok (.aload_n 1, 1) := dk_43 (dk_at dksX14_next_4 8 rfl rfl)
theorem dX14_next_102 : decode cX14_next 102 = .ok (.invokevirtual 47, 3) := dk_182 0 47 (dk_at dksX14_next_4 9 rfl rfl)
theorem dX14_next_105 : decode cX14_next 105 = .ok (.putfield 33, 3) := dk_181 0 33 (dk_at dksX14_next_4 12 rfl rfl)
theorem dX14_next_108 : decode cX14_next 108 = .ok (.goto 118, 3) := dk_167 0 118 (dk_at dksX14_next_4 15 rfl rfl)
theorem dX14_next_111 : decode cX14_next 111 = .ok (.aload_n 0, 1) := dk_42 (dk_at dksX14_next_4 18 rfl rfl)
theorem dX14_next_112 : decode cX14_next 112 = .ok (.bipush 48, 2) := dk_16 48 (dk_at dksX14_next_4 19 rfl rfl)
theorem dX14_next_114 : decode cX14_next 114 = .ok (.bipush 57, 2) := dk_16 57 (dk_at dksX14_next_4 21 rfl rfl)
theorem dX14_next_116 : decode cX14_next 116 = .ok (.invokevirtual 26, 3) := dk_182 0 26 (dk_at dksX14_next_5 0 rfl rfl)
theorem dX14_next_119 : decode cX14_next 119 = .ok (.ifCond .eq 80, 3) := dk_153 0 80 (dk_at dksX14_next_5 3 rfl rfl)
theorem dX14_next_122 : decode cX14_next 122 = .ok (.iconst 0, 1) := dk_3 (dk_at dksX14_next_5 6 rfl rfl)
theorem dX14_next_123 : decode cX14_next 123 = .ok (.istore_n 1, 1) := dk_60 (dk_at dksX14_next_5 7 rfl rfl)
theorem dX14_next_124 : decode cX14_next 124 = .ok (.aload_n 0, 1) := dk_42 (dk_at dksX14_next_5 8 rfl rfl)
theorem dX14_next_125 : decode cX14_next 125 = .ok (.bipush 48, 2) := dk_16 48 (dk_at dksX14_next_5 9 rfl rfl)
theorem dX14_next_127 : decode cX14_next 127 = .ok (.bipush 57, 2) := dk_16 57 (dk_at dksX14_next_5 11 rfl rfl)
theorem dX14_next_129 : decode cX14_next 129 = .ok (.invokevirtual 26, 3) := dk_182 0 26 (dk_at dksX14_next_5 13 rfl rfl)
theorem dX14_next_132 : decode cX14_next 132 = .ok (.ifCond .eq 40, 3) := dk_153 0 40 (dk_at dksX14_next_5 16 rfl rfl)
theorem dX14_next_135 : decode cX14_next 135 = .ok (.sipush 1000, 3) := dk_17 3 232 (dk_at dksX14_next_5 19 rfl rfl)
theorem dX14_next_138 : decode cX14_next 138 = .ok (.bipush 10, 2) := dk_16 10 (dk_at dksX14_next_5 22 rfl rfl)
theorem dX14_next_140 : decode cX14_next 140 = .ok (.iload_n 1, 1) := dk_27 (dk_at dksX14_next_6 0 rfl rfl)
theorem dX14_next_141 : decode cX14_next 141 = .ok (.imul, 1) := dk_104 (dk_at dksX14_next_6 1 rfl rfl)
theorem dX14_next_142 : decode cX14_next 142 = .ok (.aload_n 0, 1) := dk_42 (dk_at dksX14_next_6 2 rfl rfl)
theorem dX14_next_143 : decode cX14_next 143 = .ok (.getfield 9, 3) := dk_180 0 9 (dk_at dksX14_next_6 3 rfl rfl)
theorem dX14_next_146 : decode cX14_next 146 = .ok (.aload_n 0, 1) := dk_42 (dk_at dksX14_next_6 6 rfl rfl)
theorem dX14_next_147 : decode cX14_next 147 = .ok (.getfield 23, 3) := dk_180 0 23 (dk_at dksX14_next_6 7 rfl rfl)
theorem dX14_next_150 : decode cX14_next 150 = .ok (.iaload, 1) := dk_46 (dk_at dksX14_next_6 10 rfl rfl)
theorem dX14_next_151 : decode cX14_next 151 = .ok (.iadd, 1) := dk_96 (dk_at dksX14_next_6 11 rfl rfl)
theorem dX14_next_152 : decode cX14_next 152 = .ok (.bipush 48, 2) := dk_16 48 (dk_at dksX14_next_6 12 rfl rfl)
theorem dX14_next_154 : decode cX14_next 154 = .ok (.isub, 1) := dk_100 (dk_at dksX14_next_6 14 rfl rfl)
theorem dX14_next_155 : decode cX14_next 155 = .ok (.invokestatic 51, 3) := dk_184 0 51 (dk_at dksX14_next_6 15 rfl rfl)
theorem dX14_next_158 : decode cX14_next 158 = .ok (.istore_n 1, 1) := dk_60 (dk_at dksX14_next_6 18 rfl rfl)
theorem dX14_next_159 : decode cX14_next 159 = .ok (.aload_n 0, 1) := dk_42 (dk_at dksX14_next_6 19 rfl rfl)
theorem dX14_next_160 : decode cX14_next 160 = .ok (.dup, 1) := dk_89 (dk_at dksX14_next_6 20 rfl rfl)
theorem dX14_next_161 : decode cX14_next 161 = .ok (.getfield 23, 3) := dk_180 0 23 (dk_at dksX14_next_6 21 rfl rfl)
theorem dX14_next_164 : decode cX14_next 164 = .ok (.iconst 1, 1) := dk_4 (dk_at dksX14_next_7 0 rfl rfl)
theorem dX14_next_165 : decode cX14_next 165 = .ok (.iadd, 1) := dk_96 (dk_at dksX14_next_7 1 rfl rfl)
theorem dX14_next_166 : decode cX14_next 166 = .ok (.putfield 23, 3) := dk_181 0 23 (dk_at dksX14_next_7 2 rfl rfl)
theorem dX14_next_169 : decode cX14_next 169 = .ok (.goto (-45), 3) := dk_167 255 211 (dk_at dksX14_next_7 5 rfl rfl)
theorem dX14_next_172 : decode cX14_next 172 = .ok (.aload_n 0, 1) := dk_42 (dk_at dksX14_next_7 8 rfl rfl)
theorem dX14_next_173 : decode cX14_next 173 = .ok (.aload_n 0, 1) := dk_42 (dk_at dksX14_next_7 9 rfl rfl)
theorem dX14_next_174 : decode cX14_next 174 = .ok (.getfield 23, 3) := dk_180 0 23 (dk_at dksX14_next_7 10 rfl rfl)
theorem dX14_next_177 : decode cX14_next 177 = .ok (.aload_n 0, 1) := dk_42 (dk_at dksX14_next_7 13 rfl rfl)
theorem dX14_next_178 : decode cX14_next 178 = .ok (.getfield 30, 3) := dk_180 0 30 (dk_at dksX14_next_7 14 rfl rfl)
theorem dX14_next_181 : decode cX14_next 181 = .ok (.isub, 1) := dk_100 (dk_at dksX14_next_7 17 rfl rfl)
theorem dX14_next_182 : decode cX14_next 182 = .ok (.iconst 3, 1) := dk_6 (dk_at dksX14_next_7 18 rfl rfl)
theorem dX14_next_183 : decode cX14_next 183 = .ok (.if_icmp .le 9, 3) := dk_164 0 9 (dk_at dksX14_next_7 19 rfl rfl)
theorem dX14_next_186 : decode cX14_next 186 = .ok (.sipush 1000, 3) := dk_17 3 232 (dk_at dksX14_next_8 0 rfl rfl)
theorem dX14_next_189 : decode cX14_next 189 = .ok (.goto 4, 3) := dk_167 0 4 (dk_at dksX14_next_8 3 rfl rfl)
theorem dX14_next_192 : decode cX14_next 192 = .ok (.iload_n 1, 1) := dk_27 (dk_at dksX14_next_8 6 rfl rfl)
theorem dX14_next_193 : decode cX14_next 193 = .ok (.putfield 37, 3) := dk_181 0 37 (dk_at dksX14_next_8 7 rfl rfl)
theorem dX14_next_196 : decode cX14_next 196 = .ok (.goto 30, 3) := dk_167 0 30 (dk_at dksX14_next_8 10 rfl rfl)
theorem dX14_next_199 : decode cX14_next 199 = .ok (.aload_n 0, 1) := dk_42 (dk_at dksX14_next_8 13 rfl rfl)
theorem dX14_next_200 : decode cX14_next 200 = .ok (.bipush 59, 2) := dk_16 59 (dk_at dksX14_next_8 14 rfl rfl)
theorem dX14_next_202 : decode cX14_next 202 = .ok (.bipush 59, 2) := dk_16 59 (dk_at dksX14_next_8 16 rfl rfl)
theorem dX14_next_204 : decode cX14_next 204 = .ok (.invokevirtual 26, 3) := dk_182 0 26 (dk_at dksX14_next_8 18 rfl rfl)
theorem dX14_next_207 : decode cX14_next 207 = .ok (.ifCond .eq 19, 3) := dk_153 0 19 (dk_at dksX14_next_8 21 rfl rfl)
theorem dX14_next_210 : decode cX14_next 210 = .ok (.aload_n 0, 1) := dk_42 (dk_at dksX14_next_9 0 rfl rfl)
theorem dX14_next_211 : decode cX14_next 211 = .ok (.ldc 57, 2) := dk_18 57 (dk_at dksX14_next_9 1 rfl rfl)
theorem dX14_next_213 : decode cX14_next 213 = .ok (.putfield 33, 3) := dk_181 0 33 (dk_at dksX14_next_9 3 rfl rfl)
theorem dX14_next_216 : decode cX14_next 216 = .ok (.aload_n 0, 1) := dk_42 (dk_at dksX14_next_9 6 rfl rfl)
theorem dX14_next_217 : decode cX14_next 217 = .ok (.dup, 1) := dk_89 (dk_at dksX14_next_9 7 rfl rfl)
theorem dX14_next_218 : decode cX14_next 218 = .ok (.getfield 23, 3) := dk_180 0 23 (dk_at dksX14_next_9 8 rfl rfl)
theorem dX14_next_221 : decode cX14_next 221 = .ok (.iconst 1, 1) := dk_4 (dk_at dksX14_next_9 11 rfl rfl)
theorem dX14_next_222 : decode cX14_next 222 = .ok (.iadd, 1) := dk_96 (dk_at dksX14_next_9 12 rfl rfl)
theorem dX14_next_223 : decode cX14_next 223 = .ok (.putfield 23, 3) := dk_181 0 23 (dk_at dksX14_next_9 13 rfl rfl)
theorem dX14_next_226 : decode cX14_next 226 = .ok (.return_, 1) := dk_177 (dk_at dksX14_next_9 16 rfl rfl)
abbrev cX14_isIn : ByteArray := prog_10_method_2_code
def yX14_isIn : MethodName := ⟨RX14, "isIn", "(II)Z"⟩
def dkwX14_isIn_1 : List UInt8 := [42, 180, 0, 9, 42, 180, 0, 23, 46, 28, 163, 0, 7, 4, 167, 0, 4, 3, 172]
abbrev dktX14_isIn_1 : List UInt8 := dkwX14_isIn_1 ++ []
def dkwX14_isIn_0 : List UInt8 := [42, 180, 0, 23, 42, 180, 0, 15, 162, 0, 33, 42, 180, 0, 9, 42, 180, 0, 23, 46, 27, 161, 0, 20]
abbrev dktX14_isIn_0 : List UInt8 := dkwX14_isIn_0 ++ dktX14_isIn_1
theorem dksX14_isIn_0 : cX14_isIn.data.toList.drop 0 = dktX14_isIn_0 := by decide +kernel
theorem dksX14_isIn_1 : cX14_isIn.data.toList.drop 24 = dktX14_isIn_1 := dk_seg dksX14_isIn_0 24 rfl rfl
theorem dX14_isIn_0 : decode cX14_isIn 0 = .ok (.aload_n 0, 1) := dk_42 (dk_at dksX14_isIn_0 0 rfl rfl)
theorem dX14_isIn_1 : decode cX14_isIn 1 = .ok (.getfield 23, 3) := dk_180 0 23 (dk_at dksX14_isIn_0 1 rfl rfl)
theorem dX14_isIn_4 : decode cX14_isIn 4 = .ok (.aload_n 0, 1) := dk_42 (dk_at dksX14_isIn_0 4 rfl rfl)
theorem dX14_isIn_5 : decode cX14_isIn 5 = .ok (.getfield 15, 3) := dk_180 0 15 (dk_at dksX14_isIn_0 5 rfl rfl)
theorem dX14_isIn_8 : decode cX14_isIn 8 = .ok (.if_icmp .ge 33, 3) := dk_162 0 33 (dk_at dksX14_isIn_0 8 rfl rfl)
theorem dX14_isIn_11 : decode cX14_isIn 11 = .ok (.aload_n 0, 1) := dk_42 (dk_at dksX14_isIn_0 11 rfl rfl)
theorem dX14_isIn_12 : decode cX14_isIn 12 = .ok (.getfield 9, 3) := dk_180 0 9 (dk_at dksX14_isIn_0 12 rfl rfl)
theorem dX14_isIn_15 : decode cX14_isIn 15 = .ok (.aload_n 0, 1) := dk_42 (dk_at dksX14_isIn_0 15 rfl rfl)
theorem dX14_isIn_16 : decode cX14_isIn 16 = .ok (.getfield 23, 3) := dk_180 0 23 (dk_at dksX14_isIn_0 16 rfl rfl)
theorem dX14_isIn_19 : decode cX14_isIn 19 = .ok (.iaload, 1) := dk_46 (dk_at dksX14_isIn_0 19 rfl rfl)
theorem dX14_isIn_20 : decode cX14_isIn 20 = .ok (.iload_n 1, 1) := dk_27 (dk_at dksX14_isIn_0 20 rfl rfl)
theorem dX14_isIn_21 : decode cX14_isIn 21 = .ok (.if_icmp .lt 20, 3) := dk_161 0 20 (dk_at dksX14_isIn_0 21 rfl rfl)
theorem dX14_isIn_24 : decode cX14_isIn 24 = .ok (.aload_n 0, 1) := dk_42 (dk_at dksX14_isIn_1 0 rfl rfl)
theorem dX14_isIn_25 : decode cX14_isIn 25 = .ok (.getfield 9, 3) := dk_180 0 9 (dk_at dksX14_isIn_1 1 rfl rfl)
theorem dX14_isIn_28 : decode cX14_isIn 28 = .ok (.aload_n 0, 1) := dk_42 (dk_at dksX14_isIn_1 4 rfl rfl)
theorem dX14_isIn_29 : decode cX14_isIn 29 = .ok (.getfield 23, 3) := dk_180 0 23 (dk_at dksX14_isIn_1 5 rfl rfl)
theorem dX14_isIn_32 : decode cX14_isIn 32 = .ok (.iaload, 1) := dk_46 (dk_at dksX14_isIn_1 8 rfl rfl)
theorem dX14_isIn_33 : decode cX14_isIn 33 = .ok (.iload_n 2, 1) := dk_28 (dk_at dksX14_isIn_1 9 rfl rfl)
theorem dX14_isIn_34 : decode cX14_isIn 34 = .ok (.if_icmp .gt 7, 3) := dk_163 0 7 (dk_at dksX14_isIn_1 10 rfl rfl)
theorem dX14_isIn_37 : decode cX14_isIn 37 = .ok (.iconst 1, 1) := dk_4 (dk_at dksX14_isIn_1 13 rfl rfl)
theorem dX14_isIn_38 : decode cX14_isIn 38 = .ok (.goto 4, 3) := dk_167 0 4 (dk_at dksX14_isIn_1 14 rfl rfl)
theorem dX14_isIn_41 : decode cX14_isIn 41 = .ok (.iconst 0, 1) := dk_3 (dk_at dksX14_isIn_1 17 rfl rfl)
theorem dX14_isIn_42 : decode cX14_isIn 42 = .ok (.ireturn, 1) := dk_172 (dk_at dksX14_isIn_1 18 rfl rfl)
abbrev cX14_item : ByteArray := prog_10_method_9_code
def yX14_item : MethodName := ⟨RX14, "item", "()V"⟩
def dkwX14_item_16 : List UInt8 := [182, 0, 73, 191, 177]
abbrev dktX14_item_16 : List UInt8 := dkwX14_item_16 ++ []
def dkwX14_item_15 : List UInt8 := [100, 182, 0, 88, 50, 3, 181, 0, 146, 167, 0, 19, 42, 6, 3, 16, 100, 182, 0, 139, 167, 0, 8, 42]
abbrev dktX14_item_15 : List UInt8 := dkwX14_item_15 ++ dktX14_item_16
def dkwX14_item_14 : List UInt8 := [167, 0, 52, 42, 182, 0, 70, 42, 180, 0, 19, 180, 0, 143, 42, 3, 42, 180, 0, 19, 180, 0, 108, 4]
abbrev dktX14_item_14 : List UInt8 := dkwX14_item_14 ++ dktX14_item_15
def dkwX14_item_13 : List UInt8 := [167, 0, 76, 42, 4, 3, 17, 0, 200, 182, 0, 139, 167, 0, 64, 42, 5, 3, 17, 0, 200, 182, 0, 139]
abbrev dktX14_item_13 : List UInt8 := dkwX14_item_13 ++ dktX14_item_14
def dkwX14_item_12 : List UInt8 := [182, 0, 88, 184, 0, 132, 182, 0, 136, 167, 0, 89, 42, 3, 16, 30, 17, 0, 200, 182, 0, 139]
abbrev dktX14_item_12 : List UInt8 := dkwX14_item_12 ++ dktX14_item_13
def dkwX14_item_11 : List UInt8 := [42, 3, 8, 182, 0, 88, 62, 42, 180, 0, 19, 29, 42, 180, 0, 19, 180, 0, 129, 42, 3, 16, 10]
abbrev dktX14_item_11 : List UInt8 := dkwX14_item_11 ++ dktX14_item_12
def dkwX14_item_10 : List UInt8 := [18, 123, 182, 0, 117, 182, 0, 125, 167, 0, 137, 42, 42, 180, 0, 19, 180, 0, 129, 16, 6, 182, 0, 111]
abbrev dktX14_item_10 : List UInt8 := dkwX14_item_10 ++ dktX14_item_11
def dkwX14_item_9 : List UInt8 := [182, 0, 117, 54, 4, 42, 18, 121, 182, 0, 117, 54, 5, 42, 180, 0, 19, 29, 21, 4, 21, 5, 42]
abbrev dktX14_item_9 : List UInt8 := dkwX14_item_9 ++ dktX14_item_10
def dkwX14_item_8 : List UInt8 := [42, 42, 180, 0, 19, 180, 0, 108, 16, 9, 182, 0, 111, 42, 4, 16, 20, 182, 0, 88, 62, 42, 18, 115]
abbrev dktX14_item_8 : List UInt8 := dkwX14_item_8 ++ dktX14_item_9
def dkwX14_item_7 : List UInt8 := [170, 0, 0, 0, 0, 0, 230, 0, 0, 0, 0, 0, 0, 0, 6, 0, 0, 0, 43, 0, 0, 0, 101, 0, 0, 0, 149, 0, 0, 0, 162, 0, 0, 0, 174, 0, 0, 0, 186, 0, 0, 0, 219]
abbrev dktX14_item_7 : List UInt8 := dkwX14_item_7 ++ dktX14_item_8
def dkwX14_item_6 : List UInt8 := [61, 28]
abbrev dktX14_item_6 : List UInt8 := dkwX14_item_6 ++ dktX14_item_7
def dkwX14_item_5 : List UInt8 := [18, 104, 182, 0, 64, 153, 0, 20, 8, 61, 167, 0, 15, 43, 18, 106, 182, 0, 64, 153, 0, 6, 16, 6]
abbrev dktX14_item_5 : List UInt8 := dkwX14_item_5 ++ dktX14_item_6
def dkwX14_item_4 : List UInt8 := [153, 0, 48, 6, 61, 167, 0, 43, 43, 18, 102, 182, 0, 64, 153, 0, 34, 7, 61, 167, 0, 29, 43]
abbrev dktX14_item_4 : List UInt8 := dkwX14_item_4 ++ dktX14_item_5
def dkwX14_item_3 : List UInt8 := [61, 167, 0, 71, 43, 18, 98, 182, 0, 64, 153, 0, 62, 5, 61, 167, 0, 57, 43, 18, 100, 182, 0, 64]
abbrev dktX14_item_3 : List UInt8 := dkwX14_item_3 ++ dktX14_item_4
def dkwX14_item_2 : List UInt8 := [43, 18, 94, 182, 0, 64, 153, 0, 90, 3, 61, 167, 0, 85, 43, 18, 96, 182, 0, 64, 153, 0, 76, 4]
abbrev dktX14_item_2 : List UInt8 := dkwX14_item_2 ++ dktX14_item_3
def dkwX14_item_1 : List UInt8 := [171, 0, 0, 0, 161, 0, 0, 0, 7, 208, 209, 66, 120, 0, 0, 0, 93, 0, 1, 133, 171, 0, 0, 0, 135, 0, 1, 202, 239, 0, 0, 0, 79, 0, 45, 209, 151, 0, 0, 0, 121, 0, 48, 205, 232, 0, 0, 0, 149, 0, 54, 6, 204, 0, 0, 0, 65, 6, 35, 75, 187, 0, 0, 0, 107]
abbrev dktX14_item_1 : List UInt8 := dkwX14_item_1 ++ dktX14_item_2
def dkwX14_item_0 : List UInt8 := [42, 180, 0, 33, 199, 0, 8, 42, 182, 0, 73, 191, 42, 180, 0, 33, 76, 2, 61, 43, 182, 0, 90]
abbrev dktX14_item_0 : List UInt8 := dkwX14_item_0 ++ dktX14_item_1
theorem dksX14_item_0 : cX14_item.data.toList.drop 0 = dktX14_item_0 := by decide +kernel
theorem dksX14_item_1 : cX14_item.data.toList.drop 23 = dktX14_item_1 := dk_seg dksX14_item_0 23 rfl rfl
theorem dksX14_item_2 : cX14_item.data.toList.drop 88 = dktX14_item_2 := dk_seg dksX14_item_1 65 rfl rfl
theorem dksX14_item_3 : cX14_item.data.toList.drop 112 = dktX14_item_3 := dk_seg dksX14_item_2 24 rfl rfl
theorem dksX14_item_4 : cX14_item.data.toList.drop 136 = dktX14_item_4 := dk_seg dksX14_item_3 24 rfl rfl
theorem dksX14_item_5 : cX14_item.data.toList.drop 159 = dktX14_item_5 := dk_seg dksX14_item_4 23 rfl rfl
theorem dksX14_item_6 : cX14_item.data.toList.drop 183 = dktX14_item_6 := dk_seg dksX14_item_5 24 rfl rfl
theorem dksX14_item_7 : cX14_item.data.toList.drop 185 = dktX14_item_7 := dk_seg dksX14_item_6 2 rfl rfl
theorem dksX14_item_8 : cX14_item.data.toList.drop 228 = dktX14_item_8 := dk_seg dksX14_item_7 43 rfl rfl
theorem dksX14_item_9 : cX14_item.data.toList.drop 252 = dktX14_item_9 := dk_seg dksX14_item_8 24 rfl rfl
theorem dksX14_item_10 : cX14_item.data.toList.drop 275 = dktX14_item_10 := dk_seg dksX14_item_9 23 rfl rfl
theorem dksX14_item_11 : cX14_item.data.toList.drop 299 = dktX14_item_11 := dk_seg dksX14_item_10 24 rfl rfl
theorem dksX14_item_12 : cX14_item.data.toList.drop 322 = dktX14_item_12 := dk_seg dksX14_item_11 23 rfl rfl
theorem dksX14_item_13 : cX14_item.data.toList.drop 344 = dktX14_item_13 := dk_seg dksX14_item_12 22 rfl rfl
theorem dksX14_item_14 : cX14_item.data.toList.drop 368 = dktX14_item_14 := dk_seg dksX14_item_13 24 rfl rfl
theorem dksX14_item_15 : cX14_item.data.toList.drop 392 = dktX14_item_15 := dk_seg dksX14_item_14 24 rfl rfl
theorem dksX14_item_16 : cX14_item.data.toList.drop 416 = dktX14_item_16 := dk_seg dksX14_item_15 24 rfl rfl
theorem dX14_item_0 : decode cX14_item 0 = .ok (.aload_n 0, 1) := dk_42 (dk_at dksX14_item_0 0 rfl rfl)
theorem dX14_item_1 : decode cX14_item 1 = .ok (.getfield 33, 3) := dk_180 0 33 (dk_at dksX14_item_0 1 rfl rfl)
theorem dX14_item_4 : decode cX14_item 4 = .ok (.ifnonnull 8, 3) := dk_199 0 8 (dk_at dksX14_item_0 4 rfl rfl)
theorem dX14_item_7 : decode cX14_item 7 = .ok (.aload_n 0, 1) := dk_42 (dk_at dksX14_item_0 7 rfl rfl)
theorem dX14_item_8 : decode cX14_item 8 = .ok (.invokevirtual 73, 3) := dk_182 0 73 (dk_at dksX14_item_0 8 rfl rfl)
theorem dX14_item_11 : decode cX14_item 11 = .ok (.athrow, 1) := dk_191 (dk_at dksX14_item_0 11 rfl rfl)
theorem dX14_item_12 : decode cX14_item 12 = .ok (.aload_n 0, 1) := dk_42 (dk_at dksX14_item_0 12 rfl rfl)
theorem dX14_item_13 : decode cX14_item 13 = .ok (.getfield 33, 3) := dk_180 0 33 (dk_at dksX14_item_0 13 rfl rfl)
theorem dX14_item_16 : decode cX14_item 16 = .ok (.astore_n 1, 1) := dk_76 (dk_at dksX14_item_0 16 rfl rfl)
theorem dX14_item_17 : decode cX14_item 17 = .ok (.iconst (-1), 1) := dk_2 (dk_at dksX14_item_0 17 rfl rfl)
theorem dX14_item_18 : decode cX14_item 18 = .ok (.istore_n 2, 1) := dk_61 (dk_at dksX14_item_0 18 rfl rfl)
theorem dX14_item_19 : decode cX14_item 19 = .ok (.aload_n 1, 1) := dk_43 (dk_at dksX14_item_0 19 rfl rfl)
theorem dX14_item_20 : decode cX14_item 20 = .ok (.invokevirtual 90, 3) := dk_182 0 90 (dk_at dksX14_item_0 20 rfl rfl)
theorem dX14_item_23 : decode cX14_item 23 = .ok (.lookupswitch 161 #[(-791592328, 93), (99755, 135), (117487, 79), (3002775, 121), (3198440, 149), (3540684, 65), (102976443, 107)], 65) := by decide +kernel
theorem dX14_item_88 : decode cX14_item 88 = .ok (.aload_n 1, 1) := dk_43 (dk_at dksX14_item_2 0 rfl rfl)
theorem dX14_item_89 : decode cX14_item 89 = .ok (.ldc 94, 2) := dk_18 94 (dk_at dksX14_item_2 1 rfl rfl)
theorem dX14_item_91 : decode cX14_item 91 = .ok (.invokevirtual 64, 3) := dk_182 0 64 (dk_at dksX14_item_2 3 rfl rfl)
theorem dX14_item_94 : decode cX14_item 94 = .ok (.ifCond .eq 90, 3) := dk_153 0 90 (dk_at dksX14_item_2 6 rfl rfl)
theorem dX14_item_97 : decode cX14_item 97 = .ok (.iconst 0, 1) := dk_3 (dk_at dksX14_item_2 9 rfl rfl)
theorem dX14_item_98 : decode cX14_item 98 = .ok (.istore_n 2, 1) := dk_61 (dk_at dksX14_item_2 10 rfl rfl)
theorem dX14_item_99 : decode cX14_item 99 = .ok (.goto 85, 3) := dk_167 0 85 (dk_at dksX14_item_2 11 rfl rfl)
theorem dX14_item_102 : decode cX14_item 102 = .ok (.aload_n 1, 1) := dk_43 (dk_at dksX14_item_2 14 rfl rfl)
theorem dX14_item_103 : decode cX14_item 103 = .ok (.ldc 96, 2) := dk_18 96 (dk_at dksX14_item_2 15 rfl rfl)
theorem dX14_item_105 : decode cX14_item 105 = .ok (.invokevirtual 64, 3) := dk_182 0 64 (dk_at dksX14_item_2 17 rfl rfl)
theorem dX14_item_108 : decode cX14_item 108 = .ok (.ifCond .eq 76, 3) := dk_153 0 76 (dk_at dksX14_item_2 20 rfl rfl)
theorem dX14_item_111 : decode cX14_item 111 = .ok (.iconst 1, 1) := dk_4 (dk_at dksX14_item_2 23 rfl rfl)
theorem dX14_item_112 : decode cX14_item 112 = .ok (.istore_n 2, 1) := dk_61 (dk_at dksX14_item_3 0 rfl rfl)
theorem dX14_item_113 : decode cX14_item 113 = .ok (.goto 71, 3) := dk_167 0 71 (dk_at dksX14_item_3 1 rfl rfl)
theorem dX14_item_116 : decode cX14_item 116 = .ok (.aload_n 1, 1) := dk_43 (dk_at dksX14_item_3 4 rfl rfl)
theorem dX14_item_117 : decode cX14_item 117 = .ok (.ldc 98, 2) := dk_18 98 (dk_at dksX14_item_3 5 rfl rfl)
theorem dX14_item_119 : decode cX14_item 119 = .ok (.invokevirtual 64, 3) := dk_182 0 64 (dk_at dksX14_item_3 7 rfl rfl)
theorem dX14_item_122 : decode cX14_item 122 = .ok (.ifCond .eq 62, 3) := dk_153 0 62 (dk_at dksX14_item_3 10 rfl rfl)
theorem dX14_item_125 : decode cX14_item 125 = .ok (.iconst 2, 1) := dk_5 (dk_at dksX14_item_3 13 rfl rfl)
theorem dX14_item_126 : decode cX14_item 126 = .ok (.istore_n 2, 1) := dk_61 (dk_at dksX14_item_3 14 rfl rfl)
theorem dX14_item_127 : decode cX14_item 127 = .ok (.goto 57, 3) := dk_167 0 57 (dk_at dksX14_item_3 15 rfl rfl)
theorem dX14_item_130 : decode cX14_item 130 = .ok (.aload_n 1, 1) := dk_43 (dk_at dksX14_item_3 18 rfl rfl)
theorem dX14_item_131 : decode cX14_item 131 = .ok (.ldc 100, 2) := dk_18 100 (dk_at dksX14_item_3 19 rfl rfl)
theorem dX14_item_133 : decode cX14_item 133 = .ok (.invokevirtual 64, 3) := dk_182 0 64 (dk_at dksX14_item_3 21 rfl rfl)
theorem dX14_item_136 : decode cX14_item 136 = .ok (.ifCond .eq 48, 3) := dk_153 0 48 (dk_at dksX14_item_4 0 rfl rfl)
theorem dX14_item_139 : decode cX14_item 139 = .ok (.iconst 3, 1) := dk_6 (dk_at dksX14_item_4 3 rfl rfl)
theorem dX14_item_140 : decode cX14_item 140 = .ok (.istore_n 2, 1) := dk_61 (dk_at dksX14_item_4 4 rfl rfl)
theorem dX14_item_141 : decode cX14_item 141 = .ok (.goto 43, 3) := dk_167 0 43 (dk_at dksX14_item_4 5 rfl rfl)
theorem dX14_item_144 : decode cX14_item 144 = .ok (.aload_n 1, 1) := dk_43 (dk_at dksX14_item_4 8 rfl rfl)
theorem dX14_item_145 : decode cX14_item 145 = .ok (.ldc 102, 2) := dk_18 102 (dk_at dksX14_item_4 9 rfl rfl)
theorem dX14_item_147 : decode cX14_item 147 = .ok (.invokevirtual 64, 3) := dk_182 0 64 (dk_at dksX14_item_4 11 rfl rfl)
theorem dX14_item_150 : decode cX14_item 150 = .ok (.ifCond .eq 34, 3) := dk_153 0 34 (dk_at dksX14_item_4 14 rfl rfl)
theorem dX14_item_153 : decode cX14_item 153 = .ok (.iconst 4, 1) := dk_7 (dk_at dksX14_item_4 17 rfl rfl)
theorem dX14_item_154 : decode cX14_item 154 = .ok (.istore_n 2, 1) := dk_61 (dk_at dksX14_item_4 18 rfl rfl)
theorem dX14_item_155 : decode cX14_item 155 = .ok (.goto 29, 3) := dk_167 0 29 (dk_at dksX14_item_4 19 rfl rfl)
theorem dX14_item_158 : decode cX14_item 158 = .ok (.aload_n 1, 1) := dk_43 (dk_at dksX14_item_4 22 rfl rfl)
theorem dX14_item_159 : decode cX14_item 159 = .ok (.ldc 104, 2) := dk_18 104 (dk_at dksX14_item_5 0 rfl rfl)
theorem dX14_item_161 : decode cX14_item 161 = .ok (.invokevirtual 64, 3) := dk_182 0 64 (dk_at dksX14_item_5 2 rfl rfl)
theorem dX14_item_164 : decode cX14_item 164 = .ok (.ifCond .eq 20, 3) := dk_153 0 20 (dk_at dksX14_item_5 5 rfl rfl)
theorem dX14_item_167 : decode cX14_item 167 = .ok (.iconst 5, 1) := dk_8 (dk_at dksX14_item_5 8 rfl rfl)
theorem dX14_item_168 : decode cX14_item 168 = .ok (.istore_n 2, 1) := dk_61 (dk_at dksX14_item_5 9 rfl rfl)
theorem dX14_item_169 : decode cX14_item 169 = .ok (.goto 15, 3) := dk_167 0 15 (dk_at dksX14_item_5 10 rfl rfl)
theorem dX14_item_172 : decode cX14_item 172 = .ok (.aload_n 1, 1) := dk_43 (dk_at dksX14_item_5 13 rfl rfl)
theorem dX14_item_173 : decode cX14_item 173 = .ok (.ldc 106, 2) := dk_18 106 (dk_at dksX14_item_5 14 rfl rfl)
theorem dX14_item_175 : decode cX14_item 175 = .ok (.invokevirtual 64, 3) := dk_182 0 64 (dk_at dksX14_item_5 16 rfl rfl)
theorem dX14_item_178 : decode cX14_item 178 = .ok (.ifCond .eq 6, 3) := dk_153 0 6 (dk_at dksX14_item_5 19 rfl rfl)
theorem dX14_item_181 : decode cX14_item 181 = .ok (.bipush 6, 2) := dk_16 6 (dk_at dksX14_item_5 22 rfl rfl)
theorem dX14_item_183 : decode cX14_item 183 = .ok (.istore_n 2, 1) := dk_61 (dk_at dksX14_item_6 0 rfl rfl)
theorem dX14_item_184 : decode cX14_item 184 = .ok (.iload_n 2, 1) := dk_28 (dk_at dksX14_item_6 1 rfl rfl)
theorem dX14_item_185 : decode cX14_item 185 = .ok (.tableswitch 230 0 6 #[43, 101, 149, 162, 174, 186, 219], 43) := by decide +kernel
theorem dX14_item_228 : decode cX14_item 228 = .ok (.aload_n 0, 1) := dk_42 (dk_at dksX14_item_8 0 rfl rfl)
theorem dX14_item_229 : decode cX14_item 229 = .ok (.aload_n 0, 1) := dk_42 (dk_at dksX14_item_8 1 rfl rfl)
theorem dX14_item_230 : decode cX14_item 230 = .ok (.getfield 19, 3) := dk_180 0 19 (dk_at dksX14_item_8 2 rfl rfl)
theorem dX14_item_233 : decode cX14_item 233 = .ok (.getfield 108, 3) := dk_180 0 108 (dk_at dksX14_item_8 5 rfl rfl)
theorem dX14_item_236 : decode cX14_item 236 = .ok (.bipush 9, 2) := dk_16 9 (dk_at dksX14_item_8 8 rfl rfl)
theorem dX14_item_238 : decode cX14_item 238 = .ok (.invokevirtual 111, 3) := dk_182 0 111 (dk_at dksX14_item_8 10 rfl rfl)
theorem dX14_item_241 : decode cX14_item 241 = .ok (.aload_n 0, 1) := dk_42 (dk_at dksX14_item_8 13 rfl rfl)
theorem dX14_item_242 : decode cX14_item 242 = .ok (.iconst 1, 1) := dk_4 (dk_at dksX14_item_8 14 rfl rfl)
theorem dX14_item_243 : decode cX14_item 243 = .ok (.bipush 20, 2) := dk_16 20 (dk_at dksX14_item_8 15 rfl rfl)
theorem dX14_item_245 : decode cX14_item 245 = .ok (.invokevirtual 88, 3) := dk_182 0 88 (dk_at dksX14_item_8 17 rfl rfl)
theorem dX14_item_248 : decode cX14_item 248 = .ok (.istore_n 3, 1) := dk_62 (dk_at dksX14_item_8 20 rfl rfl)
theorem dX14_item_249 : decode cX14_item 249 = .ok (.aload_n 0, 1) := dk_42 (dk_at dksX14_item_8 21 rfl rfl)
theorem dX14_item_250 : decode cX14_item 250 = .ok (.ldc 115, 2) := dk_18 115 (dk_at dksX14_item_8 22 rfl rfl)
theorem dX14_item_252 : decode cX14_item 252 = .ok (.invokevirtual 117, 3) := dk_182 0 117 (dk_at dksX14_item_9 0 rfl rfl)
theorem dX14_item_255 : decode cX14_item 255 = .ok (.istore 4, 2) := dk_54 4 (dk_at dksX14_item_9 3 rfl rfl)
theorem dX14_item_257 : decode cX14_item 257 = .ok (.aload_n 0, 1) := dk_42 (dk_at dksX14_item_9 5 rfl rfl)
theorem dX14_item_258 : decode cX14_item 258 = .ok (.ldc 121, 2) := dk_18 121 (dk_at dksX14_item_9 6 rfl rfl)
theorem dX14_item_260 : decode cX14_item 260 = .ok (.invokevirtual 117, 3) := dk_182 0 117 (dk_at dksX14_item_9 8 rfl rfl)
theorem dX14_item_263 : decode cX14_item 263 = .ok (.istore 5, 2) := dk_54 5 (dk_at dksX14_item_9 11 rfl rfl)
theorem dX14_item_265 : decode cX14_item 265 = .ok (.aload_n 0, 1) := dk_42 (dk_at dksX14_item_9 13 rfl rfl)
theorem dX14_item_266 : decode cX14_item 266 = .ok (.getfield 19, 3) := dk_180 0 19 (dk_at dksX14_item_9 14 rfl rfl)
theorem dX14_item_269 : decode cX14_item 269 = .ok (.iload_n 3, 1) := dk_29 (dk_at dksX14_item_9 17 rfl rfl)
theorem dX14_item_270 : decode cX14_item 270 = .ok (.iload 4, 2) := dk_21 4 (dk_at dksX14_item_9 18 rfl rfl)
theorem dX14_item_272 : decode cX14_item 272 = .ok (.iload 5, 2) := dk_21 5 (dk_at dksX14_item_9 20 rfl rfl)
theorem dX14_item_274 : decode cX14_item 274 = .ok (.aload_n 0, 1) := dk_42 (dk_at dksX14_item_9 22 rfl rfl)
theorem dX14_item_275 : decode cX14_item 275 = .ok (.ldc 123, 2) := dk_18 123 (dk_at dksX14_item_10 0 rfl rfl)
theorem dX14_item_277 : decode cX14_item 277 = .ok (.invokevirtual 117, 3) := dk_182 0 117 (dk_at dksX14_item_10 2 rfl rfl)
theorem dX14_item_280 : decode cX14_item 280 = .ok (.invokevirtual 125, 3) := dk_182 0 125 (dk_at dksX14_item_10 5 rfl rfl)
theorem dX14_item_283 : decode cX14_item 283 = .ok (.goto 137, 3) := dk_167 0 137 (dk_at dksX14_item_10 8 rfl rfl)
theorem dX14_item_286 : decode cX14_item 286 = .ok (.aload_n 0, 1) := dk_42 (dk_at dksX14_item_10 11 rfl rfl)
theorem dX14_item_287 : decode cX14_item 287 = .ok (.aload_n 0, 1) := dk_42 (dk_at dksX14_item_10 12 rfl rfl)
theorem dX14_item_288 : decode cX14_item 288 = .ok (.getfield 19, 3) := dk_180 0 19 (dk_at dksX14_item_10 13 rfl rfl)
theorem dX14_item_291 : decode cX14_item 291 = .ok (.getfield 129, 3) := dk_180 0 129 (dk_at dksX14_item_10 16 rfl rfl)
theorem dX14_item_294 : decode cX14_item 294 = .ok (.bipush 6, 2) := dk_16 6 (dk_at dksX14_item_10 19 rfl rfl)
theorem dX14_item_296 : decode cX14_item 296 = .ok (.invokevirtual 111, 3) := dk_182 0 111 (dk_at dksX14_item_10 21 rfl rfl)
theorem dX14_item_299 : decode cX14_item 299 = .ok (.aload_n 0, 1) := dk_42 (dk_at dksX14_item_11 0 rfl rfl)
theorem dX14_item_300 : decode cX14_item 300 = .ok (.iconst 0, 1) := dk_3 (dk_at dksX14_item_11 1 rfl rfl)
theorem dX14_item_301 : decode cX14_item 301 = .ok (.iconst 5, 1) := dk_8 (dk_at dksX14_item_11 2 rfl rfl)
theorem dX14_item_302 : decode cX14_item 302 = .ok (.invokevirtual 88, 3) := dk_182 0 88 (dk_at dksX14_item_11 3 rfl rfl)
theorem dX14_item_305 : decode cX14_item 305 = .ok (.istore_n 3, 1) := dk_62 (dk_at dksX14_item_11 6 rfl rfl)
theorem dX14_item_306 : decode cX14_item 306 = .ok (.aload_n 0, 1) := dk_42 (dk_at dksX14_item_11 7 rfl rfl)
theorem dX14_item_307 : decode cX14_item 307 = .ok (.getfield 19, 3) := dk_180 0 19 (dk_at dksX14_item_11 8 rfl rfl)
theorem dX14_item_310 : decode cX14_item 310 = .ok (.iload_n 3, 1) := dk_29 (dk_at dksX14_item_11 11 rfl rfl)
theorem dX14_item_311 : decode cX14_item 311 = .ok (.aload_n 0, 1) := dk_42 (dk_at dksX14_item_11 12 rfl rfl)
theorem dX14_item_312 : decode cX14_item 312 = .ok (.getfield 19, 3) := dk_180 0 19 (dk_at dksX14_item_11 13 rfl rfl)
theorem dX14_item_315 : decode cX14_item 315 = .ok (.getfield 129, 3) := dk_180 0 129 (dk_at dksX14_item_11 16 rfl rfl)
theorem dX14_item_318 : decode cX14_item 318 = .ok (.aload_n 0, 1) := dk_42 (dk_at dksX14_item_11 19 rfl rfl)
theorem dX14_item_319 : decode cX14_item 319 = .ok (.iconst 0, 1) := dk_3 (dk_at dksX14_item_11 20 rfl rfl)
theorem dX14_item_320 : decode cX14_item 320 = .ok (.bipush 10, 2) := dk_16 10 (dk_at dksX14_item_11 21 rfl rfl)
theorem dX14_item_322 : decode cX14_item 322 = .ok (.invokevirtual 88, 3) := dk_182 0 88 (dk_at dksX14_item_12 0 rfl rfl)
theorem dX14_item_325 : decode cX14_item 325 = .ok (.invokestatic 132, 3) := dk_184 0 132 (dk_at dksX14_item_12 3 rfl rfl)
theorem dX14_item_328 : decode cX14_item 328 = .ok (.invokevirtual 136, 3) := dk_182 0 136 (dk_at dksX14_item_12 6 rfl rfl)
theorem dX14_item_331 : decode cX14_item 331 = .ok (.goto 89, 3) := dk_167 0 89 (dk_at dksX14_item_12 9 rfl rfl)
theorem dX14_item_334 : decode cX14_item 334 = .ok (.aload_n 0, 1) := dk_42 (dk_at dksX14_item_12 12 rfl rfl)
theorem dX14_item_335 : decode cX14_item 335 = .ok (.iconst 0, 1) := dk_3 (dk_at dksX14_item_12 13 rfl rfl)
theorem dX14_item_336 : decode cX14_item 336 = .ok (.bipush 30, 2) := dk_16 30 (dk_at dksX14_item_12 14 rfl rfl)
theorem dX14_item_338 : decode cX14_item 338 = .ok (.sipush 200, 3) := dk_17 0 200 (dk_at dksX14_item_12 16 rfl rfl)
theorem dX14_item_341 : decode cX14_item 341 = .ok (.invokevirtual 139, 3) := dk_182 0 139 (dk_at dksX14_item_12 19 rfl rfl)
theorem dX14_item_344 : decode cX14_item 344 = .ok (.goto 76, 3) := dk_167 0 76 (dk_at dksX14_item_13 0 rfl rfl)
theorem dX14_item_347 : decode cX14_item 347 = .ok (.aload_n 0, 1) := dk_42 (dk_at dksX14_item_13 3 rfl rfl)
theorem dX14_item_348 : decode cX14_item 348 = .ok (.iconst 1, 1) := dk_4 (dk_at dksX14_item_13 4 rfl rfl)
theorem dX14_item_349 : decode cX14_item 349 = .ok (.iconst 0, 1) := dk_3 (dk_at dksX14_item_13 5 rfl rfl)
theorem dX14_item_350 : decode cX14_item 350 = .ok (.sipush 200, 3) := dk_17 0 200 (dk_at dksX14_item_13 6 rfl rfl)
theorem dX14_item_353 : decode cX14_item 353 = .ok (.invokevirtual 139, 3) := dk_182 0 139 (dk_at dksX14_item_13 9 rfl rfl)
theorem dX14_item_356 : decode cX14_item 356 = .ok (.goto 64, 3) := dk_167 0 64 (dk_at dksX14_item_13 12 rfl rfl)
theorem dX14_item_359 : decode cX14_item 359 = .ok (.aload_n 0, 1) := dk_42 (dk_at dksX14_item_13 15 rfl rfl)
theorem dX14_item_360 : decode cX14_item 360 = .ok (.iconst 2, 1) := dk_5 (dk_at dksX14_item_13 16 rfl rfl)
theorem dX14_item_361 : decode cX14_item 361 = .ok (.iconst 0, 1) := dk_3 (dk_at dksX14_item_13 17 rfl rfl)
theorem dX14_item_362 : decode cX14_item 362 = .ok (.sipush 200, 3) := dk_17 0 200 (dk_at dksX14_item_13 18 rfl rfl)
theorem dX14_item_365 : decode cX14_item 365 = .ok (.invokevirtual 139, 3) := dk_182 0 139 (dk_at dksX14_item_13 21 rfl rfl)
theorem dX14_item_368 : decode cX14_item 368 = .ok (.goto 52, 3) := dk_167 0 52 (dk_at dksX14_item_14 0 rfl rfl)
theorem dX14_item_371 : decode cX14_item 371 = .ok (.aload_n 0, 1) := dk_42 (dk_at dksX14_item_14 3 rfl rfl)
theorem dX14_item_372 : decode cX14_item 372 = .ok (.invokevirtual 70, 3) := dk_182 0 70 (dk_at dksX14_item_14 4 rfl rfl)
theorem dX14_item_375 : decode cX14_item 375 = .ok (.aload_n 0, 1) := dk_42 (dk_at dksX14_item_14 7 rfl rfl)
theorem dX14_item_376 : decode cX14_item 376 = .ok (.getfield 19, 3) := dk_180 0 19 (dk_at dksX14_item_14 8 rfl rfl)
theorem dX14_item_379 : decode cX14_item 379 = .ok (.getfield 143, 3) := dk_180 0 143 (dk_at dksX14_item_14 11 rfl rfl)
theorem dX14_item_382 : decode cX14_item 382 = .ok (.aload_n 0, 1) := dk_42 (dk_at dksX14_item_14 14 rfl rfl)
theorem dX14_item_383 : decode cX14_item 383 = .ok (.iconst 0, 1) := dk_3 (dk_at dksX14_item_14 15 rfl rfl)
theorem dX14_item_384 : decode cX14_item 384 = .ok (.aload_n 0, 1) := dk_42 (dk_at dksX14_item_14 16 rfl rfl)
theorem dX14_item_385 : decode cX14_item 385 = .ok (.getfield 19, 3) := dk_180 0 19 (dk_at dksX14_item_14 17 rfl rfl)
theorem dX14_item_388 : decode cX14_item 388 = .ok (.getfield 108, 3) := dk_180 0 108 (dk_at dksX14_item_14 20 rfl rfl)
theorem dX14_item_391 : decode cX14_item 391 = .ok (.iconst 1, 1) := dk_4 (dk_at dksX14_item_14 23 rfl rfl)
theorem dX14_item_392 : decode cX14_item 392 = .ok (.isub, 1) := dk_100 (dk_at dksX14_item_15 0 rfl rfl)
theorem dX14_item_393 : decode cX14_item 393 = .ok (.invokevirtual 88, 3) := dk_182 0 88 (dk_at dksX14_item_15 1 rfl rfl)
theorem dX14_item_396 : decode cX14_item 396 = .ok (.aaload, 1) := dk_50 (dk_at dksX14_item_15 4 rfl rfl)
theorem dX14_item_397 : decode cX14_item 397 = .ok (.iconst 0, 1) := dk_3 (dk_at dksX14_item_15 5 rfl rfl)
theorem dX14_item_398 : decode cX14_item 398 = .ok (.putfield 146, 3) := dk_181 0 146 (dk_at dksX14_item_15 6 rfl rfl)
theorem dX14_item_401 : decode cX14_item 401 = .ok (.goto 19, 3) := dk_167 0 19 (dk_at dksX14_item_15 9 rfl rfl)
theorem dX14_item_404 : decode cX14_item 404 = .ok (.aload_n 0, 1) := dk_42 (dk_at dksX14_item_15 12 rfl rfl)
theorem dX14_item_405 : decode cX14_item 405 = .ok (.iconst 3, 1) := dk_6 (dk_at dksX14_item_15 13 rfl rfl)
theorem dX14_item_406 : decode cX14_item 406 = .ok (.iconst 0, 1) := dk_3 (dk_at dksX14_item_15 14 rfl rfl)
theorem dX14_item_407 : decode cX14_item 407 = .ok (.bipush 100, 2) := dk_16 100 (dk_at dksX14_item_15 15 rfl rfl)
theorem dX14_item_409 : decode cX14_item 409 = .ok (.invokevirtual 139, 3) := dk_182 0 139 (dk_at dksX14_item_15 17 rfl rfl)
theorem dX14_item_412 : decode cX14_item 412 = .ok (.goto 8, 3) := dk_167 0 8 (dk_at dksX14_item_15 20 rfl rfl)
theorem dX14_item_415 : decode cX14_item 415 = .ok (.aload_n 0, 1) := dk_42 (dk_at dksX14_item_15 23 rfl rfl)
theorem dX14_item_416 : decode cX14_item 416 = .ok (.invokevirtual 73, 3) := dk_182 0 73 (dk_at dksX14_item_16 0 rfl rfl)
theorem dX14_item_419 : decode cX14_item 419 = .ok (.athrow, 1) := dk_191 (dk_at dksX14_item_16 3 rfl rfl)
theorem dX14_item_420 : decode cX14_item 420 = .ok (.return_, 1) := dk_177 (dk_at dksX14_item_16 4 rfl rfl)
abbrev cX14_wrong : ByteArray := prog_10_method_4_code
def yX14_wrong : MethodName := ⟨RX14, "wrong", "()LStairOnSticks$Fault;"⟩
def dkwX14_wrong_0 : List UInt8 := [187, 0, 59, 89, 42, 180, 0, 30, 183, 0, 61, 176]
abbrev dktX14_wrong_0 : List UInt8 := dkwX14_wrong_0 ++ []
theorem dksX14_wrong_0 : cX14_wrong.data.toList.drop 0 = dktX14_wrong_0 := by decide +kernel
theorem dX14_wrong_0 : decode cX14_wrong 0 = .ok (.new 59, 3) := dk_187 0 59 (dk_at dksX14_wrong_0 0 rfl rfl)
theorem dX14_wrong_3 : decode cX14_wrong 3 = .ok (.dup, 1) := dk_89 (dk_at dksX14_wrong_0 3 rfl rfl)
theorem dX14_wrong_4 : decode cX14_wrong 4 = .ok (.aload_n 0, 1) := dk_42 (dk_at dksX14_wrong_0 4 rfl rfl)
theorem dX14_wrong_5 : decode cX14_wrong 5 = .ok (.getfield 30, 3) := dk_180 0 30 (dk_at dksX14_wrong_0 5 rfl rfl)
theorem dX14_wrong_8 : decode cX14_wrong 8 = .ok (.invokespecial 61, 3) := dk_183 0 61 (dk_at dksX14_wrong_0 8 rfl rfl)
theorem dX14_wrong_11 : decode cX14_wrong 11 = .ok (.areturn, 1) := dk_176 (dk_at dksX14_wrong_0 11 rfl rfl)
abbrev cX14_room : ByteArray := prog_10_method_7_code
def yX14_room : MethodName := ⟨RX14, "room", "(II)V"⟩
def dkwX14_room_0 : List UInt8 := [27, 28, 160, 0, 8, 42, 182, 0, 73, 191, 42, 182, 0, 70, 177]
abbrev dktX14_room_0 : List UInt8 := dkwX14_room_0 ++ []
theorem dksX14_room_0 : cX14_room.data.toList.drop 0 = dktX14_room_0 := by decide +kernel
theorem dX14_room_0 : decode cX14_room 0 = .ok (.iload_n 1, 1) := dk_27 (dk_at dksX14_room_0 0 rfl rfl)
theorem dX14_room_1 : decode cX14_room 1 = .ok (.iload_n 2, 1) := dk_28 (dk_at dksX14_room_0 1 rfl rfl)
theorem dX14_room_2 : decode cX14_room 2 = .ok (.if_icmp .ne 8, 3) := dk_160 0 8 (dk_at dksX14_room_0 2 rfl rfl)
theorem dX14_room_5 : decode cX14_room 5 = .ok (.aload_n 0, 1) := dk_42 (dk_at dksX14_room_0 5 rfl rfl)
theorem dX14_room_6 : decode cX14_room 6 = .ok (.invokevirtual 73, 3) := dk_182 0 73 (dk_at dksX14_room_0 6 rfl rfl)
theorem dX14_room_9 : decode cX14_room 9 = .ok (.athrow, 1) := dk_191 (dk_at dksX14_room_0 9 rfl rfl)
theorem dX14_room_10 : decode cX14_room 10 = .ok (.aload_n 0, 1) := dk_42 (dk_at dksX14_room_0 10 rfl rfl)
theorem dX14_room_11 : decode cX14_room 11 = .ok (.invokevirtual 70, 3) := dk_182 0 70 (dk_at dksX14_room_0 11 rfl rfl)
theorem dX14_room_14 : decode cX14_room 14 = .ok (.return_, 1) := dk_177 (dk_at dksX14_room_0 14 rfl rfl)
abbrev cX14_number : ByteArray := prog_10_method_6_code
def yX14_number : MethodName := ⟨RX14, "number", "(II)I"⟩
def dkwX14_number_1 : List UInt8 := [180, 0, 37, 62, 42, 182, 0, 70, 29, 172]
abbrev dktX14_number_1 : List UInt8 := dkwX14_number_1 ++ []
def dkwX14_number_0 : List UInt8 := [42, 180, 0, 37, 27, 161, 0, 11, 42, 180, 0, 37, 28, 164, 0, 8, 42, 182, 0, 73, 191, 42]
abbrev dktX14_number_0 : List UInt8 := dkwX14_number_0 ++ dktX14_number_1
theorem dksX14_number_0 : cX14_number.data.toList.drop 0 = dktX14_number_0 := by decide +kernel
theorem dksX14_number_1 : cX14_number.data.toList.drop 22 = dktX14_number_1 := dk_seg dksX14_number_0 22 rfl rfl
theorem dX14_number_0 : decode cX14_number 0 = .ok (.aload_n 0, 1) := dk_42 (dk_at dksX14_number_0 0 rfl rfl)
theorem dX14_number_1 : decode cX14_number 1 = .ok (.getfield 37, 3) := dk_180 0 37 (dk_at dksX14_number_0 1 rfl rfl)
theorem dX14_number_4 : decode cX14_number 4 = .ok (.iload_n 1, 1) := dk_27 (dk_at dksX14_number_0 4 rfl rfl)
theorem dX14_number_5 : decode cX14_number 5 = .ok (.if_icmp .lt 11, 3) := dk_161 0 11 (dk_at dksX14_number_0 5 rfl rfl)
theorem dX14_number_8 : decode cX14_number 8 = .ok (.aload_n 0, 1) := dk_42 (dk_at dksX14_number_0 8 rfl rfl)
theorem dX14_number_9 : decode cX14_number 9 = .ok (.getfield 37, 3) := dk_180 0 37 (dk_at dksX14_number_0 9 rfl rfl)
theorem dX14_number_12 : decode cX14_number 12 = .ok (.iload_n 2, 1) := dk_28 (dk_at dksX14_number_0 12 rfl rfl)
theorem dX14_number_13 : decode cX14_number 13 = .ok (.if_icmp .le 8, 3) := dk_164 0 8 (dk_at dksX14_number_0 13 rfl rfl)
theorem dX14_number_16 : decode cX14_number 16 = .ok (.aload_n 0, 1) := dk_42 (dk_at dksX14_number_0 16 rfl rfl)
theorem dX14_number_17 : decode cX14_number 17 = .ok (.invokevirtual 73, 3) := dk_182 0 73 (dk_at dksX14_number_0 17 rfl rfl)
theorem dX14_number_20 : decode cX14_number 20 = .ok (.athrow, 1) := dk_191 (dk_at dksX14_number_0 20 rfl rfl)
theorem dX14_number_21 : decode cX14_number 21 = .ok (.aload_n 0, 1) := dk_42 (dk_at dksX14_number_0 21 rfl rfl)
theorem dX14_number_22 : decode cX14_number 22 = .ok (.getfield 37, 3) := dk_180 0 37 (dk_at dksX14_number_1 0 rfl rfl)
theorem dX14_number_25 : decode cX14_number 25 = .ok (.istore_n 3, 1) := dk_62 (dk_at dksX14_number_1 3 rfl rfl)
theorem dX14_number_26 : decode cX14_number 26 = .ok (.aload_n 0, 1) := dk_42 (dk_at dksX14_number_1 4 rfl rfl)
theorem dX14_number_27 : decode cX14_number 27 = .ok (.invokevirtual 70, 3) := dk_182 0 70 (dk_at dksX14_number_1 5 rfl rfl)
theorem dX14_number_30 : decode cX14_number 30 = .ok (.iload_n 3, 1) := dk_29 (dk_at dksX14_number_1 8 rfl rfl)
theorem dX14_number_31 : decode cX14_number 31 = .ok (.ireturn, 1) := dk_172 (dk_at dksX14_number_1 9 rfl rfl)
abbrev cX14_takes : ByteArray := prog_10_method_5_code
def yX14_takes : MethodName := ⟨RX14, "takes", "(Ljava/lang/String;)Z"⟩
def dkwX14_takes_1 : List UInt8 := [4, 172]
abbrev dktX14_takes_1 : List UInt8 := dkwX14_takes_1 ++ []
def dkwX14_takes_0 : List UInt8 := [42, 180, 0, 33, 198, 0, 14, 42, 180, 0, 33, 43, 182, 0, 64, 154, 0, 5, 3, 172, 42, 182, 0, 70]
abbrev dktX14_takes_0 : List UInt8 := dkwX14_takes_0 ++ dktX14_takes_1
theorem dksX14_takes_0 : cX14_takes.data.toList.drop 0 = dktX14_takes_0 := by decide +kernel
theorem dksX14_takes_1 : cX14_takes.data.toList.drop 24 = dktX14_takes_1 := dk_seg dksX14_takes_0 24 rfl rfl
theorem dX14_takes_0 : decode cX14_takes 0 = .ok (.aload_n 0, 1) := dk_42 (dk_at dksX14_takes_0 0 rfl rfl)
theorem dX14_takes_1 : decode cX14_takes 1 = .ok (.getfield 33, 3) := dk_180 0 33 (dk_at dksX14_takes_0 1 rfl rfl)
theorem dX14_takes_4 : decode cX14_takes 4 = .ok (.ifnull 14, 3) := dk_198 0 14 (dk_at dksX14_takes_0 4 rfl rfl)
theorem dX14_takes_7 : decode cX14_takes 7 = .ok (.aload_n 0, 1) := dk_42 (dk_at dksX14_takes_0 7 rfl rfl)
theorem dX14_takes_8 : decode cX14_takes 8 = .ok (.getfield 33, 3) := dk_180 0 33 (dk_at dksX14_takes_0 8 rfl rfl)
theorem dX14_takes_11 : decode cX14_takes 11 = .ok (.aload_n 1, 1) := dk_43 (dk_at dksX14_takes_0 11 rfl rfl)
theorem dX14_takes_12 : decode cX14_takes 12 = .ok (.invokevirtual 64, 3) := dk_182 0 64 (dk_at dksX14_takes_0 12 rfl rfl)
theorem dX14_takes_15 : decode cX14_takes 15 = .ok (.ifCond .ne 5, 3) := dk_154 0 5 (dk_at dksX14_takes_0 15 rfl rfl)
theorem dX14_takes_18 : decode cX14_takes 18 = .ok (.iconst 0, 1) := dk_3 (dk_at dksX14_takes_0 18 rfl rfl)
theorem dX14_takes_19 : decode cX14_takes 19 = .ok (.ireturn, 1) := dk_172 (dk_at dksX14_takes_0 19 rfl rfl)
theorem dX14_takes_20 : decode cX14_takes 20 = .ok (.aload_n 0, 1) := dk_42 (dk_at dksX14_takes_0 20 rfl rfl)
theorem dX14_takes_21 : decode cX14_takes 21 = .ok (.invokevirtual 70, 3) := dk_182 0 70 (dk_at dksX14_takes_0 21 rfl rfl)
theorem dX14_takes_24 : decode cX14_takes 24 = .ok (.iconst 1, 1) := dk_4 (dk_at dksX14_takes_1 0 rfl rfl)
theorem dX14_takes_25 : decode cX14_takes 25 = .ok (.ireturn, 1) := dk_172 (dk_at dksX14_takes_1 1 rfl rfl)
abbrev cX14_told : ByteArray := prog_10_method_8_code
def yX14_told : MethodName := ⟨RX14, "told", "(III)V"⟩
def dkwX14_told_0 : List UInt8 := [42, 182, 0, 70, 42, 180, 0, 19, 180, 0, 77, 180, 0, 83, 27, 42, 28, 29, 182, 0, 88, 79, 177]
abbrev dktX14_told_0 : List UInt8 := dkwX14_told_0 ++ []
theorem dksX14_told_0 : cX14_told.data.toList.drop 0 = dktX14_told_0 := by decide +kernel
theorem dX14_told_0 : decode cX14_told 0 = .ok (.aload_n 0, 1) := dk_42 (dk_at dksX14_told_0 0 rfl rfl)
theorem dX14_told_1 : decode cX14_told 1 = .ok (.invokevirtual 70, 3) := dk_182 0 70 (dk_at dksX14_told_0 1 rfl rfl)
theorem dX14_told_4 : decode cX14_told 4 = .ok (.aload_n 0, 1) := dk_42 (dk_at dksX14_told_0 4 rfl rfl)
theorem dX14_told_5 : decode cX14_told 5 = .ok (.getfield 19, 3) := dk_180 0 19 (dk_at dksX14_told_0 5 rfl rfl)
theorem dX14_told_8 : decode cX14_told 8 = .ok (.getfield 77, 3) := dk_180 0 77 (dk_at dksX14_told_0 8 rfl rfl)
theorem dX14_told_11 : decode cX14_told 11 = .ok (.getfield 83, 3) := dk_180 0 83 (dk_at dksX14_told_0 11 rfl rfl)
theorem dX14_told_14 : decode cX14_told 14 = .ok (.iload_n 1, 1) := dk_27 (dk_at dksX14_told_0 14 rfl rfl)
theorem dX14_told_15 : decode cX14_told 15 = .ok (.aload_n 0, 1) := dk_42 (dk_at dksX14_told_0 15 rfl rfl)
theorem dX14_told_16 : decode cX14_told 16 = .ok (.iload_n 2, 1) := dk_28 (dk_at dksX14_told_0 16 rfl rfl)
theorem dX14_told_17 : decode cX14_told 17 = .ok (.iload_n 3, 1) := dk_29 (dk_at dksX14_told_0 17 rfl rfl)
theorem dX14_told_18 : decode cX14_told 18 = .ok (.invokevirtual 88, 3) := dk_182 0 88 (dk_at dksX14_told_0 18 rfl rfl)
theorem dX14_told_21 : decode cX14_told 21 = .ok (.iastore, 1) := dk_79 (dk_at dksX14_told_0 21 rfl rfl)
theorem dX14_told_22 : decode cX14_told 22 = .ok (.return_, 1) := dk_177 (dk_at dksX14_told_0 22 rfl rfl)
theorem q100 : (Jvm.Cond.initialized "StairOnSticks$Reader") ∈ lw_all := lw_g (lw_at lw_m1 27 rfl) rfl
theorem q136 : (Jvm.Cond.fieldLink "StairOnSticks$Reader" (83 : Nat) "StairOnSticks$Person" "is" "[I") ∈ lw_all := lw_g (lw_at lw_m1 63 rfl) rfl
theorem q144 : (Jvm.Cond.fieldLink "StairOnSticks$Reader" (143 : Nat) "StairOnSticks$Stair" "step" "[LStairOnSticks$Step;") ∈ lw_all := lw_g (lw_at lw_m1 71 rfl) rfl
theorem q151 : (Jvm.Cond.fieldLink "StairOnSticks$Reader" (77 : Nat) "StairOnSticks$Stair" "person" "LStairOnSticks$Person;") ∈ lw_all := lw_g (lw_at lw_m1 78 rfl) rfl
theorem q156 : (Jvm.Cond.fieldLink "StairOnSticks$Reader" (108 : Nat) "StairOnSticks$Stair" "steps" "I") ∈ lw_all := lw_g (lw_at lw_m1 83 rfl) rfl
theorem q160 : (Jvm.Cond.fieldLink "StairOnSticks$Reader" (129 : Nat) "StairOnSticks$Stair" "ways" "I") ∈ lw_all := lw_g (lw_at lw_m1 87 rfl) rfl
theorem q647 : (Jvm.Cond.fieldLink "StairOnSticks$Reader" (146 : Nat) "StairOnSticks$Step" "wet" "Z") ∈ lw_all := lw_g (lw_at lw_m3 94 rfl) rfl
theorem q772 : (Jvm.Cond.instantiable "StairOnSticks$Reader" (7 : Nat)) ∈ lw_all := lw_g (lw_at lw_m3 219 rfl) rfl
theorem q787 : (Jvm.Cond.instanceMethod ({ cls := "StairOnSticks$Reader", name := "<init>", desc := "([IILStairOnSticks$Stair;)V" } : Jvm.MethodName)) ∈ lw_all := lw_g (lw_at lw_m3 234 rfl) rfl
theorem q788 : (Jvm.Cond.code ({ cls := "StairOnSticks$Reader", name := "<init>", desc := "([IILStairOnSticks$Stair;)V" } : Jvm.MethodName) prog_10_method_1_code (4 : Nat) (Option.none : Option Jvm.ClassFile.FieldType)) ∈ lw_all := lw_g (lw_at lw_m3 235 rfl) rfl
theorem q789 : (Jvm.Cond.methodLink "StairOnSticks$Reader" (3 : Nat) ({ cls := "java/lang/Object", name := "<init>", desc := "()V" } : Jvm.MethodName)) ∈ lw_all := lw_g (lw_at lw_m3 236 rfl) rfl
theorem q790 : (Jvm.Cond.fieldLink "StairOnSticks$Reader" (9 : Nat) "StairOnSticks$Reader" "tape" "[I") ∈ lw_all := lw_g (lw_at lw_m3 237 rfl) rfl
theorem q791 : (Jvm.Cond.fieldLink "StairOnSticks$Reader" (15 : Nat) "StairOnSticks$Reader" "size" "I") ∈ lw_all := lw_g (lw_at lw_m3 238 rfl) rfl
theorem q792 : (Jvm.Cond.fieldLink "StairOnSticks$Reader" (19 : Nat) "StairOnSticks$Reader" "stair" "LStairOnSticks$Stair;") ∈ lw_all := lw_g (lw_at lw_m3 239 rfl) rfl
theorem q794 : (Jvm.Cond.fieldLink "StairOnSticks$Reader" (23 : Nat) "StairOnSticks$Reader" "at" "I") ∈ lw_all := lw_g (lw_at lw_m4 1 rfl) rfl
theorem q795 : (Jvm.Cond.fieldLink "StairOnSticks$Reader" (30 : Nat) "StairOnSticks$Reader" "from" "I") ∈ lw_all := lw_g (lw_at lw_m4 2 rfl) rfl
theorem q796 : (Jvm.Cond.fieldLink "StairOnSticks$Reader" (33 : Nat) "StairOnSticks$Reader" "word" "Ljava/lang/String;") ∈ lw_all := lw_g (lw_at lw_m4 3 rfl) rfl
theorem q797 : (Jvm.Cond.fieldLink "StairOnSticks$Reader" (37 : Nat) "StairOnSticks$Reader" "number" "I") ∈ lw_all := lw_g (lw_at lw_m4 4 rfl) rfl
theorem q798 : (Jvm.Cond.laysFinal "StairOnSticks$Reader" "StairOnSticks$Reader" "tape" "[I") ∈ lw_all := lw_g (lw_at lw_m4 5 rfl) rfl
theorem q799 : (Jvm.Cond.soleField "StairOnSticks$Reader" "tape") ∈ lw_all := lw_g (lw_at lw_m4 6 rfl) rfl
theorem q800 : (Jvm.Cond.laysFinal "StairOnSticks$Reader" "StairOnSticks$Reader" "size" "I") ∈ lw_all := lw_g (lw_at lw_m4 7 rfl) rfl
theorem q801 : (Jvm.Cond.soleField "StairOnSticks$Reader" "size") ∈ lw_all := lw_g (lw_at lw_m4 8 rfl) rfl
theorem q802 : (Jvm.Cond.laysFinal "StairOnSticks$Reader" "StairOnSticks$Reader" "stair" "LStairOnSticks$Stair;") ∈ lw_all := lw_g (lw_at lw_m4 9 rfl) rfl
theorem q803 : (Jvm.Cond.soleField "StairOnSticks$Reader" "stair") ∈ lw_all := lw_g (lw_at lw_m4 10 rfl) rfl
theorem q804 : (Jvm.Cond.lays "StairOnSticks$Reader" "StairOnSticks$Reader" "at" "I") ∈ lw_all := lw_g (lw_at lw_m4 11 rfl) rfl
theorem q805 : (Jvm.Cond.soleField "StairOnSticks$Reader" "at") ∈ lw_all := lw_g (lw_at lw_m4 12 rfl) rfl
theorem q806 : (Jvm.Cond.lays "StairOnSticks$Reader" "StairOnSticks$Reader" "from" "I") ∈ lw_all := lw_g (lw_at lw_m4 13 rfl) rfl
theorem q807 : (Jvm.Cond.soleField "StairOnSticks$Reader" "from") ∈ lw_all := lw_g (lw_at lw_m4 14 rfl) rfl
theorem q808 : (Jvm.Cond.lays "StairOnSticks$Reader" "StairOnSticks$Reader" "word" "Ljava/lang/String;") ∈ lw_all := lw_g (lw_at lw_m4 15 rfl) rfl
theorem q809 : (Jvm.Cond.soleField "StairOnSticks$Reader" "word") ∈ lw_all := lw_g (lw_at lw_m4 16 rfl) rfl
theorem q810 : (Jvm.Cond.lays "StairOnSticks$Reader" "StairOnSticks$Reader" "number" "I") ∈ lw_all := lw_g (lw_at lw_m4 17 rfl) rfl
theorem q811 : (Jvm.Cond.soleField "StairOnSticks$Reader" "number") ∈ lw_all := lw_g (lw_at lw_m4 18 rfl) rfl
theorem q812 : (Jvm.Cond.superclass "StairOnSticks$Reader" "java/lang/Object") ∈ lw_all := lw_g (lw_at lw_m4 19 rfl) rfl
theorem q814 : (Jvm.Cond.instanceMethod ({ cls := "StairOnSticks$Reader", name := "read", desc := "()I" } : Jvm.MethodName)) ∈ lw_all := lw_g (lw_at lw_m4 21 rfl) rfl
theorem q815 : (Jvm.Cond.selects "StairOnSticks$Reader" ({ cls := "StairOnSticks$Reader", name := "read", desc := "()I" } : Jvm.MethodName) ({ cls := "StairOnSticks$Reader", name := "read", desc := "()I" } : Jvm.MethodName)) ∈ lw_all := lw_g (lw_at lw_m4 22 rfl) rfl
theorem q816 : (Jvm.Cond.code ({ cls := "StairOnSticks$Reader", name := "read", desc := "()I" } : Jvm.MethodName) prog_10_method_10_code (2 : Nat) (Option.some Jvm.ClassFile.FieldType.int)) ∈ lw_all := lw_g (lw_at lw_m4 23 rfl) rfl
theorem q817 : (Jvm.Cond.methodLink "StairOnSticks$Reader" (70 : Nat) ({ cls := "StairOnSticks$Reader", name := "next", desc := "()V" } : Jvm.MethodName)) ∈ lw_all := lw_g (lw_at lw_m4 24 rfl) rfl
theorem q818 : (Jvm.Cond.privateMethod ({ cls := "StairOnSticks$Reader", name := "next", desc := "()V" } : Jvm.MethodName)) ∈ lw_tbl := lw_at lw_m4 25 rfl
theorem q819 : (Jvm.Cond.instanceMethod ({ cls := "StairOnSticks$Reader", name := "next", desc := "()V" } : Jvm.MethodName)) ∈ lw_all := lw_g (lw_at lw_m4 26 rfl) rfl
theorem q820 : (Jvm.Cond.code ({ cls := "StairOnSticks$Reader", name := "next", desc := "()V" } : Jvm.MethodName) prog_10_method_3_code (2 : Nat) (Option.none : Option Jvm.ClassFile.FieldType)) ∈ lw_all := lw_g (lw_at lw_m4 27 rfl) rfl
theorem q821 : (Jvm.Cond.methodLink "StairOnSticks$Reader" (26 : Nat) ({ cls := "StairOnSticks$Reader", name := "isIn", desc := "(II)Z" } : Jvm.MethodName)) ∈ lw_all := lw_g (lw_at lw_m4 28 rfl) rfl
theorem q822 : (Jvm.Cond.privateMethod ({ cls := "StairOnSticks$Reader", name := "isIn", desc := "(II)Z" } : Jvm.MethodName)) ∈ lw_tbl := lw_at lw_m4 29 rfl
theorem q823 : (Jvm.Cond.instanceMethod ({ cls := "StairOnSticks$Reader", name := "isIn", desc := "(II)Z" } : Jvm.MethodName)) ∈ lw_all := lw_g (lw_at lw_m4 30 rfl) rfl
theorem q824 : (Jvm.Cond.code ({ cls := "StairOnSticks$Reader", name := "isIn", desc := "(II)Z" } : Jvm.MethodName) prog_10_method_2_code (3 : Nat) (Option.some Jvm.ClassFile.FieldType.boolean)) ∈ lw_all := lw_g (lw_at lw_m4 31 rfl) rfl
theorem q825 : (Jvm.Cond.classLink "StairOnSticks$Reader" (40 : Nat) "java/lang/StringBuilder") ∈ lw_all := lw_g (lw_at lw_m4 32 rfl) rfl
theorem q827 : (Jvm.Cond.methodLink "StairOnSticks$Reader" (42 : Nat) ({ cls := "java/lang/StringBuilder", name := "<init>", desc := "()V" } : Jvm.MethodName)) ∈ lw_all := lw_g (lw_at lw_m4 34 rfl) rfl
theorem q861 : (Jvm.Cond.methodLink "StairOnSticks$Reader" (43 : Nat) ({ cls := "java/lang/StringBuilder", name := "append", desc := "(C)Ljava/lang/StringBuilder;" } : Jvm.MethodName)) ∈ lw_all := lw_g (lw_at lw_m4 68 rfl) rfl
theorem q952 : (Jvm.Cond.methodLink "StairOnSticks$Reader" (47 : Nat) ({ cls := "java/lang/StringBuilder", name := "toString", desc := "()Ljava/lang/String;" } : Jvm.MethodName)) ∈ lw_all := lw_g (lw_at lw_m4 159 rfl) rfl
theorem q1010 : (Jvm.Cond.methodLink "StairOnSticks$Reader" (51 : Nat) ({ cls := "java/lang/Math", name := "min", desc := "(II)I" } : Jvm.MethodName)) ∈ lw_all := lw_g (lw_at lw_m4 217 rfl) rfl
theorem q1011 : (Jvm.Cond.stringRef "StairOnSticks$Reader" (57 : Nat) ";") ∈ lw_tbl := lw_at lw_m4 218 rfl
theorem q1012 : (Jvm.Cond.methodLink "StairOnSticks$Reader" (151 : Nat) ({ cls := "StairOnSticks$Reader", name := "item", desc := "()V" } : Jvm.MethodName)) ∈ lw_all := lw_g (lw_at lw_m4 219 rfl) rfl
theorem q1013 : (Jvm.Cond.privateMethod ({ cls := "StairOnSticks$Reader", name := "item", desc := "()V" } : Jvm.MethodName)) ∈ lw_tbl := lw_at lw_m4 220 rfl
theorem q1014 : (Jvm.Cond.instanceMethod ({ cls := "StairOnSticks$Reader", name := "item", desc := "()V" } : Jvm.MethodName)) ∈ lw_all := lw_g (lw_at lw_m4 221 rfl) rfl
theorem q1015 : (Jvm.Cond.code ({ cls := "StairOnSticks$Reader", name := "item", desc := "()V" } : Jvm.MethodName) prog_10_method_9_code (6 : Nat) (Option.none : Option Jvm.ClassFile.FieldType)) ∈ lw_all := lw_g (lw_at lw_m4 222 rfl) rfl
theorem q1016 : (Jvm.Cond.methodLink "StairOnSticks$Reader" (73 : Nat) ({ cls := "StairOnSticks$Reader", name := "wrong", desc := "()LStairOnSticks$Fault;" } : Jvm.MethodName)) ∈ lw_all := lw_g (lw_at lw_m4 223 rfl) rfl
theorem q1017 : (Jvm.Cond.privateMethod ({ cls := "StairOnSticks$Reader", name := "wrong", desc := "()LStairOnSticks$Fault;" } : Jvm.MethodName)) ∈ lw_tbl := lw_at lw_m4 224 rfl
theorem q1018 : (Jvm.Cond.instanceMethod ({ cls := "StairOnSticks$Reader", name := "wrong", desc := "()LStairOnSticks$Fault;" } : Jvm.MethodName)) ∈ lw_all := lw_g (lw_at lw_m4 225 rfl) rfl
theorem q1019 : (Jvm.Cond.code ({ cls := "StairOnSticks$Reader", name := "wrong", desc := "()LStairOnSticks$Fault;" } : Jvm.MethodName) prog_10_method_4_code (1 : Nat) (Option.some (Jvm.ClassFile.FieldType.object "StairOnSticks$Fault"))) ∈ lw_all := lw_g (lw_at lw_m4 226 rfl) rfl
theorem q1020 : (Jvm.Cond.classLink "StairOnSticks$Reader" (59 : Nat) "StairOnSticks$Fault") ∈ lw_all := lw_g (lw_at lw_m4 227 rfl) rfl
theorem q1029 : (Jvm.Cond.methodLink "StairOnSticks$Reader" (61 : Nat) ({ cls := "StairOnSticks$Fault", name := "<init>", desc := "(I)V" } : Jvm.MethodName)) ∈ lw_all := lw_g (lw_at lw_m4 236 rfl) rfl
theorem q1039 : (Jvm.Cond.methodLink "StairOnSticks$Reader" (90 : Nat) ({ cls := "java/lang/String", name := "hashCode", desc := "()I" } : Jvm.MethodName)) ∈ lw_all := lw_g (lw_at lw_m5 6 rfl) rfl
theorem q1092 : (Jvm.Cond.stringRef "StairOnSticks$Reader" (94 : Nat) "step") ∈ lw_tbl := lw_at lw_m5 59 rfl
theorem q1093 : (Jvm.Cond.methodLink "StairOnSticks$Reader" (64 : Nat) ({ cls := "java/lang/String", name := "equals", desc := "(Ljava/lang/Object;)Z" } : Jvm.MethodName)) ∈ lw_all := lw_g (lw_at lw_m5 60 rfl) rfl
theorem q1101 : (Jvm.Cond.stringRef "StairOnSticks$Reader" (96 : Nat) "way") ∈ lw_tbl := lw_at lw_m5 68 rfl
theorem q1102 : (Jvm.Cond.stringRef "StairOnSticks$Reader" (98 : Nat) "weight") ∈ lw_tbl := lw_at lw_m5 69 rfl
theorem q1103 : (Jvm.Cond.stringRef "StairOnSticks$Reader" (100 : Nat) "limit") ∈ lw_tbl := lw_at lw_m5 70 rfl
theorem q1104 : (Jvm.Cond.stringRef "StairOnSticks$Reader" (102 : Nat) "arms") ∈ lw_tbl := lw_at lw_m5 71 rfl
theorem q1105 : (Jvm.Cond.stringRef "StairOnSticks$Reader" (104 : Nat) "dry") ∈ lw_tbl := lw_at lw_m5 72 rfl
theorem q1106 : (Jvm.Cond.stringRef "StairOnSticks$Reader" (106 : Nat) "heal") ∈ lw_tbl := lw_at lw_m5 73 rfl
theorem q1107 : (Jvm.Cond.methodLink "StairOnSticks$Reader" (111 : Nat) ({ cls := "StairOnSticks$Reader", name := "room", desc := "(II)V" } : Jvm.MethodName)) ∈ lw_all := lw_g (lw_at lw_m5 74 rfl) rfl
theorem q1108 : (Jvm.Cond.privateMethod ({ cls := "StairOnSticks$Reader", name := "room", desc := "(II)V" } : Jvm.MethodName)) ∈ lw_tbl := lw_at lw_m5 75 rfl
theorem q1109 : (Jvm.Cond.instanceMethod ({ cls := "StairOnSticks$Reader", name := "room", desc := "(II)V" } : Jvm.MethodName)) ∈ lw_all := lw_g (lw_at lw_m5 76 rfl) rfl
theorem q1110 : (Jvm.Cond.code ({ cls := "StairOnSticks$Reader", name := "room", desc := "(II)V" } : Jvm.MethodName) prog_10_method_7_code (3 : Nat) (Option.none : Option Jvm.ClassFile.FieldType)) ∈ lw_all := lw_g (lw_at lw_m5 77 rfl) rfl
theorem q1111 : (Jvm.Cond.methodLink "StairOnSticks$Reader" (88 : Nat) ({ cls := "StairOnSticks$Reader", name := "number", desc := "(II)I" } : Jvm.MethodName)) ∈ lw_all := lw_g (lw_at lw_m5 78 rfl) rfl
theorem q1112 : (Jvm.Cond.privateMethod ({ cls := "StairOnSticks$Reader", name := "number", desc := "(II)I" } : Jvm.MethodName)) ∈ lw_tbl := lw_at lw_m5 79 rfl
theorem q1113 : (Jvm.Cond.instanceMethod ({ cls := "StairOnSticks$Reader", name := "number", desc := "(II)I" } : Jvm.MethodName)) ∈ lw_all := lw_g (lw_at lw_m5 80 rfl) rfl
theorem q1114 : (Jvm.Cond.code ({ cls := "StairOnSticks$Reader", name := "number", desc := "(II)I" } : Jvm.MethodName) prog_10_method_6_code (4 : Nat) (Option.some Jvm.ClassFile.FieldType.int)) ∈ lw_all := lw_g (lw_at lw_m5 81 rfl) rfl
theorem q1115 : (Jvm.Cond.stringRef "StairOnSticks$Reader" (115 : Nat) "wet") ∈ lw_tbl := lw_at lw_m5 82 rfl
theorem q1116 : (Jvm.Cond.methodLink "StairOnSticks$Reader" (117 : Nat) ({ cls := "StairOnSticks$Reader", name := "takes", desc := "(Ljava/lang/String;)Z" } : Jvm.MethodName)) ∈ lw_all := lw_g (lw_at lw_m5 83 rfl) rfl
theorem q1117 : (Jvm.Cond.privateMethod ({ cls := "StairOnSticks$Reader", name := "takes", desc := "(Ljava/lang/String;)Z" } : Jvm.MethodName)) ∈ lw_tbl := lw_at lw_m5 84 rfl
theorem q1118 : (Jvm.Cond.instanceMethod ({ cls := "StairOnSticks$Reader", name := "takes", desc := "(Ljava/lang/String;)Z" } : Jvm.MethodName)) ∈ lw_all := lw_g (lw_at lw_m5 85 rfl) rfl
theorem q1119 : (Jvm.Cond.code ({ cls := "StairOnSticks$Reader", name := "takes", desc := "(Ljava/lang/String;)Z" } : Jvm.MethodName) prog_10_method_5_code (2 : Nat) (Option.some Jvm.ClassFile.FieldType.boolean)) ∈ lw_all := lw_g (lw_at lw_m5 86 rfl) rfl
theorem q1120 : (Jvm.Cond.stringRef "StairOnSticks$Reader" (121 : Nat) "rail") ∈ lw_tbl := lw_at lw_m5 87 rfl
theorem q1121 : (Jvm.Cond.stringRef "StairOnSticks$Reader" (123 : Nat) "chair") ∈ lw_tbl := lw_at lw_m5 88 rfl
theorem q1122 : (Jvm.Cond.methodLink "StairOnSticks$Reader" (125 : Nat) ({ cls := "StairOnSticks$Stair", name := "adds", desc := "(IZZZ)V" } : Jvm.MethodName)) ∈ lw_all := lw_g (lw_at lw_m5 89 rfl) rfl
theorem q1123 : (Jvm.Cond.methodLinkNest "StairOnSticks$Reader" (132 : Nat) ({ cls := "StairOnSticks", name := "made", desc := "(III)LStairOnSticks$Move;" } : Jvm.MethodName) "StairOnSticks") ∈ lw_tbl := lw_at lw_m5 90 rfl
theorem q1124 : (Jvm.Cond.methodLink "StairOnSticks$Reader" (136 : Nat) ({ cls := "StairOnSticks$Stair", name := "adds", desc := "(LStairOnSticks$Move;)V" } : Jvm.MethodName)) ∈ lw_all := lw_g (lw_at lw_m5 91 rfl) rfl
theorem q1125 : (Jvm.Cond.methodLink "StairOnSticks$Reader" (139 : Nat) ({ cls := "StairOnSticks$Reader", name := "told", desc := "(III)V" } : Jvm.MethodName)) ∈ lw_all := lw_g (lw_at lw_m5 92 rfl) rfl
theorem q1126 : (Jvm.Cond.privateMethod ({ cls := "StairOnSticks$Reader", name := "told", desc := "(III)V" } : Jvm.MethodName)) ∈ lw_tbl := lw_at lw_m5 93 rfl
theorem q1127 : (Jvm.Cond.instanceMethod ({ cls := "StairOnSticks$Reader", name := "told", desc := "(III)V" } : Jvm.MethodName)) ∈ lw_all := lw_g (lw_at lw_m5 94 rfl) rfl
theorem q1128 : (Jvm.Cond.code ({ cls := "StairOnSticks$Reader", name := "told", desc := "(III)V" } : Jvm.MethodName) prog_10_method_8_code (4 : Nat) (Option.none : Option Jvm.ClassFile.FieldType)) ∈ lw_all := lw_g (lw_at lw_m5 95 rfl) rfl
theorem in_X14 : ∀ w ∈ wsX140, w ∈ lw_all := lw_in wsX140 [798, 800, 802, 804, 806, 808, 810] (by decide +kernel) (by decide +kernel)
/-! StairOnSticks$Fault -/
set_option maxRecDepth 100000
def RX15 : String := "StairOnSticks$Fault"
def TX15 : u_T := fun k => match k with
  | 0 => ("java/lang/Throwable", "cause", "Ljava/lang/Throwable;", false)
  | 1 => ("java/lang/Throwable", "stackTrace", "[Ljava/lang/StackTraceElement;", false)
  | 2 => ("java/lang/Throwable", "suppressedExceptions", "Ljava/util/List;", false)
  | 3 => ("java/lang/Throwable", "detailMessage", "Ljava/lang/String;", false)
  | 4 => ("java/lang/Throwable", "backtrace", "Ljava/lang/Object;", false)
  | 5 => ("java/lang/Throwable", "depth", "I", false)
  | _ => ("StairOnSticks$Fault", "place", "I", true)
def tyX15 : Nat → FieldType := fun k => match k with
  | 0 => .object "java/lang/Throwable"
  | 1 => .array (.object "java/lang/StackTraceElement")
  | 2 => .object "java/util/List"
  | 3 => .object "java/lang/String"
  | 4 => .object "java/lang/Object"
  | 5 => .int
  | _ => .int
abbrev wsX150 : List Cond := u_ws RX15 TX15 7
theorem nmX15 : ∀ a, a < 7 → ∀ b, b < 7 → a ≠ b → (TX15 a).2.1 ≠ (TX15 b).2.1 := by decide +kernel
theorem tyX15_ok : ∀ k, k < 7 → parseFieldDescriptor (TX15 k).2.2.1 = some (tyX15 k) := by decide +kernel
abbrev cX15_init : ByteArray := prog_4_method_1_code
def yX15_init : MethodName := ⟨RX15, "<init>", "(I)V"⟩
def dkwX15_init_0 : List UInt8 := [42, 1, 1, 3, 3, 183, 0, 1, 42, 27, 181, 0, 7, 177]
abbrev dktX15_init_0 : List UInt8 := dkwX15_init_0 ++ []
theorem dksX15_init_0 : cX15_init.data.toList.drop 0 = dktX15_init_0 := by decide +kernel
theorem dX15_init_0 : decode cX15_init 0 = .ok (.aload_n 0, 1) := dk_42 (dk_at dksX15_init_0 0 rfl rfl)
theorem dX15_init_1 : decode cX15_init 1 = .ok (.aconst_null, 1) := dk_1 (dk_at dksX15_init_0 1 rfl rfl)
theorem dX15_init_2 : decode cX15_init 2 = .ok (.aconst_null, 1) := dk_1 (dk_at dksX15_init_0 2 rfl rfl)
theorem dX15_init_3 : decode cX15_init 3 = .ok (.iconst 0, 1) := dk_3 (dk_at dksX15_init_0 3 rfl rfl)
theorem dX15_init_4 : decode cX15_init 4 = .ok (.iconst 0, 1) := dk_3 (dk_at dksX15_init_0 4 rfl rfl)
theorem dX15_init_5 : decode cX15_init 5 = .ok (.invokespecial 1, 3) := dk_183 0 1 (dk_at dksX15_init_0 5 rfl rfl)
theorem dX15_init_8 : decode cX15_init 8 = .ok (.aload_n 0, 1) := dk_42 (dk_at dksX15_init_0 8 rfl rfl)
theorem dX15_init_9 : decode cX15_init 9 = .ok (.iload_n 1, 1) := dk_27 (dk_at dksX15_init_0 9 rfl rfl)
theorem dX15_init_10 : decode cX15_init 10 = .ok (.putfield 7, 3) := dk_181 0 7 (dk_at dksX15_init_0 10 rfl rfl)
theorem dX15_init_13 : decode cX15_init 13 = .ok (.return_, 1) := dk_177 (dk_at dksX15_init_0 13 rfl rfl)
theorem q108 : (Jvm.Cond.initialized "StairOnSticks$Fault") ∈ lw_all := lw_g (lw_at lw_m1 35 rfl) rfl
theorem q273 : (Jvm.Cond.selects "StairOnSticks$Fault" ({ cls := "java/lang/Throwable", name := "fillInStackTrace", desc := "()Ljava/lang/Throwable;" } : Jvm.MethodName) ({ cls := "java/lang/Throwable", name := "fillInStackTrace", desc := "()Ljava/lang/Throwable;" } : Jvm.MethodName)) ∈ lw_all := lw_g (lw_at lw_m1 200 rfl) rfl
theorem q1021 : (Jvm.Cond.instantiable "StairOnSticks$Fault" (7 : Nat)) ∈ lw_all := lw_g (lw_at lw_m4 228 rfl) rfl
theorem q1022 : (Jvm.Cond.castable "StairOnSticks$Fault" "StairOnSticks$Fault") ∈ lw_tbl := lw_at lw_m4 229 rfl
theorem q1023 : (Jvm.Cond.selects "StairOnSticks$Fault" ({ cls := "java/lang/Throwable", name := "fillInStackTrace", desc := "(I)Ljava/lang/Throwable;" } : Jvm.MethodName) ({ cls := "java/lang/Throwable", name := "fillInStackTrace", desc := "(I)Ljava/lang/Throwable;" } : Jvm.MethodName)) ∈ lw_all := lw_g (lw_at lw_m4 230 rfl) rfl
theorem q1024 : (Jvm.Cond.lays "StairOnSticks$Fault" "java/lang/Throwable" "cause" "Ljava/lang/Throwable;") ∈ lw_all := lw_g (lw_at lw_m4 231 rfl) rfl
theorem q1025 : (Jvm.Cond.lays "StairOnSticks$Fault" "java/lang/Throwable" "stackTrace" "[Ljava/lang/StackTraceElement;") ∈ lw_all := lw_g (lw_at lw_m4 232 rfl) rfl
theorem q1026 : (Jvm.Cond.lays "StairOnSticks$Fault" "java/lang/Throwable" "suppressedExceptions" "Ljava/util/List;") ∈ lw_all := lw_g (lw_at lw_m4 233 rfl) rfl
theorem q1027 : (Jvm.Cond.lays "StairOnSticks$Fault" "java/lang/Throwable" "detailMessage" "Ljava/lang/String;") ∈ lw_all := lw_g (lw_at lw_m4 234 rfl) rfl
theorem q1028 : (Jvm.Cond.lays "StairOnSticks$Fault" "java/lang/Throwable" "backtrace" "Ljava/lang/Object;") ∈ lw_all := lw_g (lw_at lw_m4 235 rfl) rfl
theorem q1030 : (Jvm.Cond.instanceMethod ({ cls := "StairOnSticks$Fault", name := "<init>", desc := "(I)V" } : Jvm.MethodName)) ∈ lw_all := lw_g (lw_at lw_m4 237 rfl) rfl
theorem q1031 : (Jvm.Cond.code ({ cls := "StairOnSticks$Fault", name := "<init>", desc := "(I)V" } : Jvm.MethodName) prog_4_method_1_code (2 : Nat) (Option.none : Option Jvm.ClassFile.FieldType)) ∈ lw_all := lw_g (lw_at lw_m4 238 rfl) rfl
theorem q1032 : (Jvm.Cond.methodLink "StairOnSticks$Fault" (1 : Nat) ({ cls := "java/lang/Exception", name := "<init>", desc := "(Ljava/lang/String;Ljava/lang/Throwable;ZZ)V" } : Jvm.MethodName)) ∈ lw_all := lw_g (lw_at lw_m4 239 rfl) rfl
theorem q1033 : (Jvm.Cond.fieldLink "StairOnSticks$Fault" (7 : Nat) "StairOnSticks$Fault" "place" "I") ∈ lw_all := lw_g (lw_at lw_m5 0 rfl) rfl
theorem q1035 : (Jvm.Cond.laysFinal "StairOnSticks$Fault" "StairOnSticks$Fault" "place" "I") ∈ lw_all := lw_g (lw_at lw_m5 2 rfl) rfl
theorem q1036 : (Jvm.Cond.soleField "StairOnSticks$Fault" "place") ∈ lw_all := lw_g (lw_at lw_m5 3 rfl) rfl
theorem q1037 : (Jvm.Cond.lays "StairOnSticks$Fault" "java/lang/Throwable" "depth" "I") ∈ lw_all := lw_g (lw_at lw_m5 4 rfl) rfl
theorem q1038 : (Jvm.Cond.superclass "StairOnSticks$Fault" "java/lang/Exception") ∈ lw_all := lw_g (lw_at lw_m5 5 rfl) rfl
theorem in_X15 : ∀ w ∈ wsX150, w ∈ lw_all := lw_in wsX150 [1024, 1025, 1026, 1027, 1028, 1037, 1035] (by decide +kernel) (by decide +kernel)
/-! StairOnSticks$Loads -/
set_option maxRecDepth 100000
def RX16 : String := "StairOnSticks$Loads"
abbrev cX16_can : ByteArray := prog_6_method_5_code
def yX16_can : MethodName := ⟨RX16, "can", "(LStairOnSticks$Person;LStairOnSticks$Step;I)Z"⟩
def dkwX16_can_1 : List UInt8 := [163, 0, 7, 4, 167, 0, 4, 3, 172]
abbrev dktX16_can_1 : List UInt8 := dkwX16_can_1 ++ []
def dkwX16_can_0 : List UInt8 := [42, 43, 44, 185, 0, 1, 3, 0, 43, 182, 0, 7, 163, 0, 19, 42, 43, 44, 185, 0, 13, 3, 0, 29]
abbrev dktX16_can_0 : List UInt8 := dkwX16_can_0 ++ dktX16_can_1
theorem dksX16_can_0 : cX16_can.data.toList.drop 0 = dktX16_can_0 := by decide +kernel
theorem dksX16_can_1 : cX16_can.data.toList.drop 24 = dktX16_can_1 := dk_seg dksX16_can_0 24 rfl rfl
theorem dX16_can_0 : decode cX16_can 0 = .ok (.aload_n 0, 1) := dk_42 (dk_at dksX16_can_0 0 rfl rfl)
theorem dX16_can_1 : decode cX16_can 1 = .ok (.aload_n 1, 1) := dk_43 (dk_at dksX16_can_0 1 rfl rfl)
theorem dX16_can_2 : decode cX16_can 2 = .ok (.aload_n 2, 1) := dk_44 (dk_at dksX16_can_0 2 rfl rfl)
theorem dX16_can_3 : decode cX16_can 3 = .ok (.invokeinterface 1 3, 5) := by decide +kernel
theorem dX16_can_8 : decode cX16_can 8 = .ok (.aload_n 1, 1) := dk_43 (dk_at dksX16_can_0 8 rfl rfl)
theorem dX16_can_9 : decode cX16_can 9 = .ok (.invokevirtual 7, 3) := dk_182 0 7 (dk_at dksX16_can_0 9 rfl rfl)
theorem dX16_can_12 : decode cX16_can 12 = .ok (.if_icmp .gt 19, 3) := dk_163 0 19 (dk_at dksX16_can_0 12 rfl rfl)
theorem dX16_can_15 : decode cX16_can 15 = .ok (.aload_n 0, 1) := dk_42 (dk_at dksX16_can_0 15 rfl rfl)
theorem dX16_can_16 : decode cX16_can 16 = .ok (.aload_n 1, 1) := dk_43 (dk_at dksX16_can_0 16 rfl rfl)
theorem dX16_can_17 : decode cX16_can 17 = .ok (.aload_n 2, 1) := dk_44 (dk_at dksX16_can_0 17 rfl rfl)
theorem dX16_can_18 : decode cX16_can 18 = .ok (.invokeinterface 13 3, 5) := by decide +kernel
theorem dX16_can_23 : decode cX16_can 23 = .ok (.iload_n 3, 1) := dk_29 (dk_at dksX16_can_0 23 rfl rfl)
theorem dX16_can_24 : decode cX16_can 24 = .ok (.if_icmp .gt 7, 3) := dk_163 0 7 (dk_at dksX16_can_1 0 rfl rfl)
theorem dX16_can_27 : decode cX16_can 27 = .ok (.iconst 1, 1) := dk_4 (dk_at dksX16_can_1 3 rfl rfl)
theorem dX16_can_28 : decode cX16_can 28 = .ok (.goto 4, 3) := dk_167 0 4 (dk_at dksX16_can_1 4 rfl rfl)
theorem dX16_can_31 : decode cX16_can 31 = .ok (.iconst 0, 1) := dk_3 (dk_at dksX16_can_1 7 rfl rfl)
theorem dX16_can_32 : decode cX16_can 32 = .ok (.ireturn, 1) := dk_172 (dk_at dksX16_can_1 8 rfl rfl)
theorem q1173 : (Jvm.Cond.declares ({ cls := "StairOnSticks$Loads", name := "can", desc := "(LStairOnSticks$Person;LStairOnSticks$Step;I)Z" } : Jvm.MethodName)) ∈ lw_tbl := lw_at lw_m5 140 rfl
theorem q1180 : (Jvm.Cond.instanceMethod ({ cls := "StairOnSticks$Loads", name := "can", desc := "(LStairOnSticks$Person;LStairOnSticks$Step;I)Z" } : Jvm.MethodName)) ∈ lw_all := lw_g (lw_at lw_m5 147 rfl) rfl
theorem q1181 : (Jvm.Cond.publicMethod ({ cls := "StairOnSticks$Loads", name := "can", desc := "(LStairOnSticks$Person;LStairOnSticks$Step;I)Z" } : Jvm.MethodName)) ∈ lw_tbl := lw_at lw_m5 148 rfl
theorem q1182 : (Jvm.Cond.code ({ cls := "StairOnSticks$Loads", name := "can", desc := "(LStairOnSticks$Person;LStairOnSticks$Step;I)Z" } : Jvm.MethodName) prog_6_method_5_code (4 : Nat) (Option.some Jvm.ClassFile.FieldType.boolean)) ∈ lw_all := lw_g (lw_at lw_m5 149 rfl) rfl
theorem q1183 : (Jvm.Cond.interfaceEntry "StairOnSticks$Loads" (1 : Nat)) ∈ lw_tbl := lw_at lw_m5 150 rfl
theorem q1184 : (Jvm.Cond.methodLink "StairOnSticks$Loads" (1 : Nat) ({ cls := "StairOnSticks$Loads", name := "load", desc := "(LStairOnSticks$Person;LStairOnSticks$Step;)I" } : Jvm.MethodName)) ∈ lw_all := lw_g (lw_at lw_m5 151 rfl) rfl
theorem q1185 : (Jvm.Cond.interfaceMethod "StairOnSticks$Loads" "StairOnSticks$Loads" "load" "(LStairOnSticks$Person;LStairOnSticks$Step;)I") ∈ lw_tbl := lw_at lw_m5 152 rfl
theorem q1186 : (Jvm.Cond.declares ({ cls := "StairOnSticks$Loads", name := "load", desc := "(LStairOnSticks$Person;LStairOnSticks$Step;)I" } : Jvm.MethodName)) ∈ lw_tbl := lw_at lw_m5 153 rfl
theorem q1210 : (Jvm.Cond.methodLink "StairOnSticks$Loads" (7 : Nat) ({ cls := "StairOnSticks$Person", name := "limit", desc := "()I" } : Jvm.MethodName)) ∈ lw_all := lw_g (lw_at lw_m5 177 rfl) rfl
theorem q1214 : (Jvm.Cond.interfaceEntry "StairOnSticks$Loads" (13 : Nat)) ∈ lw_tbl := lw_at lw_m5 181 rfl
theorem q1215 : (Jvm.Cond.methodLink "StairOnSticks$Loads" (13 : Nat) ({ cls := "StairOnSticks$Loads", name := "tires", desc := "(LStairOnSticks$Person;LStairOnSticks$Step;)I" } : Jvm.MethodName)) ∈ lw_all := lw_g (lw_at lw_m5 182 rfl) rfl
theorem q1216 : (Jvm.Cond.interfaceMethod "StairOnSticks$Loads" "StairOnSticks$Loads" "tires" "(LStairOnSticks$Person;LStairOnSticks$Step;)I") ∈ lw_tbl := lw_at lw_m5 183 rfl
theorem q1217 : (Jvm.Cond.declares ({ cls := "StairOnSticks$Loads", name := "tires", desc := "(LStairOnSticks$Person;LStairOnSticks$Step;)I" } : Jvm.MethodName)) ∈ lw_tbl := lw_at lw_m5 184 rfl
theorem q2039 : (Jvm.Cond.initialized "StairOnSticks$Loads") ∈ lw_all := lw_g (lw_at lw_m9 46 rfl) rfl
