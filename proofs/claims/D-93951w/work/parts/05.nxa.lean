/-! StairOnSticks -/
set_option maxRecDepth 100000
def RX0 : String := "StairOnSticks"
def TX0 : u_T := fun k => match k with
  | 0 => ("StairOnSticks", "now", "LStairOnSticks$Stair;", false)
  | 1 => ("StairOnSticks", "image", "LStairOnSticks$Stair;", false)
  | 2 => ("StairOnSticks", "best", "LStairOnSticks$Best;", true)
  | 3 => ("StairOnSticks", "shelves", "[LStairOnSticks$Sheet;", true)
  | 4 => ("StairOnSticks", "tape", "[I", true)
  | 5 => ("StairOnSticks", "size", "I", false)
  | _ => ("StairOnSticks", "refused", "[I", true)
def tyX0 : Nat → FieldType := fun k => match k with
  | 0 => .object "StairOnSticks$Stair"
  | 1 => .object "StairOnSticks$Stair"
  | 2 => .object "StairOnSticks$Best"
  | 3 => .array (.object "StairOnSticks$Sheet")
  | 4 => .array .int
  | 5 => .int
  | _ => .array .int
abbrev wsX00 : List Cond := u_ws RX0 TX0 7
theorem nmX0 : ∀ a, a < 7 → ∀ b, b < 7 → a ≠ b → (TX0 a).2.1 ≠ (TX0 b).2.1 := by decide +kernel
theorem tyX0_ok : ∀ k, k < 7 → parseFieldDescriptor (TX0 k).2.2.1 = some (tyX0 k) := by decide +kernel
abbrev cX0_init : ByteArray := prog_1_method_4_code
def yX0_init : MethodName := ⟨RX0, "<init>", "()V"⟩
def dkwX0_init_3 : List UInt8 := [183, 0, 56, 83, 132, 1, 1, 167, 255, 234, 177]
abbrev dktX0_init_3 : List UInt8 := dkwX0_init_3 ++ []
def dkwX0_init_2 : List UInt8 := [188, 10, 181, 0, 53, 3, 60, 27, 16, 8, 162, 0, 22, 42, 180, 0, 45, 27, 187, 0, 43, 89]
abbrev dktX0_init_2 : List UInt8 := dkwX0_init_2 ++ dktX0_init_3
def dkwX0_init_1 : List UInt8 := [181, 0, 39, 42, 16, 8, 189, 0, 43, 181, 0, 45, 42, 17, 0, 250, 188, 10, 181, 0, 49, 42, 16, 7]
abbrev dktX0_init_1 : List UInt8 := dkwX0_init_1 ++ dktX0_init_2
def dkwX0_init_0 : List UInt8 := [42, 183, 0, 22, 42, 187, 0, 27, 89, 183, 0, 29, 181, 0, 30, 42, 187, 0, 36, 89, 183, 0, 38]
abbrev dktX0_init_0 : List UInt8 := dkwX0_init_0 ++ dktX0_init_1
theorem dksX0_init_0 : cX0_init.data.toList.drop 0 = dktX0_init_0 := by decide +kernel
theorem dksX0_init_1 : cX0_init.data.toList.drop 23 = dktX0_init_1 := dk_seg dksX0_init_0 23 rfl rfl
theorem dksX0_init_2 : cX0_init.data.toList.drop 47 = dktX0_init_2 := dk_seg dksX0_init_1 24 rfl rfl
theorem dksX0_init_3 : cX0_init.data.toList.drop 69 = dktX0_init_3 := dk_seg dksX0_init_2 22 rfl rfl
theorem dX0_init_0 : decode cX0_init 0 = .ok (.aload_n 0, 1) := dk_42 (dk_at dksX0_init_0 0 rfl rfl)
theorem dX0_init_1 : decode cX0_init 1 = .ok (.invokespecial 22, 3) := dk_183 0 22 (dk_at dksX0_init_0 1 rfl rfl)
theorem dX0_init_4 : decode cX0_init 4 = .ok (.aload_n 0, 1) := dk_42 (dk_at dksX0_init_0 4 rfl rfl)
theorem dX0_init_5 : decode cX0_init 5 = .ok (.new 27, 3) := dk_187 0 27 (dk_at dksX0_init_0 5 rfl rfl)
theorem dX0_init_8 : decode cX0_init 8 = .ok (.dup, 1) := dk_89 (dk_at dksX0_init_0 8 rfl rfl)
theorem dX0_init_9 : decode cX0_init 9 = .ok (.invokespecial 29, 3) := dk_183 0 29 (dk_at dksX0_init_0 9 rfl rfl)
theorem dX0_init_12 : decode cX0_init 12 = .ok (.putfield 30, 3) := dk_181 0 30 (dk_at dksX0_init_0 12 rfl rfl)
theorem dX0_init_15 : decode cX0_init 15 = .ok (.aload_n 0, 1) := dk_42 (dk_at dksX0_init_0 15 rfl rfl)
theorem dX0_init_16 : decode cX0_init 16 = .ok (.new 36, 3) := dk_187 0 36 (dk_at dksX0_init_0 16 rfl rfl)
theorem dX0_init_19 : decode cX0_init 19 = .ok (.dup, 1) := dk_89 (dk_at dksX0_init_0 19 rfl rfl)
theorem dX0_init_20 : decode cX0_init 20 = .ok (.invokespecial 38, 3) := dk_183 0 38 (dk_at dksX0_init_0 20 rfl rfl)
theorem dX0_init_23 : decode cX0_init 23 = .ok (.putfield 39, 3) := dk_181 0 39 (dk_at dksX0_init_1 0 rfl rfl)
theorem dX0_init_26 : decode cX0_init 26 = .ok (.aload_n 0, 1) := dk_42 (dk_at dksX0_init_1 3 rfl rfl)
theorem dX0_init_27 : decode cX0_init 27 = .ok (.bipush 8, 2) := dk_16 8 (dk_at dksX0_init_1 4 rfl rfl)
theorem dX0_init_29 : decode cX0_init 29 = .ok (.anewarray 43, 3) := dk_189 0 43 (dk_at dksX0_init_1 6 rfl rfl)
theorem dX0_init_32 : decode cX0_init 32 = .ok (.putfield 45, 3) := dk_181 0 45 (dk_at dksX0_init_1 9 rfl rfl)
theorem dX0_init_35 : decode cX0_init 35 = .ok (.aload_n 0, 1) := dk_42 (dk_at dksX0_init_1 12 rfl rfl)
theorem dX0_init_36 : decode cX0_init 36 = .ok (.sipush 250, 3) := dk_17 0 250 (dk_at dksX0_init_1 13 rfl rfl)
theorem dX0_init_39 : decode cX0_init 39 = .ok (.newarray .int, 2) := dk_188_10 (dk_at dksX0_init_1 16 rfl rfl)
theorem dX0_init_41 : decode cX0_init 41 = .ok (.putfield 49, 3) := dk_181 0 49 (dk_at dksX0_init_1 18 rfl rfl)
theorem dX0_init_44 : decode cX0_init 44 = .ok (.aload_n 0, 1) := dk_42 (dk_at dksX0_init_1 21 rfl rfl)
theorem dX0_init_45 : decode cX0_init 45 = .ok (.bipush 7, 2) := dk_16 7 (dk_at dksX0_init_1 22 rfl rfl)
theorem dX0_init_47 : decode cX0_init 47 = .ok (.newarray .int, 2) := dk_188_10 (dk_at dksX0_init_2 0 rfl rfl)
theorem dX0_init_49 : decode cX0_init 49 = .ok (.putfield 53, 3) := dk_181 0 53 (dk_at dksX0_init_2 2 rfl rfl)
theorem dX0_init_52 : decode cX0_init 52 = .ok (.iconst 0, 1) := dk_3 (dk_at dksX0_init_2 5 rfl rfl)
theorem dX0_init_53 : decode cX0_init 53 = .ok (.istore_n 1, 1) := dk_60 (dk_at dksX0_init_2 6 rfl rfl)
theorem dX0_init_54 : decode cX0_init 54 = .ok (.iload_n 1, 1) := dk_27 (dk_at dksX0_init_2 7 rfl rfl)
theorem dX0_init_55 : decode cX0_init 55 = .ok (.bipush 8, 2) := dk_16 8 (dk_at dksX0_init_2 8 rfl rfl)
theorem dX0_init_57 : decode cX0_init 57 = .ok (.if_icmp .ge 22, 3) := dk_162 0 22 (dk_at dksX0_init_2 10 rfl rfl)
theorem dX0_init_60 : decode cX0_init 60 = .ok (.aload_n 0, 1) := dk_42 (dk_at dksX0_init_2 13 rfl rfl)
theorem dX0_init_61 : decode cX0_init 61 = .ok (.getfield 45, 3) := dk_180 0 45 (dk_at dksX0_init_2 14 rfl rfl)
theorem dX0_init_64 : decode cX0_init 64 = .ok (.iload_n 1, 1) := dk_27 (dk_at dksX0_init_2 17 rfl rfl)
theorem dX0_init_65 : decode cX0_init 65 = .ok (.new 43, 3) := dk_187 0 43 (dk_at dksX0_init_2 18 rfl rfl)
theorem dX0_init_68 : decode cX0_init 68 = .ok (.dup, 1) := dk_89 (dk_at dksX0_init_2 21 rfl rfl)
theorem dX0_init_69 : decode cX0_init 69 = .ok (.invokespecial 56, 3) := dk_183 0 56 (dk_at dksX0_init_3 0 rfl rfl)
theorem dX0_init_72 : decode cX0_init 72 = .ok (.aastore, 1) := dk_83 (dk_at dksX0_init_3 3 rfl rfl)
theorem dX0_init_73 : decode cX0_init 73 = .ok (.iinc 1 1, 3) := dk_132 1 1 (dk_at dksX0_init_3 4 rfl rfl)
theorem dX0_init_76 : decode cX0_init 76 = .ok (.goto (-22), 3) := dk_167 255 234 (dk_at dksX0_init_3 7 rfl rfl)
theorem dX0_init_79 : decode cX0_init 79 = .ok (.return_, 1) := dk_177 (dk_at dksX0_init_3 10 rfl rfl)
abbrev cX0_row : ByteArray := prog_1_method_14_code
def yX0_row : MethodName := ⟨RX0, "row", "(III)I"⟩
def dkwX0_row_2 : List UInt8 := [58, 4, 42, 16, 254, 182, 0, 85, 172, 4, 172]
abbrev dktX0_row_2 : List UInt8 := dkwX0_row_2 ++ []
def dkwX0_row_1 : List UInt8 := [16, 254, 182, 0, 85, 172, 42, 180, 0, 45, 27, 50, 28, 29, 184, 0, 89, 181, 0, 93, 167, 0, 12]
abbrev dktX0_row_1 : List UInt8 := dkwX0_row_1 ++ dktX0_row_2
def dkwX0_row_0 : List UInt8 := [27, 184, 0, 81, 153, 0, 18, 28, 155, 0, 14, 28, 7, 163, 0, 9, 29, 16, 40, 164, 0, 10, 42]
abbrev dktX0_row_0 : List UInt8 := dkwX0_row_0 ++ dktX0_row_1
theorem dksX0_row_0 : cX0_row.data.toList.drop 0 = dktX0_row_0 := by decide +kernel
theorem dksX0_row_1 : cX0_row.data.toList.drop 23 = dktX0_row_1 := dk_seg dksX0_row_0 23 rfl rfl
theorem dksX0_row_2 : cX0_row.data.toList.drop 46 = dktX0_row_2 := dk_seg dksX0_row_1 23 rfl rfl
theorem dX0_row_0 : decode cX0_row 0 = .ok (.iload_n 1, 1) := dk_27 (dk_at dksX0_row_0 0 rfl rfl)
theorem dX0_row_1 : decode cX0_row 1 = .ok (.invokestatic 81, 3) := dk_184 0 81 (dk_at dksX0_row_0 1 rfl rfl)
theorem dX0_row_4 : decode cX0_row 4 = .ok (.ifCond .eq 18, 3) := dk_153 0 18 (dk_at dksX0_row_0 4 rfl rfl)
theorem dX0_row_7 : decode cX0_row 7 = .ok (.iload_n 2, 1) := dk_28 (dk_at dksX0_row_0 7 rfl rfl)
theorem dX0_row_8 : decode cX0_row 8 = .ok (.ifCond .lt 14, 3) := dk_155 0 14 (dk_at dksX0_row_0 8 rfl rfl)
theorem dX0_row_11 : decode cX0_row 11 = .ok (.iload_n 2, 1) := dk_28 (dk_at dksX0_row_0 11 rfl rfl)
theorem dX0_row_12 : decode cX0_row 12 = .ok (.iconst 4, 1) := dk_7 (dk_at dksX0_row_0 12 rfl rfl)
theorem dX0_row_13 : decode cX0_row 13 = .ok (.if_icmp .gt 9, 3) := dk_163 0 9 (dk_at dksX0_row_0 13 rfl rfl)
theorem dX0_row_16 : decode cX0_row 16 = .ok (.iload_n 3, 1) := dk_29 (dk_at dksX0_row_0 16 rfl rfl)
theorem dX0_row_17 : decode cX0_row 17 = .ok (.bipush 40, 2) := dk_16 40 (dk_at dksX0_row_0 17 rfl rfl)
theorem dX0_row_19 : decode cX0_row 19 = .ok (.if_icmp .le 10, 3) := dk_164 0 10 (dk_at dksX0_row_0 19 rfl rfl)
theorem dX0_row_22 : decode cX0_row 22 = .ok (.aload_n 0, 1) := dk_42 (dk_at dksX0_row_0 22 rfl rfl)
theorem dX0_row_23 : decode cX0_row 23 = .ok (.bipush (-2), 2) := dk_16 254 (dk_at dksX0_row_1 0 rfl rfl)
theorem dX0_row_25 : decode cX0_row 25 = .ok (.invokevirtual 85, 3) := dk_182 0 85 (dk_at dksX0_row_1 2 rfl rfl)
theorem dX0_row_28 : decode cX0_row 28 = .ok (.ireturn, 1) := dk_172 (dk_at dksX0_row_1 5 rfl rfl)
theorem dX0_row_29 : decode cX0_row 29 = .ok (.aload_n 0, 1) := dk_42 (dk_at dksX0_row_1 6 rfl rfl)
theorem dX0_row_30 : decode cX0_row 30 = .ok (.getfield 45, 3) := dk_180 0 45 (dk_at dksX0_row_1 7 rfl rfl)
theorem dX0_row_33 : decode cX0_row 33 = .ok (.iload_n 1, 1) := dk_27 (dk_at dksX0_row_1 10 rfl rfl)
theorem dX0_row_34 : decode cX0_row 34 = .ok (.aaload, 1) := dk_50 (dk_at dksX0_row_1 11 rfl rfl)
theorem dX0_row_35 : decode cX0_row 35 = .ok (.iload_n 2, 1) := dk_28 (dk_at dksX0_row_1 12 rfl rfl)
theorem dX0_row_36 : decode cX0_row 36 = .ok (.iload_n 3, 1) := dk_29 (dk_at dksX0_row_1 13 rfl rfl)
theorem dX0_row_37 : decode cX0_row 37 = .ok (.invokestatic 89, 3) := dk_184 0 89 (dk_at dksX0_row_1 14 rfl rfl)
theorem dX0_row_40 : decode cX0_row 40 = .ok (.putfield 93, 3) := dk_181 0 93 (dk_at dksX0_row_1 17 rfl rfl)
theorem dX0_row_43 : decode cX0_row 43 = .ok (.goto 12, 3) := dk_167 0 12 (dk_at dksX0_row_1 20 rfl rfl)
theorem dX0_row_46 : decode cX0_row 46 = .ok (.astore 4, 2) := dk_58 4 (dk_at dksX0_row_2 0 rfl rfl)
theorem dX0_row_48 : decode cX0_row 48 = .ok (.aload_n 0, 1) := dk_42 (dk_at dksX0_row_2 2 rfl rfl)
theorem dX0_row_49 : decode cX0_row 49 = .ok (.bipush (-2), 2) := dk_16 254 (dk_at dksX0_row_2 3 rfl rfl)
theorem dX0_row_51 : decode cX0_row 51 = .ok (.invokevirtual 85, 3) := dk_182 0 85 (dk_at dksX0_row_2 5 rfl rfl)
theorem dX0_row_54 : decode cX0_row 54 = .ok (.ireturn, 1) := dk_172 (dk_at dksX0_row_2 8 rfl rfl)
theorem dX0_row_55 : decode cX0_row 55 = .ok (.iconst 1, 1) := dk_4 (dk_at dksX0_row_2 9 rfl rfl)
theorem dX0_row_56 : decode cX0_row 56 = .ok (.ireturn, 1) := dk_172 (dk_at dksX0_row_2 10 rfl rfl)
abbrev cX0_isShelf : ByteArray := prog_1_method_6_code
def yX0_isShelf : MethodName := ⟨RX0, "isShelf", "(I)Z"⟩
def dkwX0_isShelf_0 : List UInt8 := [26, 3, 16, 7, 184, 0, 57, 172]
abbrev dktX0_isShelf_0 : List UInt8 := dkwX0_isShelf_0 ++ []
theorem dksX0_isShelf_0 : cX0_isShelf.data.toList.drop 0 = dktX0_isShelf_0 := by decide +kernel
theorem dX0_isShelf_0 : decode cX0_isShelf 0 = .ok (.iload_n 0, 1) := dk_26 (dk_at dksX0_isShelf_0 0 rfl rfl)
theorem dX0_isShelf_1 : decode cX0_isShelf 1 = .ok (.iconst 0, 1) := dk_3 (dk_at dksX0_isShelf_0 1 rfl rfl)
theorem dX0_isShelf_2 : decode cX0_isShelf 2 = .ok (.bipush 7, 2) := dk_16 7 (dk_at dksX0_isShelf_0 2 rfl rfl)
theorem dX0_isShelf_4 : decode cX0_isShelf 4 = .ok (.invokestatic 57, 3) := dk_184 0 57 (dk_at dksX0_isShelf_0 4 rfl rfl)
theorem dX0_isShelf_7 : decode cX0_isShelf 7 = .ok (.ireturn, 1) := dk_172 (dk_at dksX0_isShelf_0 7 rfl rfl)
abbrev cX0_isIn : ByteArray := prog_1_method_1_code
def yX0_isIn : MethodName := ⟨RX0, "isIn", "(III)Z"⟩
def dkwX0_isIn_0 : List UInt8 := [26, 27, 161, 0, 12, 26, 28, 163, 0, 7, 4, 167, 0, 4, 3, 172]
abbrev dktX0_isIn_0 : List UInt8 := dkwX0_isIn_0 ++ []
theorem dksX0_isIn_0 : cX0_isIn.data.toList.drop 0 = dktX0_isIn_0 := by decide +kernel
theorem dX0_isIn_0 : decode cX0_isIn 0 = .ok (.iload_n 0, 1) := dk_26 (dk_at dksX0_isIn_0 0 rfl rfl)
theorem dX0_isIn_1 : decode cX0_isIn 1 = .ok (.iload_n 1, 1) := dk_27 (dk_at dksX0_isIn_0 1 rfl rfl)
theorem dX0_isIn_2 : decode cX0_isIn 2 = .ok (.if_icmp .lt 12, 3) := dk_161 0 12 (dk_at dksX0_isIn_0 2 rfl rfl)
theorem dX0_isIn_5 : decode cX0_isIn 5 = .ok (.iload_n 0, 1) := dk_26 (dk_at dksX0_isIn_0 5 rfl rfl)
theorem dX0_isIn_6 : decode cX0_isIn 6 = .ok (.iload_n 2, 1) := dk_28 (dk_at dksX0_isIn_0 6 rfl rfl)
theorem dX0_isIn_7 : decode cX0_isIn 7 = .ok (.if_icmp .gt 7, 3) := dk_163 0 7 (dk_at dksX0_isIn_0 7 rfl rfl)
theorem dX0_isIn_10 : decode cX0_isIn 10 = .ok (.iconst 1, 1) := dk_4 (dk_at dksX0_isIn_0 10 rfl rfl)
theorem dX0_isIn_11 : decode cX0_isIn 11 = .ok (.goto 4, 3) := dk_167 0 4 (dk_at dksX0_isIn_0 11 rfl rfl)
theorem dX0_isIn_14 : decode cX0_isIn 14 = .ok (.iconst 0, 1) := dk_3 (dk_at dksX0_isIn_0 14 rfl rfl)
theorem dX0_isIn_15 : decode cX0_isIn 15 = .ok (.ireturn, 1) := dk_172 (dk_at dksX0_isIn_0 15 rfl rfl)
abbrev cX0_no : ByteArray := prog_1_method_5_code
def yX0_no : MethodName := ⟨RX0, "no", "(I)I"⟩
def dkwX0_no_0 : List UInt8 := [42, 180, 0, 53, 27, 116, 92, 46, 4, 96, 79, 27, 172]
abbrev dktX0_no_0 : List UInt8 := dkwX0_no_0 ++ []
theorem dksX0_no_0 : cX0_no.data.toList.drop 0 = dktX0_no_0 := by decide +kernel
theorem dX0_no_0 : decode cX0_no 0 = .ok (.aload_n 0, 1) := dk_42 (dk_at dksX0_no_0 0 rfl rfl)
theorem dX0_no_1 : decode cX0_no 1 = .ok (.getfield 53, 3) := dk_180 0 53 (dk_at dksX0_no_0 1 rfl rfl)
theorem dX0_no_4 : decode cX0_no 4 = .ok (.iload_n 1, 1) := dk_27 (dk_at dksX0_no_0 4 rfl rfl)
theorem dX0_no_5 : decode cX0_no 5 = .ok (.ineg, 1) := dk_116 (dk_at dksX0_no_0 5 rfl rfl)
theorem dX0_no_6 : decode cX0_no 6 = .ok (.dup2, 1) := dk_92 (dk_at dksX0_no_0 6 rfl rfl)
theorem dX0_no_7 : decode cX0_no 7 = .ok (.iaload, 1) := dk_46 (dk_at dksX0_no_0 7 rfl rfl)
theorem dX0_no_8 : decode cX0_no 8 = .ok (.iconst 1, 1) := dk_4 (dk_at dksX0_no_0 8 rfl rfl)
theorem dX0_no_9 : decode cX0_no 9 = .ok (.iadd, 1) := dk_96 (dk_at dksX0_no_0 9 rfl rfl)
theorem dX0_no_10 : decode cX0_no 10 = .ok (.iastore, 1) := dk_79 (dk_at dksX0_no_0 10 rfl rfl)
theorem dX0_no_11 : decode cX0_no 11 = .ok (.iload_n 1, 1) := dk_27 (dk_at dksX0_no_0 11 rfl rfl)
theorem dX0_no_12 : decode cX0_no 12 = .ok (.ireturn, 1) := dk_172 (dk_at dksX0_no_0 12 rfl rfl)
abbrev cX0_rowOf : ByteArray := prog_1_method_10_code
def yX0_rowOf : MethodName := ⟨RX0, "rowOf", "(II)Ljava/lang/Object;"⟩
def dkwX0_rowOf_2 : List UInt8 := [27, 188, 8, 176, 27, 188, 9, 176, 27, 188, 10, 176, 27, 188, 11, 176, 27, 188, 4, 176]
abbrev dktX0_rowOf_2 : List UInt8 := dkwX0_rowOf_2 ++ []
def dkwX0_rowOf_1 : List UInt8 := [170, 0, 0, 0, 0, 0, 47, 0, 0, 0, 0, 0, 0, 0, 3, 0, 0, 0, 31, 0, 0, 0, 35, 0, 0, 0, 39, 0, 0, 0, 43]
abbrev dktX0_rowOf_1 : List UInt8 := dkwX0_rowOf_1 ++ dktX0_rowOf_2
def dkwX0_rowOf_0 : List UInt8 := [26]
abbrev dktX0_rowOf_0 : List UInt8 := dkwX0_rowOf_0 ++ dktX0_rowOf_1
theorem dksX0_rowOf_0 : cX0_rowOf.data.toList.drop 0 = dktX0_rowOf_0 := by decide +kernel
theorem dksX0_rowOf_1 : cX0_rowOf.data.toList.drop 1 = dktX0_rowOf_1 := dk_seg dksX0_rowOf_0 1 rfl rfl
theorem dksX0_rowOf_2 : cX0_rowOf.data.toList.drop 32 = dktX0_rowOf_2 := dk_seg dksX0_rowOf_1 31 rfl rfl
theorem dX0_rowOf_0 : decode cX0_rowOf 0 = .ok (.iload_n 0, 1) := dk_26 (dk_at dksX0_rowOf_0 0 rfl rfl)
theorem dX0_rowOf_1 : decode cX0_rowOf 1 = .ok (.tableswitch 47 0 3 #[31, 35, 39, 43], 31) := by decide +kernel
theorem dX0_rowOf_32 : decode cX0_rowOf 32 = .ok (.iload_n 1, 1) := dk_27 (dk_at dksX0_rowOf_2 0 rfl rfl)
theorem dX0_rowOf_33 : decode cX0_rowOf 33 = .ok (.newarray .byte, 2) := dk_188_8 (dk_at dksX0_rowOf_2 1 rfl rfl)
theorem dX0_rowOf_35 : decode cX0_rowOf 35 = .ok (.areturn, 1) := dk_176 (dk_at dksX0_rowOf_2 3 rfl rfl)
theorem dX0_rowOf_36 : decode cX0_rowOf 36 = .ok (.iload_n 1, 1) := dk_27 (dk_at dksX0_rowOf_2 4 rfl rfl)
theorem dX0_rowOf_37 : decode cX0_rowOf 37 = .ok (.newarray .short, 2) := dk_188_9 (dk_at dksX0_rowOf_2 5 rfl rfl)
theorem dX0_rowOf_39 : decode cX0_rowOf 39 = .ok (.areturn, 1) := dk_176 (dk_at dksX0_rowOf_2 7 rfl rfl)
theorem dX0_rowOf_40 : decode cX0_rowOf 40 = .ok (.iload_n 1, 1) := dk_27 (dk_at dksX0_rowOf_2 8 rfl rfl)
theorem dX0_rowOf_41 : decode cX0_rowOf 41 = .ok (.newarray .int, 2) := dk_188_10 (dk_at dksX0_rowOf_2 9 rfl rfl)
theorem dX0_rowOf_43 : decode cX0_rowOf 43 = .ok (.areturn, 1) := dk_176 (dk_at dksX0_rowOf_2 11 rfl rfl)
theorem dX0_rowOf_44 : decode cX0_rowOf 44 = .ok (.iload_n 1, 1) := dk_27 (dk_at dksX0_rowOf_2 12 rfl rfl)
theorem dX0_rowOf_45 : decode cX0_rowOf 45 = .ok (.newarray .long, 2) := dk_188_11 (dk_at dksX0_rowOf_2 13 rfl rfl)
theorem dX0_rowOf_47 : decode cX0_rowOf 47 = .ok (.areturn, 1) := dk_176 (dk_at dksX0_rowOf_2 15 rfl rfl)
theorem dX0_rowOf_48 : decode cX0_rowOf 48 = .ok (.iload_n 1, 1) := dk_27 (dk_at dksX0_rowOf_2 16 rfl rfl)
theorem dX0_rowOf_49 : decode cX0_rowOf 49 = .ok (.newarray .boolean, 2) := dk_188_4 (dk_at dksX0_rowOf_2 17 rfl rfl)
theorem dX0_rowOf_51 : decode cX0_rowOf 51 = .ok (.areturn, 1) := dk_176 (dk_at dksX0_rowOf_2 19 rfl rfl)
abbrev cX0_set : ByteArray := prog_1_method_16_code
def yX0_set : MethodName := ⟨RX0, "set", "(IIJ)I"⟩
def dkwX0_set_1 : List UInt8 := [4, 172, 58, 5, 42, 25, 5, 180, 0, 112, 182, 0, 85, 172, 58, 5, 42, 16, 254, 182, 0, 85, 172]
abbrev dktX0_set_1 : List UInt8 := dkwX0_set_1 ++ []
def dkwX0_set_0 : List UInt8 := [27, 184, 0, 81, 154, 0, 10, 42, 16, 254, 182, 0, 85, 172, 42, 27, 182, 0, 104, 28, 33, 184, 0, 108]
abbrev dktX0_set_0 : List UInt8 := dkwX0_set_0 ++ dktX0_set_1
theorem dksX0_set_0 : cX0_set.data.toList.drop 0 = dktX0_set_0 := by decide +kernel
theorem dksX0_set_1 : cX0_set.data.toList.drop 24 = dktX0_set_1 := dk_seg dksX0_set_0 24 rfl rfl
theorem dX0_set_0 : decode cX0_set 0 = .ok (.iload_n 1, 1) := dk_27 (dk_at dksX0_set_0 0 rfl rfl)
theorem dX0_set_1 : decode cX0_set 1 = .ok (.invokestatic 81, 3) := dk_184 0 81 (dk_at dksX0_set_0 1 rfl rfl)
theorem dX0_set_4 : decode cX0_set 4 = .ok (.ifCond .ne 10, 3) := dk_154 0 10 (dk_at dksX0_set_0 4 rfl rfl)
theorem dX0_set_7 : decode cX0_set 7 = .ok (.aload_n 0, 1) := dk_42 (dk_at dksX0_set_0 7 rfl rfl)
theorem dX0_set_8 : decode cX0_set 8 = .ok (.bipush (-2), 2) := dk_16 254 (dk_at dksX0_set_0 8 rfl rfl)
theorem dX0_set_10 : decode cX0_set 10 = .ok (.invokevirtual 85, 3) := dk_182 0 85 (dk_at dksX0_set_0 10 rfl rfl)
theorem dX0_set_13 : decode cX0_set 13 = .ok (.ireturn, 1) := dk_172 (dk_at dksX0_set_0 13 rfl rfl)
theorem dX0_set_14 : decode cX0_set 14 = .ok (.aload_n 0, 1) := dk_42 (dk_at dksX0_set_0 14 rfl rfl)
theorem dX0_set_15 : decode cX0_set 15 = .ok (.iload_n 1, 1) := dk_27 (dk_at dksX0_set_0 15 rfl rfl)
theorem dX0_set_16 : decode cX0_set 16 = .ok (.invokevirtual 104, 3) := dk_182 0 104 (dk_at dksX0_set_0 16 rfl rfl)
theorem dX0_set_19 : decode cX0_set 19 = .ok (.iload_n 2, 1) := dk_28 (dk_at dksX0_set_0 19 rfl rfl)
theorem dX0_set_20 : decode cX0_set 20 = .ok (.lload_n 3, 1) := dk_33 (dk_at dksX0_set_0 20 rfl rfl)
theorem dX0_set_21 : decode cX0_set 21 = .ok (.invokestatic 108, 3) := dk_184 0 108 (dk_at dksX0_set_0 21 rfl rfl)
theorem dX0_set_24 : decode cX0_set 24 = .ok (.iconst 1, 1) := dk_4 (dk_at dksX0_set_1 0 rfl rfl)
theorem dX0_set_25 : decode cX0_set 25 = .ok (.ireturn, 1) := dk_172 (dk_at dksX0_set_1 1 rfl rfl)
theorem dX0_set_26 : decode cX0_set 26 = .ok (.astore 5, 2) := dk_58 5 (dk_at dksX0_set_1 2 rfl rfl)
theorem dX0_set_28 : decode cX0_set 28 = .ok (.aload_n 0, 1) := dk_42 (dk_at dksX0_set_1 4 rfl rfl)
theorem dX0_set_29 : decode cX0_set 29 = .ok (.aload 5, 2) := dk_25 5 (dk_at dksX0_set_1 5 rfl rfl)
theorem dX0_set_31 : decode cX0_set 31 = .ok (.getfield 112, 3) := dk_180 0 112 (dk_at dksX0_set_1 7 rfl rfl)
theorem dX0_set_34 : decode cX0_set 34 = .ok (.invokevirtual 85, 3) := dk_182 0 85 (dk_at dksX0_set_1 10 rfl rfl)
theorem dX0_set_37 : decode cX0_set 37 = .ok (.ireturn, 1) := dk_172 (dk_at dksX0_set_1 13 rfl rfl)
theorem dX0_set_38 : decode cX0_set 38 = .ok (.astore 5, 2) := dk_58 5 (dk_at dksX0_set_1 14 rfl rfl)
theorem dX0_set_40 : decode cX0_set 40 = .ok (.aload_n 0, 1) := dk_42 (dk_at dksX0_set_1 16 rfl rfl)
theorem dX0_set_41 : decode cX0_set 41 = .ok (.bipush (-2), 2) := dk_16 254 (dk_at dksX0_set_1 17 rfl rfl)
theorem dX0_set_43 : decode cX0_set 43 = .ok (.invokevirtual 85, 3) := dk_182 0 85 (dk_at dksX0_set_1 19 rfl rfl)
theorem dX0_set_46 : decode cX0_set 46 = .ok (.ireturn, 1) := dk_172 (dk_at dksX0_set_1 22 rfl rfl)
abbrev cX0_rowIn : ByteArray := prog_1_method_15_code
def yX0_rowIn : MethodName := ⟨RX0, "rowIn", "(I)Ljava/lang/Object;"⟩
def dkwX0_rowIn_1 : List UInt8 := [183, 0, 101, 191, 44, 199, 0, 13, 187, 0, 99, 89, 16, 252, 183, 0, 101, 191, 44, 176]
abbrev dktX0_rowIn_1 : List UInt8 := dkwX0_rowIn_1 ++ []
def dkwX0_rowIn_0 : List UInt8 := [42, 180, 0, 45, 27, 50, 180, 0, 93, 77, 44, 193, 0, 1, 153, 0, 13, 187, 0, 99, 89, 16, 253]
abbrev dktX0_rowIn_0 : List UInt8 := dkwX0_rowIn_0 ++ dktX0_rowIn_1
theorem dksX0_rowIn_0 : cX0_rowIn.data.toList.drop 0 = dktX0_rowIn_0 := by decide +kernel
theorem dksX0_rowIn_1 : cX0_rowIn.data.toList.drop 23 = dktX0_rowIn_1 := dk_seg dksX0_rowIn_0 23 rfl rfl
theorem dX0_rowIn_0 : decode cX0_rowIn 0 = .ok (.aload_n 0, 1) := dk_42 (dk_at dksX0_rowIn_0 0 rfl rfl)
theorem dX0_rowIn_1 : decode cX0_rowIn 1 = .ok (.getfield 45, 3) := dk_180 0 45 (dk_at dksX0_rowIn_0 1 rfl rfl)
theorem dX0_rowIn_4 : decode cX0_rowIn 4 = .ok (.iload_n 1, 1) := dk_27 (dk_at dksX0_rowIn_0 4 rfl rfl)
theorem dX0_rowIn_5 : decode cX0_rowIn 5 = .ok (.aaload, 1) := dk_50 (dk_at dksX0_rowIn_0 5 rfl rfl)
theorem dX0_rowIn_6 : decode cX0_rowIn 6 = .ok (.getfield 93, 3) := dk_180 0 93 (dk_at dksX0_rowIn_0 6 rfl rfl)
theorem dX0_rowIn_9 : decode cX0_rowIn 9 = .ok (.astore_n 2, 1) := dk_77 (dk_at dksX0_rowIn_0 9 rfl rfl)
theorem dX0_rowIn_10 : decode cX0_rowIn 10 = .ok (.aload_n 2, 1) := dk_44 (dk_at dksX0_rowIn_0 10 rfl rfl)
theorem dX0_rowIn_11 : decode cX0_rowIn 11 = .ok (.instanceof 1, 3) := dk_193 0 1 (dk_at dksX0_rowIn_0 11 rfl rfl)
theorem dX0_rowIn_14 : decode cX0_rowIn 14 = .ok (.ifCond .eq 13, 3) := dk_153 0 13 (dk_at dksX0_rowIn_0 14 rfl rfl)
theorem dX0_rowIn_17 : decode cX0_rowIn 17 = .ok (.new 99, 3) := dk_187 0 99 (dk_at dksX0_rowIn_0 17 rfl rfl)
theorem dX0_rowIn_20 : decode cX0_rowIn 20 = .ok (.dup, 1) := dk_89 (dk_at dksX0_rowIn_0 20 rfl rfl)
theorem dX0_rowIn_21 : decode cX0_rowIn 21 = .ok (.bipush (-3), 2) := dk_16 253 (dk_at dksX0_rowIn_0 21 rfl rfl)
theorem dX0_rowIn_23 : decode cX0_rowIn 23 = .ok (.invokespecial 101, 3) := dk_183 0 101 (dk_at dksX0_rowIn_1 0 rfl rfl)
theorem dX0_rowIn_26 : decode cX0_rowIn 26 = .ok (.athrow, 1) := dk_191 (dk_at dksX0_rowIn_1 3 rfl rfl)
theorem dX0_rowIn_27 : decode cX0_rowIn 27 = .ok (.aload_n 2, 1) := dk_44 (dk_at dksX0_rowIn_1 4 rfl rfl)
theorem dX0_rowIn_28 : decode cX0_rowIn 28 = .ok (.ifnonnull 13, 3) := dk_199 0 13 (dk_at dksX0_rowIn_1 5 rfl rfl)
theorem dX0_rowIn_31 : decode cX0_rowIn 31 = .ok (.new 99, 3) := dk_187 0 99 (dk_at dksX0_rowIn_1 8 rfl rfl)
theorem dX0_rowIn_34 : decode cX0_rowIn 34 = .ok (.dup, 1) := dk_89 (dk_at dksX0_rowIn_1 11 rfl rfl)
theorem dX0_rowIn_35 : decode cX0_rowIn 35 = .ok (.bipush (-4), 2) := dk_16 252 (dk_at dksX0_rowIn_1 12 rfl rfl)
theorem dX0_rowIn_37 : decode cX0_rowIn 37 = .ok (.invokespecial 101, 3) := dk_183 0 101 (dk_at dksX0_rowIn_1 14 rfl rfl)
theorem dX0_rowIn_40 : decode cX0_rowIn 40 = .ok (.athrow, 1) := dk_191 (dk_at dksX0_rowIn_1 17 rfl rfl)
theorem dX0_rowIn_41 : decode cX0_rowIn 41 = .ok (.aload_n 2, 1) := dk_44 (dk_at dksX0_rowIn_1 18 rfl rfl)
theorem dX0_rowIn_42 : decode cX0_rowIn 42 = .ok (.areturn, 1) := dk_176 (dk_at dksX0_rowIn_1 19 rfl rfl)
abbrev cX0_puts : ByteArray := prog_1_method_13_code
def yX0_puts : MethodName := ⟨RX0, "puts", "(Ljava/lang/Object;IJ)V"⟩
def dkwX0_puts_4 : List UInt8 := [192, 0, 79, 27, 32, 9, 148, 153, 0, 7, 4, 167, 0, 4, 3, 84, 177]
abbrev dktX0_puts_4 : List UInt8 := dkwX0_puts_4 ++ []
def dkwX0_puts_3 : List UInt8 := [42, 192, 0, 72, 27, 32, 136, 79, 167, 0, 30, 42, 192, 0, 73, 27, 32, 80, 167, 0, 20, 42]
abbrev dktX0_puts_3 : List UInt8 := dkwX0_puts_3 ++ dktX0_puts_4
def dkwX0_puts_2 : List UInt8 := [42, 192, 0, 68, 27, 32, 136, 145, 84, 167, 0, 53, 42, 192, 0, 70, 27, 32, 136, 147, 86, 167, 0, 41]
abbrev dktX0_puts_2 : List UInt8 := dkwX0_puts_2 ++ dktX0_puts_3
def dkwX0_puts_1 : List UInt8 := [170, 0, 0, 0, 0, 0, 0, 77, 0, 0, 0, 0, 0, 0, 0, 3, 0, 0, 0, 32, 0, 0, 0, 44, 0, 0, 0, 56, 0, 0, 0, 67]
abbrev dktX0_puts_1 : List UInt8 := dkwX0_puts_1 ++ dktX0_puts_2
def dkwX0_puts_0 : List UInt8 := [42, 184, 0, 75]
abbrev dktX0_puts_0 : List UInt8 := dkwX0_puts_0 ++ dktX0_puts_1
theorem dksX0_puts_0 : cX0_puts.data.toList.drop 0 = dktX0_puts_0 := by decide +kernel
theorem dksX0_puts_1 : cX0_puts.data.toList.drop 4 = dktX0_puts_1 := dk_seg dksX0_puts_0 4 rfl rfl
theorem dksX0_puts_2 : cX0_puts.data.toList.drop 36 = dktX0_puts_2 := dk_seg dksX0_puts_1 32 rfl rfl
theorem dksX0_puts_3 : cX0_puts.data.toList.drop 60 = dktX0_puts_3 := dk_seg dksX0_puts_2 24 rfl rfl
theorem dksX0_puts_4 : cX0_puts.data.toList.drop 82 = dktX0_puts_4 := dk_seg dksX0_puts_3 22 rfl rfl
theorem dX0_puts_0 : decode cX0_puts 0 = .ok (.aload_n 0, 1) := dk_42 (dk_at dksX0_puts_0 0 rfl rfl)
theorem dX0_puts_1 : decode cX0_puts 1 = .ok (.invokestatic 75, 3) := dk_184 0 75 (dk_at dksX0_puts_0 1 rfl rfl)
theorem dX0_puts_4 : decode cX0_puts 4 = .ok (.tableswitch 77 0 3 #[32, 44, 56, 67], 32) := by decide +kernel
theorem dX0_puts_36 : decode cX0_puts 36 = .ok (.aload_n 0, 1) := dk_42 (dk_at dksX0_puts_2 0 rfl rfl)
theorem dX0_puts_37 : decode cX0_puts 37 = .ok (.checkcast 68, 3) := dk_192 0 68 (dk_at dksX0_puts_2 1 rfl rfl)
theorem dX0_puts_40 : decode cX0_puts 40 = .ok (.iload_n 1, 1) := dk_27 (dk_at dksX0_puts_2 4 rfl rfl)
theorem dX0_puts_41 : decode cX0_puts 41 = .ok (.lload_n 2, 1) := dk_32 (dk_at dksX0_puts_2 5 rfl rfl)
theorem dX0_puts_42 : decode cX0_puts 42 = .ok (.l2i, 1) := dk_136 (dk_at dksX0_puts_2 6 rfl rfl)
theorem dX0_puts_43 : decode cX0_puts 43 = .ok (.i2b, 1) := dk_145 (dk_at dksX0_puts_2 7 rfl rfl)
theorem dX0_puts_44 : decode cX0_puts 44 = .ok (.bastore, 1) := dk_84 (dk_at dksX0_puts_2 8 rfl rfl)
theorem dX0_puts_45 : decode cX0_puts 45 = .ok (.goto 53, 3) := dk_167 0 53 (dk_at dksX0_puts_2 9 rfl rfl)
theorem dX0_puts_48 : decode cX0_puts 48 = .ok (.aload_n 0, 1) := dk_42 (dk_at dksX0_puts_2 12 rfl rfl)
theorem dX0_puts_49 : decode cX0_puts 49 = .ok (.checkcast 70, 3) := dk_192 0 70 (dk_at dksX0_puts_2 13 rfl rfl)
theorem dX0_puts_52 : decode cX0_puts 52 = .ok (.iload_n 1, 1) := dk_27 (dk_at dksX0_puts_2 16 rfl rfl)
theorem dX0_puts_53 : decode cX0_puts 53 = .ok (.lload_n 2, 1) := dk_32 (dk_at dksX0_puts_2 17 rfl rfl)
theorem dX0_puts_54 : decode cX0_puts 54 = .ok (.l2i, 1) := dk_136 (dk_at dksX0_puts_2 18 rfl rfl)
theorem dX0_puts_55 : decode cX0_puts 55 = .ok (.i2s, 1) := dk_147 (dk_at dksX0_puts_2 19 rfl rfl)
theorem dX0_puts_56 : decode cX0_puts 56 = .ok (.sastore, 1) := dk_86 (dk_at dksX0_puts_2 20 rfl rfl)
theorem dX0_puts_57 : decode cX0_puts 57 = .ok (.goto 41, 3) := dk_167 0 41 (dk_at dksX0_puts_2 21 rfl rfl)
theorem dX0_puts_60 : decode cX0_puts 60 = .ok (.aload_n 0, 1) := dk_42 (dk_at dksX0_puts_3 0 rfl rfl)
theorem dX0_puts_61 : decode cX0_puts 61 = .ok (.checkcast 72, 3) := dk_192 0 72 (dk_at dksX0_puts_3 1 rfl rfl)
theorem dX0_puts_64 : decode cX0_puts 64 = .ok (.iload_n 1, 1) := dk_27 (dk_at dksX0_puts_3 4 rfl rfl)
theorem dX0_puts_65 : decode cX0_puts 65 = .ok (.lload_n 2, 1) := dk_32 (dk_at dksX0_puts_3 5 rfl rfl)
theorem dX0_puts_66 : decode cX0_puts 66 = .ok (.l2i, 1) := dk_136 (dk_at dksX0_puts_3 6 rfl rfl)
theorem dX0_puts_67 : decode cX0_puts 67 = .ok (.iastore, 1) := dk_79 (dk_at dksX0_puts_3 7 rfl rfl)
theorem dX0_puts_68 : decode cX0_puts 68 = .ok (.goto 30, 3) := dk_167 0 30 (dk_at dksX0_puts_3 8 rfl rfl)
theorem dX0_puts_71 : decode cX0_puts 71 = .ok (.aload_n 0, 1) := dk_42 (dk_at dksX0_puts_3 11 rfl rfl)
theorem dX0_puts_72 : decode cX0_puts 72 = .ok (.checkcast 73, 3) := dk_192 0 73 (dk_at dksX0_puts_3 12 rfl rfl)
theorem dX0_puts_75 : decode cX0_puts 75 = .ok (.iload_n 1, 1) := dk_27 (dk_at dksX0_puts_3 15 rfl rfl)
theorem dX0_puts_76 : decode cX0_puts 76 = .ok (.lload_n 2, 1) := dk_32 (dk_at dksX0_puts_3 16 rfl rfl)
theorem dX0_puts_77 : decode cX0_puts 77 = .ok (.lastore, 1) := dk_80 (dk_at dksX0_puts_3 17 rfl rfl)
theorem dX0_puts_78 : decode cX0_puts 78 = .ok (.goto 20, 3) := dk_167 0 20 (dk_at dksX0_puts_3 18 rfl rfl)
theorem dX0_puts_81 : decode cX0_puts 81 = .ok (.aload_n 0, 1) := dk_42 (dk_at dksX0_puts_3 21 rfl rfl)
theorem dX0_puts_82 : decode cX0_puts 82 = .ok (.checkcast 79, 3) := dk_192 0 79 (dk_at dksX0_puts_4 0 rfl rfl)
theorem dX0_puts_85 : decode cX0_puts 85 = .ok (.iload_n 1, 1) := dk_27 (dk_at dksX0_puts_4 3 rfl rfl)
theorem dX0_puts_86 : decode cX0_puts 86 = .ok (.lload_n 2, 1) := dk_32 (dk_at dksX0_puts_4 4 rfl rfl)
theorem dX0_puts_87 : decode cX0_puts 87 = .ok (.lconst 0, 1) := dk_9 (dk_at dksX0_puts_4 5 rfl rfl)
theorem dX0_puts_88 : decode cX0_puts 88 = .ok (.lcmp, 1) := dk_148 (dk_at dksX0_puts_4 6 rfl rfl)
theorem dX0_puts_89 : decode cX0_puts 89 = .ok (.ifCond .eq 7, 3) := dk_153 0 7 (dk_at dksX0_puts_4 7 rfl rfl)
theorem dX0_puts_92 : decode cX0_puts 92 = .ok (.iconst 1, 1) := dk_4 (dk_at dksX0_puts_4 10 rfl rfl)
theorem dX0_puts_93 : decode cX0_puts 93 = .ok (.goto 4, 3) := dk_167 0 4 (dk_at dksX0_puts_4 11 rfl rfl)
theorem dX0_puts_96 : decode cX0_puts 96 = .ok (.iconst 0, 1) := dk_3 (dk_at dksX0_puts_4 14 rfl rfl)
theorem dX0_puts_97 : decode cX0_puts 97 = .ok (.bastore, 1) := dk_84 (dk_at dksX0_puts_4 15 rfl rfl)
theorem dX0_puts_98 : decode cX0_puts 98 = .ok (.return_, 1) := dk_177 (dk_at dksX0_puts_4 16 rfl rfl)
abbrev cX0_sortOf : ByteArray := prog_1_method_11_code
def yX0_sortOf : MethodName := ⟨RX0, "sortOf", "(Ljava/lang/Object;)I"⟩
def dkwX0_sortOf_1 : List UInt8 := [153, 0, 5, 5, 172, 42, 193, 0, 73, 153, 0, 7, 6, 167, 0, 4, 7, 172]
abbrev dktX0_sortOf_1 : List UInt8 := dkwX0_sortOf_1 ++ []
def dkwX0_sortOf_0 : List UInt8 := [42, 193, 0, 68, 153, 0, 5, 3, 172, 42, 193, 0, 70, 153, 0, 5, 4, 172, 42, 193, 0, 72]
abbrev dktX0_sortOf_0 : List UInt8 := dkwX0_sortOf_0 ++ dktX0_sortOf_1
theorem dksX0_sortOf_0 : cX0_sortOf.data.toList.drop 0 = dktX0_sortOf_0 := by decide +kernel
theorem dksX0_sortOf_1 : cX0_sortOf.data.toList.drop 22 = dktX0_sortOf_1 := dk_seg dksX0_sortOf_0 22 rfl rfl
theorem dX0_sortOf_0 : decode cX0_sortOf 0 = .ok (.aload_n 0, 1) := dk_42 (dk_at dksX0_sortOf_0 0 rfl rfl)
theorem dX0_sortOf_1 : decode cX0_sortOf 1 = .ok (.instanceof 68, 3) := dk_193 0 68 (dk_at dksX0_sortOf_0 1 rfl rfl)
theorem dX0_sortOf_4 : decode cX0_sortOf 4 = .ok (.ifCond .eq 5, 3) := dk_153 0 5 (dk_at dksX0_sortOf_0 4 rfl rfl)
theorem dX0_sortOf_7 : decode cX0_sortOf 7 = .ok (.iconst 0, 1) := dk_3 (dk_at dksX0_sortOf_0 7 rfl rfl)
theorem dX0_sortOf_8 : decode cX0_sortOf 8 = .ok (.ireturn, 1) := dk_172 (dk_at dksX0_sortOf_0 8 rfl rfl)
theorem dX0_sortOf_9 : decode cX0_sortOf 9 = .ok (.aload_n 0, 1) := dk_42 (dk_at dksX0_sortOf_0 9 rfl rfl)
theorem dX0_sortOf_10 : decode cX0_sortOf 10 = .ok (.instanceof 70, 3) := dk_193 0 70 (dk_at dksX0_sortOf_0 10 rfl rfl)
theorem dX0_sortOf_13 : decode cX0_sortOf 13 = .ok (.ifCond .eq 5, 3) := dk_153 0 5 (dk_at dksX0_sortOf_0 13 rfl rfl)
theorem dX0_sortOf_16 : decode cX0_sortOf 16 = .ok (.iconst 1, 1) := dk_4 (dk_at dksX0_sortOf_0 16 rfl rfl)
theorem dX0_sortOf_17 : decode cX0_sortOf 17 = .ok (.ireturn, 1) := dk_172 (dk_at dksX0_sortOf_0 17 rfl rfl)
theorem dX0_sortOf_18 : decode cX0_sortOf 18 = .ok (.aload_n 0, 1) := dk_42 (dk_at dksX0_sortOf_0 18 rfl rfl)
theorem dX0_sortOf_19 : decode cX0_sortOf 19 = .ok (.instanceof 72, 3) := dk_193 0 72 (dk_at dksX0_sortOf_0 19 rfl rfl)
theorem dX0_sortOf_22 : decode cX0_sortOf 22 = .ok (.ifCond .eq 5, 3) := dk_153 0 5 (dk_at dksX0_sortOf_1 0 rfl rfl)
theorem dX0_sortOf_25 : decode cX0_sortOf 25 = .ok (.iconst 2, 1) := dk_5 (dk_at dksX0_sortOf_1 3 rfl rfl)
theorem dX0_sortOf_26 : decode cX0_sortOf 26 = .ok (.ireturn, 1) := dk_172 (dk_at dksX0_sortOf_1 4 rfl rfl)
theorem dX0_sortOf_27 : decode cX0_sortOf 27 = .ok (.aload_n 0, 1) := dk_42 (dk_at dksX0_sortOf_1 5 rfl rfl)
theorem dX0_sortOf_28 : decode cX0_sortOf 28 = .ok (.instanceof 73, 3) := dk_193 0 73 (dk_at dksX0_sortOf_1 6 rfl rfl)
theorem dX0_sortOf_31 : decode cX0_sortOf 31 = .ok (.ifCond .eq 7, 3) := dk_153 0 7 (dk_at dksX0_sortOf_1 9 rfl rfl)
theorem dX0_sortOf_34 : decode cX0_sortOf 34 = .ok (.iconst 3, 1) := dk_6 (dk_at dksX0_sortOf_1 12 rfl rfl)
theorem dX0_sortOf_35 : decode cX0_sortOf 35 = .ok (.goto 4, 3) := dk_167 0 4 (dk_at dksX0_sortOf_1 13 rfl rfl)
theorem dX0_sortOf_38 : decode cX0_sortOf 38 = .ok (.iconst 4, 1) := dk_7 (dk_at dksX0_sortOf_1 16 rfl rfl)
theorem dX0_sortOf_39 : decode cX0_sortOf 39 = .ok (.ireturn, 1) := dk_172 (dk_at dksX0_sortOf_1 17 rfl rfl)
abbrev cX0_copy : ByteArray := prog_1_method_17_code
def yX0_copy : MethodName := ⟨RX0, "copy", "(IIIII)I"⟩
def dkwX0_copy_4 : List UInt8 := [16, 253, 182, 0, 85, 172, 58, 8, 42, 16, 254, 182, 0, 85, 172]
abbrev dktX0_copy_4 : List UInt8 := dkwX0_copy_4 ++ []
def dkwX0_copy_3 : List UInt8 := [25, 7, 21, 4, 21, 5, 184, 0, 117, 21, 5, 172, 58, 8, 42, 16, 252, 182, 0, 85, 172, 58, 8, 42]
abbrev dktX0_copy_3 : List UInt8 := dkwX0_copy_3 ++ dktX0_copy_4
def dkwX0_copy_2 : List UInt8 := [193, 0, 1, 154, 0, 11, 25, 7, 193, 0, 1, 153, 0, 10, 42, 16, 253, 182, 0, 85, 172, 25, 6, 29]
abbrev dktX0_copy_2 : List UInt8 := dkwX0_copy_2 ++ dktX0_copy_3
def dkwX0_copy_1 : List UInt8 := [180, 0, 45, 27, 50, 180, 0, 93, 58, 6, 42, 180, 0, 45, 28, 50, 180, 0, 93, 58, 7, 25, 6]
abbrev dktX0_copy_1 : List UInt8 := dkwX0_copy_1 ++ dktX0_copy_2
def dkwX0_copy_0 : List UInt8 := [27, 184, 0, 81, 153, 0, 10, 28, 184, 0, 81, 154, 0, 10, 42, 16, 254, 182, 0, 85, 172, 42]
abbrev dktX0_copy_0 : List UInt8 := dkwX0_copy_0 ++ dktX0_copy_1
theorem dksX0_copy_0 : cX0_copy.data.toList.drop 0 = dktX0_copy_0 := by decide +kernel
theorem dksX0_copy_1 : cX0_copy.data.toList.drop 22 = dktX0_copy_1 := dk_seg dksX0_copy_0 22 rfl rfl
theorem dksX0_copy_2 : cX0_copy.data.toList.drop 45 = dktX0_copy_2 := dk_seg dksX0_copy_1 23 rfl rfl
theorem dksX0_copy_3 : cX0_copy.data.toList.drop 69 = dktX0_copy_3 := dk_seg dksX0_copy_2 24 rfl rfl
theorem dksX0_copy_4 : cX0_copy.data.toList.drop 93 = dktX0_copy_4 := dk_seg dksX0_copy_3 24 rfl rfl
theorem dX0_copy_0 : decode cX0_copy 0 = .ok (.iload_n 1, 1) := dk_27 (dk_at dksX0_copy_0 0 rfl rfl)
theorem dX0_copy_1 : decode cX0_copy 1 = .ok (.invokestatic 81, 3) := dk_184 0 81 (dk_at dksX0_copy_0 1 rfl rfl)
theorem dX0_copy_4 : decode cX0_copy 4 = .ok (.ifCond .eq 10, 3) := dk_153 0 10 (dk_at dksX0_copy_0 4 rfl rfl)
theorem dX0_copy_7 : decode cX0_copy 7 = .ok (.iload_n 2, 1) := dk_28 (dk_at dksX0_copy_0 7 rfl rfl)
theorem dX0_copy_8 : decode cX0_copy 8 = .ok (.invokestatic 81, 3) := dk_184 0 81 (dk_at dksX0_copy_0 8 rfl rfl)
theorem dX0_copy_11 : decode cX0_copy 11 = .ok (.ifCond .ne 10, 3) := dk_154 0 10 (dk_at dksX0_copy_0 11 rfl rfl)
theorem dX0_copy_14 : decode cX0_copy 14 = .ok (.aload_n 0, 1) := dk_42 (dk_at dksX0_copy_0 14 rfl rfl)
theorem dX0_copy_15 : decode cX0_copy 15 = .ok (.bipush (-2), 2) := dk_16 254 (dk_at dksX0_copy_0 15 rfl rfl)
theorem dX0_copy_17 : decode cX0_copy 17 = .ok (.invokevirtual 85, 3) := dk_182 0 85 (dk_at dksX0_copy_0 17 rfl rfl)
theorem dX0_copy_20 : decode cX0_copy 20 = .ok (.ireturn, 1) := dk_172 (dk_at dksX0_copy_0 20 rfl rfl)
theorem dX0_copy_21 : decode cX0_copy 21 = .ok (.aload_n 0, 1) := dk_42 (dk_at dksX0_copy_0 21 rfl rfl)
theorem dX0_copy_22 : decode cX0_copy 22 = .ok (.getfield 45, 3) := dk_180 0 45 (dk_at dksX0_copy_1 0 rfl rfl)
theorem dX0_copy_25 : decode cX0_copy 25 = .ok (.iload_n 1, 1) := dk_27 (dk_at dksX0_copy_1 3 rfl rfl)
theorem dX0_copy_26 : decode cX0_copy 26 = .ok (.aaload, 1) := dk_50 (dk_at dksX0_copy_1 4 rfl rfl)
theorem dX0_copy_27 : decode cX0_copy 27 = .ok (.getfield 93, 3) := dk_180 0 93 (dk_at dksX0_copy_1 5 rfl rfl)
theorem dX0_copy_30 : decode cX0_copy 30 = .ok (.astore 6, 2) := dk_58 6 (dk_at dksX0_copy_1 8 rfl rfl)
theorem dX0_copy_32 : decode cX0_copy 32 = .ok (.aload_n 0, 1) := dk_42 (dk_at dksX0_copy_1 10 rfl rfl)
theorem dX0_copy_33 : decode cX0_copy 33 = .ok (.getfield 45, 3) := dk_180 0 45 (dk_at dksX0_copy_1 11 rfl rfl)
theorem dX0_copy_36 : decode cX0_copy 36 = .ok (.iload_n 2, 1) := dk_28 (dk_at dksX0_copy_1 14 rfl rfl)
theorem dX0_copy_37 : decode cX0_copy 37 = .ok (.aaload, 1) := dk_50 (dk_at dksX0_copy_1 15 rfl rfl)
theorem dX0_copy_38 : decode cX0_copy 38 = .ok (.getfield 93, 3) := dk_180 0 93 (dk_at dksX0_copy_1 16 rfl rfl)
theorem dX0_copy_41 : decode cX0_copy 41 = .ok (.astore 7, 2) := dk_58 7 (dk_at dksX0_copy_1 19 rfl rfl)
theorem dX0_copy_43 : decode cX0_copy 43 = .ok (.aload 6, 2) := dk_25 6 (dk_at dksX0_copy_1 21 rfl rfl)
theorem dX0_copy_45 : decode cX0_copy 45 = .ok (.instanceof 1, 3) := dk_193 0 1 (dk_at dksX0_copy_2 0 rfl rfl)
theorem dX0_copy_48 : decode cX0_copy 48 = .ok (.ifCond .ne 11, 3) := dk_154 0 11 (dk_at dksX0_copy_2 3 rfl rfl)
theorem dX0_copy_51 : decode cX0_copy 51 = .ok (.aload 7, 2) := dk_25 7 (dk_at dksX0_copy_2 6 rfl rfl)
theorem dX0_copy_53 : decode cX0_copy 53 = .ok (.instanceof 1, 3) := dk_193 0 1 (dk_at dksX0_copy_2 8 rfl rfl)
theorem dX0_copy_56 : decode cX0_copy 56 = .ok (.ifCond .eq 10, 3) := dk_153 0 10 (dk_at dksX0_copy_2 11 rfl rfl)
theorem dX0_copy_59 : decode cX0_copy 59 = .ok (.aload_n 0, 1) := dk_42 (dk_at dksX0_copy_2 14 rfl rfl)
theorem dX0_copy_60 : decode cX0_copy 60 = .ok (.bipush (-3), 2) := dk_16 253 (dk_at dksX0_copy_2 15 rfl rfl)
theorem dX0_copy_62 : decode cX0_copy 62 = .ok (.invokevirtual 85, 3) := dk_182 0 85 (dk_at dksX0_copy_2 17 rfl rfl)
theorem dX0_copy_65 : decode cX0_copy 65 = .ok (.ireturn, 1) := dk_172 (dk_at dksX0_copy_2 20 rfl rfl)
theorem dX0_copy_66 : decode cX0_copy 66 = .ok (.aload 6, 2) := dk_25 6 (dk_at dksX0_copy_2 21 rfl rfl)
theorem dX0_copy_68 : decode cX0_copy 68 = .ok (.iload_n 3, 1) := dk_29 (dk_at dksX0_copy_2 23 rfl rfl)
theorem dX0_copy_69 : decode cX0_copy 69 = .ok (.aload 7, 2) := dk_25 7 (dk_at dksX0_copy_3 0 rfl rfl)
theorem dX0_copy_71 : decode cX0_copy 71 = .ok (.iload 4, 2) := dk_21 4 (dk_at dksX0_copy_3 2 rfl rfl)
theorem dX0_copy_73 : decode cX0_copy 73 = .ok (.iload 5, 2) := dk_21 5 (dk_at dksX0_copy_3 4 rfl rfl)
theorem dX0_copy_75 : decode cX0_copy 75 = .ok (.invokestatic 117, 3) := dk_184 0 117 (dk_at dksX0_copy_3 6 rfl rfl)
theorem dX0_copy_78 : decode cX0_copy 78 = .ok (.iload 5, 2) := dk_21 5 (dk_at dksX0_copy_3 9 rfl rfl)
theorem dX0_copy_80 : decode cX0_copy 80 = .ok (.ireturn, 1) := dk_172 (dk_at dksX0_copy_3 11 rfl rfl)
theorem dX0_copy_81 : decode cX0_copy 81 = .ok (.astore 8, 2) := dk_58 8 (dk_at dksX0_copy_3 12 rfl rfl)
theorem dX0_copy_83 : decode cX0_copy 83 = .ok (.aload_n 0, 1) := dk_42 (dk_at dksX0_copy_3 14 rfl rfl)
theorem dX0_copy_84 : decode cX0_copy 84 = .ok (.bipush (-4), 2) := dk_16 252 (dk_at dksX0_copy_3 15 rfl rfl)
theorem dX0_copy_86 : decode cX0_copy 86 = .ok (.invokevirtual 85, 3) := dk_182 0 85 (dk_at dksX0_copy_3 17 rfl rfl)
theorem dX0_copy_89 : decode cX0_copy 89 = .ok (.ireturn, 1) := dk_172 (dk_at dksX0_copy_3 20 rfl rfl)
theorem dX0_copy_90 : decode cX0_copy 90 = .ok (.astore 8, 2) := dk_58 8 (dk_at dksX0_copy_3 21 rfl rfl)
theorem dX0_copy_92 : decode cX0_copy 92 = .ok (.aload_n 0, 1) := dk_42 (dk_at dksX0_copy_3 23 rfl rfl)
theorem dX0_copy_93 : decode cX0_copy 93 = .ok (.bipush (-3), 2) := dk_16 253 (dk_at dksX0_copy_4 0 rfl rfl)
theorem dX0_copy_95 : decode cX0_copy 95 = .ok (.invokevirtual 85, 3) := dk_182 0 85 (dk_at dksX0_copy_4 2 rfl rfl)
theorem dX0_copy_98 : decode cX0_copy 98 = .ok (.ireturn, 1) := dk_172 (dk_at dksX0_copy_4 5 rfl rfl)
theorem dX0_copy_99 : decode cX0_copy 99 = .ok (.astore 8, 2) := dk_58 8 (dk_at dksX0_copy_4 6 rfl rfl)
theorem dX0_copy_101 : decode cX0_copy 101 = .ok (.aload_n 0, 1) := dk_42 (dk_at dksX0_copy_4 8 rfl rfl)
theorem dX0_copy_102 : decode cX0_copy 102 = .ok (.bipush (-2), 2) := dk_16 254 (dk_at dksX0_copy_4 9 rfl rfl)
theorem dX0_copy_104 : decode cX0_copy 104 = .ok (.invokevirtual 85, 3) := dk_182 0 85 (dk_at dksX0_copy_4 11 rfl rfl)
theorem dX0_copy_107 : decode cX0_copy 107 = .ok (.ireturn, 1) := dk_172 (dk_at dksX0_copy_4 14 rfl rfl)
abbrev cX0_element : ByteArray := prog_1_method_18_code
def yX0_element : MethodName := ⟨RX0, "element", "(II)J"⟩
def dkwX0_element_1 : List UInt8 := [173]
abbrev dktX0_element_1 : List UInt8 := dkwX0_element_1 ++ []
def dkwX0_element_0 : List UInt8 := [27, 184, 0, 81, 154, 0, 5, 9, 173, 42, 27, 182, 0, 104, 28, 184, 0, 129, 173, 78, 9, 173, 78, 9]
abbrev dktX0_element_0 : List UInt8 := dkwX0_element_0 ++ dktX0_element_1
theorem dksX0_element_0 : cX0_element.data.toList.drop 0 = dktX0_element_0 := by decide +kernel
theorem dksX0_element_1 : cX0_element.data.toList.drop 24 = dktX0_element_1 := dk_seg dksX0_element_0 24 rfl rfl
theorem dX0_element_0 : decode cX0_element 0 = .ok (.iload_n 1, 1) := dk_27 (dk_at dksX0_element_0 0 rfl rfl)
theorem dX0_element_1 : decode cX0_element 1 = .ok (.invokestatic 81, 3) := dk_184 0 81 (dk_at dksX0_element_0 1 rfl rfl)
theorem dX0_element_4 : decode cX0_element 4 = .ok (.ifCond .ne 5, 3) := dk_154 0 5 (dk_at dksX0_element_0 4 rfl rfl)
theorem dX0_element_7 : decode cX0_element 7 = .ok (.lconst 0, 1) := dk_9 (dk_at dksX0_element_0 7 rfl rfl)
theorem dX0_element_8 : decode cX0_element 8 = .ok (.lreturn, 1) := dk_173 (dk_at dksX0_element_0 8 rfl rfl)
theorem dX0_element_9 : decode cX0_element 9 = .ok (.aload_n 0, 1) := dk_42 (dk_at dksX0_element_0 9 rfl rfl)
theorem dX0_element_10 : decode cX0_element 10 = .ok (.iload_n 1, 1) := dk_27 (dk_at dksX0_element_0 10 rfl rfl)
theorem dX0_element_11 : decode cX0_element 11 = .ok (.invokevirtual 104, 3) := dk_182 0 104 (dk_at dksX0_element_0 11 rfl rfl)
theorem dX0_element_14 : decode cX0_element 14 = .ok (.iload_n 2, 1) := dk_28 (dk_at dksX0_element_0 14 rfl rfl)
theorem dX0_element_15 : decode cX0_element 15 = .ok (.invokestatic 129, 3) := dk_184 0 129 (dk_at dksX0_element_0 15 rfl rfl)
theorem dX0_element_18 : decode cX0_element 18 = .ok (.lreturn, 1) := dk_173 (dk_at dksX0_element_0 18 rfl rfl)
theorem dX0_element_19 : decode cX0_element 19 = .ok (.astore_n 3, 1) := dk_78 (dk_at dksX0_element_0 19 rfl rfl)
theorem dX0_element_20 : decode cX0_element 20 = .ok (.lconst 0, 1) := dk_9 (dk_at dksX0_element_0 20 rfl rfl)
theorem dX0_element_21 : decode cX0_element 21 = .ok (.lreturn, 1) := dk_173 (dk_at dksX0_element_0 21 rfl rfl)
theorem dX0_element_22 : decode cX0_element 22 = .ok (.astore_n 3, 1) := dk_78 (dk_at dksX0_element_0 22 rfl rfl)
theorem dX0_element_23 : decode cX0_element 23 = .ok (.lconst 0, 1) := dk_9 (dk_at dksX0_element_0 23 rfl rfl)
theorem dX0_element_24 : decode cX0_element 24 = .ok (.lreturn, 1) := dk_173 (dk_at dksX0_element_1 0 rfl rfl)
abbrev cX0_elementOf : ByteArray := prog_1_method_12_code
def yX0_elementOf : MethodName := ⟨RX0, "elementOf", "(Ljava/lang/Object;I)J"⟩
def dkwX0_elementOf_3 : List UInt8 := [42, 192, 0, 73, 27, 47, 173, 42, 192, 0, 79, 27, 51, 153, 0, 7, 10, 167, 0, 4, 9, 173]
abbrev dktX0_elementOf_3 : List UInt8 := dkwX0_elementOf_3 ++ []
def dkwX0_elementOf_2 : List UInt8 := [42, 192, 0, 68, 27, 51, 133, 173, 42, 192, 0, 70, 27, 53, 133, 173, 42, 192, 0, 72, 27, 46, 133, 173]
abbrev dktX0_elementOf_2 : List UInt8 := dkwX0_elementOf_2 ++ dktX0_elementOf_3
def dkwX0_elementOf_1 : List UInt8 := [170, 0, 0, 0, 0, 0, 0, 63, 0, 0, 0, 0, 0, 0, 0, 3, 0, 0, 0, 32, 0, 0, 0, 40, 0, 0, 0, 48, 0, 0, 0, 56]
abbrev dktX0_elementOf_1 : List UInt8 := dkwX0_elementOf_1 ++ dktX0_elementOf_2
def dkwX0_elementOf_0 : List UInt8 := [42, 184, 0, 75]
abbrev dktX0_elementOf_0 : List UInt8 := dkwX0_elementOf_0 ++ dktX0_elementOf_1
theorem dksX0_elementOf_0 : cX0_elementOf.data.toList.drop 0 = dktX0_elementOf_0 := by decide +kernel
theorem dksX0_elementOf_1 : cX0_elementOf.data.toList.drop 4 = dktX0_elementOf_1 := dk_seg dksX0_elementOf_0 4 rfl rfl
theorem dksX0_elementOf_2 : cX0_elementOf.data.toList.drop 36 = dktX0_elementOf_2 := dk_seg dksX0_elementOf_1 32 rfl rfl
theorem dksX0_elementOf_3 : cX0_elementOf.data.toList.drop 60 = dktX0_elementOf_3 := dk_seg dksX0_elementOf_2 24 rfl rfl
theorem dX0_elementOf_0 : decode cX0_elementOf 0 = .ok (.aload_n 0, 1) := dk_42 (dk_at dksX0_elementOf_0 0 rfl rfl)
theorem dX0_elementOf_1 : decode cX0_elementOf 1 = .ok (.invokestatic 75, 3) := dk_184 0 75 (dk_at dksX0_elementOf_0 1 rfl rfl)
theorem dX0_elementOf_4 : decode cX0_elementOf 4 = .ok (.tableswitch 63 0 3 #[32, 40, 48, 56], 32) := by decide +kernel
theorem dX0_elementOf_36 : decode cX0_elementOf 36 = .ok (.aload_n 0, 1) := dk_42 (dk_at dksX0_elementOf_2 0 rfl rfl)
theorem dX0_elementOf_37 : decode cX0_elementOf 37 = .ok (.checkcast 68, 3) := dk_192 0 68 (dk_at dksX0_elementOf_2 1 rfl rfl)
theorem dX0_elementOf_40 : decode cX0_elementOf 40 = .ok (.iload_n 1, 1) := dk_27 (dk_at dksX0_elementOf_2 4 rfl rfl)
theorem dX0_elementOf_41 : decode cX0_elementOf 41 = .ok (.baload, 1) := dk_51 (dk_at dksX0_elementOf_2 5 rfl rfl)
theorem dX0_elementOf_42 : decode cX0_elementOf 42 = .ok (.i2l, 1) := dk_133 (dk_at dksX0_elementOf_2 6 rfl rfl)
theorem dX0_elementOf_43 : decode cX0_elementOf 43 = .ok (.lreturn, 1) := dk_173 (dk_at dksX0_elementOf_2 7 rfl rfl)
theorem dX0_elementOf_44 : decode cX0_elementOf 44 = .ok (.aload_n 0, 1) := dk_42 (dk_at dksX0_elementOf_2 8 rfl rfl)
theorem dX0_elementOf_45 : decode cX0_elementOf 45 = .ok (.checkcast 70, 3) := dk_192 0 70 (dk_at dksX0_elementOf_2 9 rfl rfl)
theorem dX0_elementOf_48 : decode cX0_elementOf 48 = .ok (.iload_n 1, 1) := dk_27 (dk_at dksX0_elementOf_2 12 rfl rfl)
theorem dX0_elementOf_49 : decode cX0_elementOf 49 = .ok (.saload, 1) := dk_53 (dk_at dksX0_elementOf_2 13 rfl rfl)
theorem dX0_elementOf_50 : decode cX0_elementOf 50 = .ok (.i2l, 1) := dk_133 (dk_at dksX0_elementOf_2 14 rfl rfl)
theorem dX0_elementOf_51 : decode cX0_elementOf 51 = .ok (.lreturn, 1) := dk_173 (dk_at dksX0_elementOf_2 15 rfl rfl)
theorem dX0_elementOf_52 : decode cX0_elementOf 52 = .ok (.aload_n 0, 1) := dk_42 (dk_at dksX0_elementOf_2 16 rfl rfl)
theorem dX0_elementOf_53 : decode cX0_elementOf 53 = .ok (.checkcast 72, 3) := dk_192 0 72 (dk_at dksX0_elementOf_2 17 rfl rfl)
theorem dX0_elementOf_56 : decode cX0_elementOf 56 = .ok (.iload_n 1, 1) := dk_27 (dk_at dksX0_elementOf_2 20 rfl rfl)
theorem dX0_elementOf_57 : decode cX0_elementOf 57 = .ok (.iaload, 1) := dk_46 (dk_at dksX0_elementOf_2 21 rfl rfl)
theorem dX0_elementOf_58 : decode cX0_elementOf 58 = .ok (.i2l, 1) := dk_133 (dk_at dksX0_elementOf_2 22 rfl rfl)
theorem dX0_elementOf_59 : decode cX0_elementOf 59 = .ok (.lreturn, 1) := dk_173 (dk_at dksX0_elementOf_2 23 rfl rfl)
theorem dX0_elementOf_60 : decode cX0_elementOf 60 = .ok (.aload_n 0, 1) := dk_42 (dk_at dksX0_elementOf_3 0 rfl rfl)
theorem dX0_elementOf_61 : decode cX0_elementOf 61 = .ok (.checkcast 73, 3) := dk_192 0 73 (dk_at dksX0_elementOf_3 1 rfl rfl)
theorem dX0_elementOf_64 : decode cX0_elementOf 64 = .ok (.iload_n 1, 1) := dk_27 (dk_at dksX0_elementOf_3 4 rfl rfl)
theorem dX0_elementOf_65 : decode cX0_elementOf 65 = .ok (.laload, 1) := dk_47 (dk_at dksX0_elementOf_3 5 rfl rfl)
theorem dX0_elementOf_66 : decode cX0_elementOf 66 = .ok (.lreturn, 1) := dk_173 (dk_at dksX0_elementOf_3 6 rfl rfl)
theorem dX0_elementOf_67 : decode cX0_elementOf 67 = .ok (.aload_n 0, 1) := dk_42 (dk_at dksX0_elementOf_3 7 rfl rfl)
theorem dX0_elementOf_68 : decode cX0_elementOf 68 = .ok (.checkcast 79, 3) := dk_192 0 79 (dk_at dksX0_elementOf_3 8 rfl rfl)
theorem dX0_elementOf_71 : decode cX0_elementOf 71 = .ok (.iload_n 1, 1) := dk_27 (dk_at dksX0_elementOf_3 11 rfl rfl)
theorem dX0_elementOf_72 : decode cX0_elementOf 72 = .ok (.baload, 1) := dk_51 (dk_at dksX0_elementOf_3 12 rfl rfl)
theorem dX0_elementOf_73 : decode cX0_elementOf 73 = .ok (.ifCond .eq 7, 3) := dk_153 0 7 (dk_at dksX0_elementOf_3 13 rfl rfl)
theorem dX0_elementOf_76 : decode cX0_elementOf 76 = .ok (.lconst 1, 1) := dk_10 (dk_at dksX0_elementOf_3 16 rfl rfl)
theorem dX0_elementOf_77 : decode cX0_elementOf 77 = .ok (.goto 4, 3) := dk_167 0 4 (dk_at dksX0_elementOf_3 17 rfl rfl)
theorem dX0_elementOf_80 : decode cX0_elementOf 80 = .ok (.lconst 0, 1) := dk_9 (dk_at dksX0_elementOf_3 20 rfl rfl)
theorem dX0_elementOf_81 : decode cX0_elementOf 81 = .ok (.lreturn, 1) := dk_173 (dk_at dksX0_elementOf_3 21 rfl rfl)
abbrev cX0_holds : ByteArray := prog_1_method_19_code
def yX0_holds : MethodName := ⟨RX0, "holds", "(I)I"⟩
def dkwX0_holds_2 : List UInt8 := [180, 0, 133, 96, 167, 0, 7, 44, 184, 0, 75, 172]
abbrev dktX0_holds_2 : List UInt8 := dkwX0_holds_2 ++ []
def dkwX0_holds_1 : List UInt8 := [180, 0, 45, 27, 50, 180, 0, 93, 77, 44, 193, 0, 1, 153, 0, 16, 16, 10, 44, 192, 0, 1]
abbrev dktX0_holds_1 : List UInt8 := dkwX0_holds_1 ++ dktX0_holds_2
def dkwX0_holds_0 : List UInt8 := [27, 184, 0, 81, 153, 0, 15, 42, 180, 0, 45, 27, 50, 180, 0, 93, 199, 0, 5, 2, 172, 42]
abbrev dktX0_holds_0 : List UInt8 := dkwX0_holds_0 ++ dktX0_holds_1
theorem dksX0_holds_0 : cX0_holds.data.toList.drop 0 = dktX0_holds_0 := by decide +kernel
theorem dksX0_holds_1 : cX0_holds.data.toList.drop 22 = dktX0_holds_1 := dk_seg dksX0_holds_0 22 rfl rfl
theorem dksX0_holds_2 : cX0_holds.data.toList.drop 44 = dktX0_holds_2 := dk_seg dksX0_holds_1 22 rfl rfl
theorem dX0_holds_0 : decode cX0_holds 0 = .ok (.iload_n 1, 1) := dk_27 (dk_at dksX0_holds_0 0 rfl rfl)
theorem dX0_holds_1 : decode cX0_holds 1 = .ok (.invokestatic 81, 3) := dk_184 0 81 (dk_at dksX0_holds_0 1 rfl rfl)
theorem dX0_holds_4 : decode cX0_holds 4 = .ok (.ifCond .eq 15, 3) := dk_153 0 15 (dk_at dksX0_holds_0 4 rfl rfl)
theorem dX0_holds_7 : decode cX0_holds 7 = .ok (.aload_n 0, 1) := dk_42 (dk_at dksX0_holds_0 7 rfl rfl)
theorem dX0_holds_8 : decode cX0_holds 8 = .ok (.getfield 45, 3) := dk_180 0 45 (dk_at dksX0_holds_0 8 rfl rfl)
theorem dX0_holds_11 : decode cX0_holds 11 = .ok (.iload_n 1, 1) := dk_27 (dk_at dksX0_holds_0 11 rfl rfl)
theorem dX0_holds_12 : decode cX0_holds 12 = .ok (.aaload, 1) := dk_50 (dk_at dksX0_holds_0 12 rfl rfl)
theorem dX0_holds_13 : decode cX0_holds 13 = .ok (.getfield 93, 3) := dk_180 0 93 (dk_at dksX0_holds_0 13 rfl rfl)
theorem dX0_holds_16 : decode cX0_holds 16 = .ok (.ifnonnull 5, 3) := dk_199 0 5 (dk_at dksX0_holds_0 16 rfl rfl)
theorem dX0_holds_19 : decode cX0_holds 19 = .ok (.iconst (-1), 1) := dk_2 (dk_at dksX0_holds_0 19 rfl rfl)
theorem dX0_holds_20 : decode cX0_holds 20 = .ok (.ireturn, 1) := dk_172 (dk_at dksX0_holds_0 20 rfl rfl)
theorem dX0_holds_21 : decode cX0_holds 21 = .ok (.aload_n 0, 1) := dk_42 (dk_at dksX0_holds_0 21 rfl rfl)
theorem dX0_holds_22 : decode cX0_holds 22 = .ok (.getfield 45, 3) := dk_180 0 45 (dk_at dksX0_holds_1 0 rfl rfl)
theorem dX0_holds_25 : decode cX0_holds 25 = .ok (.iload_n 1, 1) := dk_27 (dk_at dksX0_holds_1 3 rfl rfl)
theorem dX0_holds_26 : decode cX0_holds 26 = .ok (.aaload, 1) := dk_50 (dk_at dksX0_holds_1 4 rfl rfl)
theorem dX0_holds_27 : decode cX0_holds 27 = .ok (.getfield 93, 3) := dk_180 0 93 (dk_at dksX0_holds_1 5 rfl rfl)
theorem dX0_holds_30 : decode cX0_holds 30 = .ok (.astore_n 2, 1) := dk_77 (dk_at dksX0_holds_1 8 rfl rfl)
theorem dX0_holds_31 : decode cX0_holds 31 = .ok (.aload_n 2, 1) := dk_44 (dk_at dksX0_holds_1 9 rfl rfl)
theorem dX0_holds_32 : decode cX0_holds 32 = .ok (.instanceof 1, 3) := dk_193 0 1 (dk_at dksX0_holds_1 10 rfl rfl)
theorem dX0_holds_35 : decode cX0_holds 35 = .ok (.ifCond .eq 16, 3) := dk_153 0 16 (dk_at dksX0_holds_1 13 rfl rfl)
theorem dX0_holds_38 : decode cX0_holds 38 = .ok (.bipush 10, 2) := dk_16 10 (dk_at dksX0_holds_1 16 rfl rfl)
theorem dX0_holds_40 : decode cX0_holds 40 = .ok (.aload_n 2, 1) := dk_44 (dk_at dksX0_holds_1 18 rfl rfl)
theorem dX0_holds_41 : decode cX0_holds 41 = .ok (.checkcast 1, 3) := dk_192 0 1 (dk_at dksX0_holds_1 19 rfl rfl)
theorem dX0_holds_44 : decode cX0_holds 44 = .ok (.getfield 133, 3) := dk_180 0 133 (dk_at dksX0_holds_2 0 rfl rfl)
theorem dX0_holds_47 : decode cX0_holds 47 = .ok (.iadd, 1) := dk_96 (dk_at dksX0_holds_2 3 rfl rfl)
theorem dX0_holds_48 : decode cX0_holds 48 = .ok (.goto 7, 3) := dk_167 0 7 (dk_at dksX0_holds_2 4 rfl rfl)
theorem dX0_holds_51 : decode cX0_holds 51 = .ok (.aload_n 2, 1) := dk_44 (dk_at dksX0_holds_2 7 rfl rfl)
theorem dX0_holds_52 : decode cX0_holds 52 = .ok (.invokestatic 75, 3) := dk_184 0 75 (dk_at dksX0_holds_2 8 rfl rfl)
theorem dX0_holds_55 : decode cX0_holds 55 = .ok (.ireturn, 1) := dk_172 (dk_at dksX0_holds_2 11 rfl rfl)
abbrev cX0_show : ByteArray := prog_1_method_20_code
def yX0_show : MethodName := ⟨RX0, "show", "(II)I"⟩
def dkwX0_show_2 : List UInt8 := [180, 0, 139, 28, 50, 181, 0, 93, 4, 172]
abbrev dktX0_show_2 : List UInt8 := dkwX0_show_2 ++ []
def dkwX0_show_1 : List UInt8 := [182, 0, 85, 172, 42, 180, 0, 45, 27, 50, 28, 2, 160, 0, 7, 1, 167, 0, 12, 42, 180, 0, 30]
abbrev dktX0_show_1 : List UInt8 := dkwX0_show_1 ++ dktX0_show_2
def dkwX0_show_0 : List UInt8 := [27, 184, 0, 81, 153, 0, 16, 28, 2, 159, 0, 18, 42, 28, 182, 0, 136, 154, 0, 10, 42, 16, 254]
abbrev dktX0_show_0 : List UInt8 := dkwX0_show_0 ++ dktX0_show_1
theorem dksX0_show_0 : cX0_show.data.toList.drop 0 = dktX0_show_0 := by decide +kernel
theorem dksX0_show_1 : cX0_show.data.toList.drop 23 = dktX0_show_1 := dk_seg dksX0_show_0 23 rfl rfl
theorem dksX0_show_2 : cX0_show.data.toList.drop 46 = dktX0_show_2 := dk_seg dksX0_show_1 23 rfl rfl
theorem dX0_show_0 : decode cX0_show 0 = .ok (.iload_n 1, 1) := dk_27 (dk_at dksX0_show_0 0 rfl rfl)
theorem dX0_show_1 : decode cX0_show 1 = .ok (.invokestatic 81, 3) := dk_184 0 81 (dk_at dksX0_show_0 1 rfl rfl)
theorem dX0_show_4 : decode cX0_show 4 = .ok (.ifCond .eq 16, 3) := dk_153 0 16 (dk_at dksX0_show_0 4 rfl rfl)
theorem dX0_show_7 : decode cX0_show 7 = .ok (.iload_n 2, 1) := dk_28 (dk_at dksX0_show_0 7 rfl rfl)
theorem dX0_show_8 : decode cX0_show 8 = .ok (.iconst (-1), 1) := dk_2 (dk_at dksX0_show_0 8 rfl rfl)
theorem dX0_show_9 : decode cX0_show 9 = .ok (.if_icmp .eq 18, 3) := dk_159 0 18 (dk_at dksX0_show_0 9 rfl rfl)
theorem dX0_show_12 : decode cX0_show 12 = .ok (.aload_n 0, 1) := dk_42 (dk_at dksX0_show_0 12 rfl rfl)
theorem dX0_show_13 : decode cX0_show 13 = .ok (.iload_n 2, 1) := dk_28 (dk_at dksX0_show_0 13 rfl rfl)
theorem dX0_show_14 : decode cX0_show 14 = .ok (.invokevirtual 136, 3) := dk_182 0 136 (dk_at dksX0_show_0 14 rfl rfl)
theorem dX0_show_17 : decode cX0_show 17 = .ok (.ifCond .ne 10, 3) := dk_154 0 10 (dk_at dksX0_show_0 17 rfl rfl)
theorem dX0_show_20 : decode cX0_show 20 = .ok (.aload_n 0, 1) := dk_42 (dk_at dksX0_show_0 20 rfl rfl)
theorem dX0_show_21 : decode cX0_show 21 = .ok (.bipush (-2), 2) := dk_16 254 (dk_at dksX0_show_0 21 rfl rfl)
theorem dX0_show_23 : decode cX0_show 23 = .ok (.invokevirtual 85, 3) := dk_182 0 85 (dk_at dksX0_show_1 0 rfl rfl)
theorem dX0_show_26 : decode cX0_show 26 = .ok (.ireturn, 1) := dk_172 (dk_at dksX0_show_1 3 rfl rfl)
theorem dX0_show_27 : decode cX0_show 27 = .ok (.aload_n 0, 1) := dk_42 (dk_at dksX0_show_1 4 rfl rfl)
theorem dX0_show_28 : decode cX0_show 28 = .ok (.getfield 45, 3) := dk_180 0 45 (dk_at dksX0_show_1 5 rfl rfl)
theorem dX0_show_31 : decode cX0_show 31 = .ok (.iload_n 1, 1) := dk_27 (dk_at dksX0_show_1 8 rfl rfl)
theorem dX0_show_32 : decode cX0_show 32 = .ok (.aaload, 1) := dk_50 (dk_at dksX0_show_1 9 rfl rfl)
theorem dX0_show_33 : decode cX0_show 33 = .ok (.iload_n 2, 1) := dk_28 (dk_at dksX0_show_1 10 rfl rfl)
theorem dX0_show_34 : decode cX0_show 34 = .ok (.iconst (-1), 1) := dk_2 (dk_at dksX0_show_1 11 rfl rfl)
theorem dX0_show_35 : decode cX0_show 35 = .ok (.if_icmp .ne 7, 3) := dk_160 0 7 (dk_at dksX0_show_1 12 rfl rfl)
theorem dX0_show_38 : decode cX0_show 38 = .ok (.aconst_null, 1) := dk_1 (dk_at dksX0_show_1 15 rfl rfl)
theorem dX0_show_39 : decode cX0_show 39 = .ok (.goto 12, 3) := dk_167 0 12 (dk_at dksX0_show_1 16 rfl rfl)
theorem dX0_show_42 : decode cX0_show 42 = .ok (.aload_n 0, 1) := dk_42 (dk_at dksX0_show_1 19 rfl rfl)
theorem dX0_show_43 : decode cX0_show 43 = .ok (.getfield 30, 3) := dk_180 0 30 (dk_at dksX0_show_1 20 rfl rfl)
theorem dX0_show_46 : decode cX0_show 46 = .ok (.getfield 139, 3) := dk_180 0 139 (dk_at dksX0_show_2 0 rfl rfl)
theorem dX0_show_49 : decode cX0_show 49 = .ok (.iload_n 2, 1) := dk_28 (dk_at dksX0_show_2 3 rfl rfl)
theorem dX0_show_50 : decode cX0_show 50 = .ok (.aaload, 1) := dk_50 (dk_at dksX0_show_2 4 rfl rfl)
theorem dX0_show_51 : decode cX0_show 51 = .ok (.putfield 93, 3) := dk_181 0 93 (dk_at dksX0_show_2 5 rfl rfl)
theorem dX0_show_54 : decode cX0_show 54 = .ok (.iconst 1, 1) := dk_4 (dk_at dksX0_show_2 8 rfl rfl)
theorem dX0_show_55 : decode cX0_show 55 = .ok (.ireturn, 1) := dk_172 (dk_at dksX0_show_2 9 rfl rfl)
abbrev cX0_isWay : ByteArray := prog_1_method_8_code
def yX0_isWay : MethodName := ⟨RX0, "isWay", "(I)Z"⟩
def dkwX0_isWay_0 : List UInt8 := [27, 3, 42, 180, 0, 30, 180, 0, 65, 4, 100, 184, 0, 57, 172]
abbrev dktX0_isWay_0 : List UInt8 := dkwX0_isWay_0 ++ []
theorem dksX0_isWay_0 : cX0_isWay.data.toList.drop 0 = dktX0_isWay_0 := by decide +kernel
theorem dX0_isWay_0 : decode cX0_isWay 0 = .ok (.iload_n 1, 1) := dk_27 (dk_at dksX0_isWay_0 0 rfl rfl)
theorem dX0_isWay_1 : decode cX0_isWay 1 = .ok (.iconst 0, 1) := dk_3 (dk_at dksX0_isWay_0 1 rfl rfl)
theorem dX0_isWay_2 : decode cX0_isWay 2 = .ok (.aload_n 0, 1) := dk_42 (dk_at dksX0_isWay_0 2 rfl rfl)
theorem dX0_isWay_3 : decode cX0_isWay 3 = .ok (.getfield 30, 3) := dk_180 0 30 (dk_at dksX0_isWay_0 3 rfl rfl)
theorem dX0_isWay_6 : decode cX0_isWay 6 = .ok (.getfield 65, 3) := dk_180 0 65 (dk_at dksX0_isWay_0 6 rfl rfl)
theorem dX0_isWay_9 : decode cX0_isWay 9 = .ok (.iconst 1, 1) := dk_4 (dk_at dksX0_isWay_0 9 rfl rfl)
theorem dX0_isWay_10 : decode cX0_isWay 10 = .ok (.isub, 1) := dk_100 (dk_at dksX0_isWay_0 10 rfl rfl)
theorem dX0_isWay_11 : decode cX0_isWay 11 = .ok (.invokestatic 57, 3) := dk_184 0 57 (dk_at dksX0_isWay_0 11 rfl rfl)
theorem dX0_isWay_14 : decode cX0_isWay 14 = .ok (.ireturn, 1) := dk_172 (dk_at dksX0_isWay_0 14 rfl rfl)
abbrev cX0_says : ByteArray := prog_1_method_22_code
def yX0_says : MethodName := ⟨RX0, "says", "(II)I"⟩
def dkwX0_says_5 : List UInt8 := [42, 45, 192, 0, 19, 6, 182, 0, 158, 172, 58, 4, 42, 16, 253, 182, 0, 85, 172]
abbrev dktX0_says_5 : List UInt8 := dkwX0_says_5 ++ []
def dkwX0_says_4 : List UInt8 := [182, 0, 158, 172, 42, 45, 192, 0, 13, 3, 182, 0, 158, 172, 42, 45, 192, 0, 16, 3, 182, 0, 158, 172]
abbrev dktX0_says_4 : List UInt8 := dkwX0_says_4 ++ dktX0_says_5
def dkwX0_says_3 : List UInt8 := [45, 192, 0, 1, 180, 0, 155, 172, 42, 45, 192, 0, 7, 5, 182, 0, 158, 172, 42, 45, 192, 0, 10, 5]
abbrev dktX0_says_3 : List UInt8 := dkwX0_says_3 ++ dktX0_says_4
def dkwX0_says_2 : List UInt8 := [170, 0, 0, 0, 0, 0, 83, 0, 0, 0, 0, 0, 0, 0, 4, 0, 0, 0, 35, 0, 0, 0, 43, 0, 0, 0, 53, 0, 0, 0, 63, 0, 0, 0, 73]
abbrev dktX0_says_2 : List UInt8 := dkwX0_says_2 ++ dktX0_says_3
def dkwX0_says_1 : List UInt8 := [180, 0, 45, 27, 50, 180, 0, 93, 78, 45, 199, 0, 10, 42, 16, 252, 182, 0, 85, 172, 28]
abbrev dktX0_says_1 : List UInt8 := dkwX0_says_1 ++ dktX0_says_2
def dkwX0_says_0 : List UInt8 := [27, 184, 0, 81, 153, 0, 12, 28, 3, 8, 184, 0, 57, 154, 0, 10, 42, 16, 254, 182, 0, 85, 172, 42]
abbrev dktX0_says_0 : List UInt8 := dkwX0_says_0 ++ dktX0_says_1
theorem dksX0_says_0 : cX0_says.data.toList.drop 0 = dktX0_says_0 := by decide +kernel
theorem dksX0_says_1 : cX0_says.data.toList.drop 24 = dktX0_says_1 := dk_seg dksX0_says_0 24 rfl rfl
theorem dksX0_says_2 : cX0_says.data.toList.drop 45 = dktX0_says_2 := dk_seg dksX0_says_1 21 rfl rfl
theorem dksX0_says_3 : cX0_says.data.toList.drop 80 = dktX0_says_3 := dk_seg dksX0_says_2 35 rfl rfl
theorem dksX0_says_4 : cX0_says.data.toList.drop 104 = dktX0_says_4 := dk_seg dksX0_says_3 24 rfl rfl
theorem dksX0_says_5 : cX0_says.data.toList.drop 128 = dktX0_says_5 := dk_seg dksX0_says_4 24 rfl rfl
theorem dX0_says_0 : decode cX0_says 0 = .ok (.iload_n 1, 1) := dk_27 (dk_at dksX0_says_0 0 rfl rfl)
theorem dX0_says_1 : decode cX0_says 1 = .ok (.invokestatic 81, 3) := dk_184 0 81 (dk_at dksX0_says_0 1 rfl rfl)
theorem dX0_says_4 : decode cX0_says 4 = .ok (.ifCond .eq 12, 3) := dk_153 0 12 (dk_at dksX0_says_0 4 rfl rfl)
theorem dX0_says_7 : decode cX0_says 7 = .ok (.iload_n 2, 1) := dk_28 (dk_at dksX0_says_0 7 rfl rfl)
theorem dX0_says_8 : decode cX0_says 8 = .ok (.iconst 0, 1) := dk_3 (dk_at dksX0_says_0 8 rfl rfl)
theorem dX0_says_9 : decode cX0_says 9 = .ok (.iconst 5, 1) := dk_8 (dk_at dksX0_says_0 9 rfl rfl)
theorem dX0_says_10 : decode cX0_says 10 = .ok (.invokestatic 57, 3) := dk_184 0 57 (dk_at dksX0_says_0 10 rfl rfl)
theorem dX0_says_13 : decode cX0_says 13 = .ok (.ifCond .ne 10, 3) := dk_154 0 10 (dk_at dksX0_says_0 13 rfl rfl)
theorem dX0_says_16 : decode cX0_says 16 = .ok (.aload_n 0, 1) := dk_42 (dk_at dksX0_says_0 16 rfl rfl)
theorem dX0_says_17 : decode cX0_says 17 = .ok (.bipush (-2), 2) := dk_16 254 (dk_at dksX0_says_0 17 rfl rfl)
theorem dX0_says_19 : decode cX0_says 19 = .ok (.invokevirtual 85, 3) := dk_182 0 85 (dk_at dksX0_says_0 19 rfl rfl)
theorem dX0_says_22 : decode cX0_says 22 = .ok (.ireturn, 1) := dk_172 (dk_at dksX0_says_0 22 rfl rfl)
theorem dX0_says_23 : decode cX0_says 23 = .ok (.aload_n 0, 1) := dk_42 (dk_at dksX0_says_0 23 rfl rfl)
theorem dX0_says_24 : decode cX0_says 24 = .ok (.getfield 45, 3) := dk_180 0 45 (dk_at dksX0_says_1 0 rfl rfl)
theorem dX0_says_27 : decode cX0_says 27 = .ok (.iload_n 1, 1) := dk_27 (dk_at dksX0_says_1 3 rfl rfl)
theorem dX0_says_28 : decode cX0_says 28 = .ok (.aaload, 1) := dk_50 (dk_at dksX0_says_1 4 rfl rfl)
theorem dX0_says_29 : decode cX0_says 29 = .ok (.getfield 93, 3) := dk_180 0 93 (dk_at dksX0_says_1 5 rfl rfl)
theorem dX0_says_32 : decode cX0_says 32 = .ok (.astore_n 3, 1) := dk_78 (dk_at dksX0_says_1 8 rfl rfl)
theorem dX0_says_33 : decode cX0_says 33 = .ok (.aload_n 3, 1) := dk_45 (dk_at dksX0_says_1 9 rfl rfl)
theorem dX0_says_34 : decode cX0_says 34 = .ok (.ifnonnull 10, 3) := dk_199 0 10 (dk_at dksX0_says_1 10 rfl rfl)
theorem dX0_says_37 : decode cX0_says 37 = .ok (.aload_n 0, 1) := dk_42 (dk_at dksX0_says_1 13 rfl rfl)
theorem dX0_says_38 : decode cX0_says 38 = .ok (.bipush (-4), 2) := dk_16 252 (dk_at dksX0_says_1 14 rfl rfl)
theorem dX0_says_40 : decode cX0_says 40 = .ok (.invokevirtual 85, 3) := dk_182 0 85 (dk_at dksX0_says_1 16 rfl rfl)
theorem dX0_says_43 : decode cX0_says 43 = .ok (.ireturn, 1) := dk_172 (dk_at dksX0_says_1 19 rfl rfl)
theorem dX0_says_44 : decode cX0_says 44 = .ok (.iload_n 2, 1) := dk_28 (dk_at dksX0_says_1 20 rfl rfl)
theorem dX0_says_45 : decode cX0_says 45 = .ok (.tableswitch 83 0 4 #[35, 43, 53, 63, 73], 35) := by decide +kernel
theorem dX0_says_80 : decode cX0_says 80 = .ok (.aload_n 3, 1) := dk_45 (dk_at dksX0_says_3 0 rfl rfl)
theorem dX0_says_81 : decode cX0_says 81 = .ok (.checkcast 1, 3) := dk_192 0 1 (dk_at dksX0_says_3 1 rfl rfl)
theorem dX0_says_84 : decode cX0_says 84 = .ok (.getfield 155, 3) := dk_180 0 155 (dk_at dksX0_says_3 4 rfl rfl)
theorem dX0_says_87 : decode cX0_says 87 = .ok (.ireturn, 1) := dk_172 (dk_at dksX0_says_3 7 rfl rfl)
theorem dX0_says_88 : decode cX0_says 88 = .ok (.aload_n 0, 1) := dk_42 (dk_at dksX0_says_3 8 rfl rfl)
theorem dX0_says_89 : decode cX0_says 89 = .ok (.aload_n 3, 1) := dk_45 (dk_at dksX0_says_3 9 rfl rfl)
theorem dX0_says_90 : decode cX0_says 90 = .ok (.checkcast 7, 3) := dk_192 0 7 (dk_at dksX0_says_3 10 rfl rfl)
theorem dX0_says_93 : decode cX0_says 93 = .ok (.iconst 2, 1) := dk_5 (dk_at dksX0_says_3 13 rfl rfl)
theorem dX0_says_94 : decode cX0_says 94 = .ok (.invokevirtual 158, 3) := dk_182 0 158 (dk_at dksX0_says_3 14 rfl rfl)
theorem dX0_says_97 : decode cX0_says 97 = .ok (.ireturn, 1) := dk_172 (dk_at dksX0_says_3 17 rfl rfl)
theorem dX0_says_98 : decode cX0_says 98 = .ok (.aload_n 0, 1) := dk_42 (dk_at dksX0_says_3 18 rfl rfl)
theorem dX0_says_99 : decode cX0_says 99 = .ok (.aload_n 3, 1) := dk_45 (dk_at dksX0_says_3 19 rfl rfl)
theorem dX0_says_100 : decode cX0_says 100 = .ok (.checkcast 10, 3) := dk_192 0 10 (dk_at dksX0_says_3 20 rfl rfl)
theorem dX0_says_103 : decode cX0_says 103 = .ok (.iconst 2, 1) := dk_5 (dk_at dksX0_says_3 23 rfl rfl)
theorem dX0_says_104 : decode cX0_says 104 = .ok (.invokevirtual 158, 3) := dk_182 0 158 (dk_at dksX0_says_4 0 rfl rfl)
theorem dX0_says_107 : decode cX0_says 107 = .ok (.ireturn, 1) := dk_172 (dk_at dksX0_says_4 3 rfl rfl)
theorem dX0_says_108 : decode cX0_says 108 = .ok (.aload_n 0, 1) := dk_42 (dk_at dksX0_says_4 4 rfl rfl)
theorem dX0_says_109 : decode cX0_says 109 = .ok (.aload_n 3, 1) := dk_45 (dk_at dksX0_says_4 5 rfl rfl)
theorem dX0_says_110 : decode cX0_says 110 = .ok (.checkcast 13, 3) := dk_192 0 13 (dk_at dksX0_says_4 6 rfl rfl)
theorem dX0_says_113 : decode cX0_says 113 = .ok (.iconst 0, 1) := dk_3 (dk_at dksX0_says_4 9 rfl rfl)
theorem dX0_says_114 : decode cX0_says 114 = .ok (.invokevirtual 158, 3) := dk_182 0 158 (dk_at dksX0_says_4 10 rfl rfl)
theorem dX0_says_117 : decode cX0_says 117 = .ok (.ireturn, 1) := dk_172 (dk_at dksX0_says_4 13 rfl rfl)
theorem dX0_says_118 : decode cX0_says 118 = .ok (.aload_n 0, 1) := dk_42 (dk_at dksX0_says_4 14 rfl rfl)
theorem dX0_says_119 : decode cX0_says 119 = .ok (.aload_n 3, 1) := dk_45 (dk_at dksX0_says_4 15 rfl rfl)
theorem dX0_says_120 : decode cX0_says 120 = .ok (.checkcast 16, 3) := dk_192 0 16 (dk_at dksX0_says_4 16 rfl rfl)
theorem dX0_says_123 : decode cX0_says 123 = .ok (.iconst 0, 1) := dk_3 (dk_at dksX0_says_4 19 rfl rfl)
theorem dX0_says_124 : decode cX0_says 124 = .ok (.invokevirtual 158, 3) := dk_182 0 158 (dk_at dksX0_says_4 20 rfl rfl)
theorem dX0_says_127 : decode cX0_says 127 = .ok (.ireturn, 1) := dk_172 (dk_at dksX0_says_4 23 rfl rfl)
theorem dX0_says_128 : decode cX0_says 128 = .ok (.aload_n 0, 1) := dk_42 (dk_at dksX0_says_5 0 rfl rfl)
theorem dX0_says_129 : decode cX0_says 129 = .ok (.aload_n 3, 1) := dk_45 (dk_at dksX0_says_5 1 rfl rfl)
theorem dX0_says_130 : decode cX0_says 130 = .ok (.checkcast 19, 3) := dk_192 0 19 (dk_at dksX0_says_5 2 rfl rfl)
theorem dX0_says_133 : decode cX0_says 133 = .ok (.iconst 3, 1) := dk_6 (dk_at dksX0_says_5 5 rfl rfl)
theorem dX0_says_134 : decode cX0_says 134 = .ok (.invokevirtual 158, 3) := dk_182 0 158 (dk_at dksX0_says_5 6 rfl rfl)
theorem dX0_says_137 : decode cX0_says 137 = .ok (.ireturn, 1) := dk_172 (dk_at dksX0_says_5 9 rfl rfl)
theorem dX0_says_138 : decode cX0_says 138 = .ok (.astore 4, 2) := dk_58 4 (dk_at dksX0_says_5 10 rfl rfl)
theorem dX0_says_140 : decode cX0_says 140 = .ok (.aload_n 0, 1) := dk_42 (dk_at dksX0_says_5 12 rfl rfl)
theorem dX0_says_141 : decode cX0_says 141 = .ok (.bipush (-3), 2) := dk_16 253 (dk_at dksX0_says_5 13 rfl rfl)
theorem dX0_says_143 : decode cX0_says 143 = .ok (.invokevirtual 85, 3) := dk_182 0 85 (dk_at dksX0_says_5 15 rfl rfl)
theorem dX0_says_146 : decode cX0_says 146 = .ok (.ireturn, 1) := dk_172 (dk_at dksX0_says_5 18 rfl rfl)
abbrev cX0_first : ByteArray := prog_1_method_21_code
def yX0_first : MethodName := ⟨RX0, "first", "(LStairOnSticks$Move;I)I"⟩
def dkwX0_first_1 : List UInt8 := [180, 0, 143, 42, 180, 0, 30, 180, 0, 147, 3, 50, 28, 182, 0, 151, 172]
abbrev dktX0_first_1 : List UInt8 := dkwX0_first_1 ++ []
def dkwX0_first_0 : List UInt8 := [42, 180, 0, 30, 180, 0, 61, 154, 0, 12, 42, 16, 251, 182, 0, 85, 167, 0, 24, 43, 42, 180, 0, 30]
abbrev dktX0_first_0 : List UInt8 := dkwX0_first_0 ++ dktX0_first_1
theorem dksX0_first_0 : cX0_first.data.toList.drop 0 = dktX0_first_0 := by decide +kernel
theorem dksX0_first_1 : cX0_first.data.toList.drop 24 = dktX0_first_1 := dk_seg dksX0_first_0 24 rfl rfl
theorem dX0_first_0 : decode cX0_first 0 = .ok (.aload_n 0, 1) := dk_42 (dk_at dksX0_first_0 0 rfl rfl)
theorem dX0_first_1 : decode cX0_first 1 = .ok (.getfield 30, 3) := dk_180 0 30 (dk_at dksX0_first_0 1 rfl rfl)
theorem dX0_first_4 : decode cX0_first 4 = .ok (.getfield 61, 3) := dk_180 0 61 (dk_at dksX0_first_0 4 rfl rfl)
theorem dX0_first_7 : decode cX0_first 7 = .ok (.ifCond .ne 12, 3) := dk_154 0 12 (dk_at dksX0_first_0 7 rfl rfl)
theorem dX0_first_10 : decode cX0_first 10 = .ok (.aload_n 0, 1) := dk_42 (dk_at dksX0_first_0 10 rfl rfl)
theorem dX0_first_11 : decode cX0_first 11 = .ok (.bipush (-5), 2) := dk_16 251 (dk_at dksX0_first_0 11 rfl rfl)
theorem dX0_first_13 : decode cX0_first 13 = .ok (.invokevirtual 85, 3) := dk_182 0 85 (dk_at dksX0_first_0 13 rfl rfl)
theorem dX0_first_16 : decode cX0_first 16 = .ok (.goto 24, 3) := dk_167 0 24 (dk_at dksX0_first_0 16 rfl rfl)
theorem dX0_first_19 : decode cX0_first 19 = .ok (.aload_n 1, 1) := dk_43 (dk_at dksX0_first_0 19 rfl rfl)
theorem dX0_first_20 : decode cX0_first 20 = .ok (.aload_n 0, 1) := dk_42 (dk_at dksX0_first_0 20 rfl rfl)
theorem dX0_first_21 : decode cX0_first 21 = .ok (.getfield 30, 3) := dk_180 0 30 (dk_at dksX0_first_0 21 rfl rfl)
theorem dX0_first_24 : decode cX0_first 24 = .ok (.getfield 143, 3) := dk_180 0 143 (dk_at dksX0_first_1 0 rfl rfl)
theorem dX0_first_27 : decode cX0_first 27 = .ok (.aload_n 0, 1) := dk_42 (dk_at dksX0_first_1 3 rfl rfl)
theorem dX0_first_28 : decode cX0_first 28 = .ok (.getfield 30, 3) := dk_180 0 30 (dk_at dksX0_first_1 4 rfl rfl)
theorem dX0_first_31 : decode cX0_first 31 = .ok (.getfield 147, 3) := dk_180 0 147 (dk_at dksX0_first_1 7 rfl rfl)
theorem dX0_first_34 : decode cX0_first 34 = .ok (.iconst 0, 1) := dk_3 (dk_at dksX0_first_1 10 rfl rfl)
theorem dX0_first_35 : decode cX0_first 35 = .ok (.aaload, 1) := dk_50 (dk_at dksX0_first_1 11 rfl rfl)
theorem dX0_first_36 : decode cX0_first 36 = .ok (.iload_n 2, 1) := dk_28 (dk_at dksX0_first_1 12 rfl rfl)
theorem dX0_first_37 : decode cX0_first 37 = .ok (.invokevirtual 151, 3) := dk_182 0 151 (dk_at dksX0_first_1 13 rfl rfl)
theorem dX0_first_40 : decode cX0_first 40 = .ok (.ireturn, 1) := dk_172 (dk_at dksX0_first_1 16 rfl rfl)
abbrev cX0_step : ByteArray := prog_1_method_23_code
def yX0_step : MethodName := ⟨RX0, "step", "(IZ)I"⟩
def dkwX0_step_2 : List UInt8 := [180, 0, 30, 180, 0, 61, 4, 100, 172]
abbrev dktX0_step_2 : List UInt8 := dkwX0_step_2 ++ []
def dkwX0_step_1 : List UInt8 := [16, 9, 160, 0, 10, 42, 16, 250, 182, 0, 85, 172, 42, 180, 0, 30, 27, 28, 3, 3, 182, 0, 164, 42]
abbrev dktX0_step_1 : List UInt8 := dkwX0_step_1 ++ dktX0_step_2
def dkwX0_step_0 : List UInt8 := [27, 4, 16, 20, 184, 0, 57, 154, 0, 10, 42, 16, 254, 182, 0, 85, 172, 42, 180, 0, 30, 180, 0, 61]
abbrev dktX0_step_0 : List UInt8 := dkwX0_step_0 ++ dktX0_step_1
theorem dksX0_step_0 : cX0_step.data.toList.drop 0 = dktX0_step_0 := by decide +kernel
theorem dksX0_step_1 : cX0_step.data.toList.drop 24 = dktX0_step_1 := dk_seg dksX0_step_0 24 rfl rfl
theorem dksX0_step_2 : cX0_step.data.toList.drop 48 = dktX0_step_2 := dk_seg dksX0_step_1 24 rfl rfl
theorem dX0_step_0 : decode cX0_step 0 = .ok (.iload_n 1, 1) := dk_27 (dk_at dksX0_step_0 0 rfl rfl)
theorem dX0_step_1 : decode cX0_step 1 = .ok (.iconst 1, 1) := dk_4 (dk_at dksX0_step_0 1 rfl rfl)
theorem dX0_step_2 : decode cX0_step 2 = .ok (.bipush 20, 2) := dk_16 20 (dk_at dksX0_step_0 2 rfl rfl)
theorem dX0_step_4 : decode cX0_step 4 = .ok (.invokestatic 57, 3) := dk_184 0 57 (dk_at dksX0_step_0 4 rfl rfl)
theorem dX0_step_7 : decode cX0_step 7 = .ok (.ifCond .ne 10, 3) := dk_154 0 10 (dk_at dksX0_step_0 7 rfl rfl)
theorem dX0_step_10 : decode cX0_step 10 = .ok (.aload_n 0, 1) := dk_42 (dk_at dksX0_step_0 10 rfl rfl)
theorem dX0_step_11 : decode cX0_step 11 = .ok (.bipush (-2), 2) := dk_16 254 (dk_at dksX0_step_0 11 rfl rfl)
theorem dX0_step_13 : decode cX0_step 13 = .ok (.invokevirtual 85, 3) := dk_182 0 85 (dk_at dksX0_step_0 13 rfl rfl)
theorem dX0_step_16 : decode cX0_step 16 = .ok (.ireturn, 1) := dk_172 (dk_at dksX0_step_0 16 rfl rfl)
theorem dX0_step_17 : decode cX0_step 17 = .ok (.aload_n 0, 1) := dk_42 (dk_at dksX0_step_0 17 rfl rfl)
theorem dX0_step_18 : decode cX0_step 18 = .ok (.getfield 30, 3) := dk_180 0 30 (dk_at dksX0_step_0 18 rfl rfl)
theorem dX0_step_21 : decode cX0_step 21 = .ok (.getfield 61, 3) := dk_180 0 61 (dk_at dksX0_step_0 21 rfl rfl)
theorem dX0_step_24 : decode cX0_step 24 = .ok (.bipush 9, 2) := dk_16 9 (dk_at dksX0_step_1 0 rfl rfl)
theorem dX0_step_26 : decode cX0_step 26 = .ok (.if_icmp .ne 10, 3) := dk_160 0 10 (dk_at dksX0_step_1 2 rfl rfl)
theorem dX0_step_29 : decode cX0_step 29 = .ok (.aload_n 0, 1) := dk_42 (dk_at dksX0_step_1 5 rfl rfl)
theorem dX0_step_30 : decode cX0_step 30 = .ok (.bipush (-6), 2) := dk_16 250 (dk_at dksX0_step_1 6 rfl rfl)
theorem dX0_step_32 : decode cX0_step 32 = .ok (.invokevirtual 85, 3) := dk_182 0 85 (dk_at dksX0_step_1 8 rfl rfl)
theorem dX0_step_35 : decode cX0_step 35 = .ok (.ireturn, 1) := dk_172 (dk_at dksX0_step_1 11 rfl rfl)
theorem dX0_step_36 : decode cX0_step 36 = .ok (.aload_n 0, 1) := dk_42 (dk_at dksX0_step_1 12 rfl rfl)
theorem dX0_step_37 : decode cX0_step 37 = .ok (.getfield 30, 3) := dk_180 0 30 (dk_at dksX0_step_1 13 rfl rfl)
theorem dX0_step_40 : decode cX0_step 40 = .ok (.iload_n 1, 1) := dk_27 (dk_at dksX0_step_1 16 rfl rfl)
theorem dX0_step_41 : decode cX0_step 41 = .ok (.iload_n 2, 1) := dk_28 (dk_at dksX0_step_1 17 rfl rfl)
theorem dX0_step_42 : decode cX0_step 42 = .ok (.iconst 0, 1) := dk_3 (dk_at dksX0_step_1 18 rfl rfl)
theorem dX0_step_43 : decode cX0_step 43 = .ok (.iconst 0, 1) := dk_3 (dk_at dksX0_step_1 19 rfl rfl)
theorem dX0_step_44 : decode cX0_step 44 = .ok (.invokevirtual 164, 3) := dk_182 0 164 (dk_at dksX0_step_1 20 rfl rfl)
theorem dX0_step_47 : decode cX0_step 47 = .ok (.aload_n 0, 1) := dk_42 (dk_at dksX0_step_1 23 rfl rfl)
theorem dX0_step_48 : decode cX0_step 48 = .ok (.getfield 30, 3) := dk_180 0 30 (dk_at dksX0_step_2 0 rfl rfl)
theorem dX0_step_51 : decode cX0_step 51 = .ok (.getfield 61, 3) := dk_180 0 61 (dk_at dksX0_step_2 3 rfl rfl)
theorem dX0_step_54 : decode cX0_step 54 = .ok (.iconst 1, 1) := dk_4 (dk_at dksX0_step_2 6 rfl rfl)
theorem dX0_step_55 : decode cX0_step 55 = .ok (.isub, 1) := dk_100 (dk_at dksX0_step_2 7 rfl rfl)
theorem dX0_step_56 : decode cX0_step 56 = .ok (.ireturn, 1) := dk_172 (dk_at dksX0_step_2 8 rfl rfl)
abbrev cX0_way : ByteArray := prog_1_method_24_code
def yX0_way : MethodName := ⟨RX0, "way", "(II)I"⟩
def dkwX0_way_3 : List UInt8 := [180, 0, 65, 4, 100, 172]
abbrev dktX0_way_3 : List UInt8 := dkwX0_way_3 ++ []
def dkwX0_way_2 : List UInt8 := [180, 0, 30, 27, 42, 180, 0, 30, 180, 0, 65, 28, 184, 0, 168, 182, 0, 172, 42, 180, 0, 30]
abbrev dktX0_way_2 : List UInt8 := dkwX0_way_2 ++ dktX0_way_3
def dkwX0_way_1 : List UInt8 := [182, 0, 85, 172, 42, 180, 0, 30, 180, 0, 65, 16, 6, 160, 0, 10, 42, 16, 250, 182, 0, 85, 172, 42]
abbrev dktX0_way_1 : List UInt8 := dkwX0_way_1 ++ dktX0_way_2
def dkwX0_way_0 : List UInt8 := [27, 3, 8, 184, 0, 57, 153, 0, 13, 28, 3, 16, 10, 184, 0, 57, 154, 0, 10, 42, 16, 254]
abbrev dktX0_way_0 : List UInt8 := dkwX0_way_0 ++ dktX0_way_1
theorem dksX0_way_0 : cX0_way.data.toList.drop 0 = dktX0_way_0 := by decide +kernel
theorem dksX0_way_1 : cX0_way.data.toList.drop 22 = dktX0_way_1 := dk_seg dksX0_way_0 22 rfl rfl
theorem dksX0_way_2 : cX0_way.data.toList.drop 46 = dktX0_way_2 := dk_seg dksX0_way_1 24 rfl rfl
theorem dksX0_way_3 : cX0_way.data.toList.drop 68 = dktX0_way_3 := dk_seg dksX0_way_2 22 rfl rfl
theorem dX0_way_0 : decode cX0_way 0 = .ok (.iload_n 1, 1) := dk_27 (dk_at dksX0_way_0 0 rfl rfl)
theorem dX0_way_1 : decode cX0_way 1 = .ok (.iconst 0, 1) := dk_3 (dk_at dksX0_way_0 1 rfl rfl)
theorem dX0_way_2 : decode cX0_way 2 = .ok (.iconst 5, 1) := dk_8 (dk_at dksX0_way_0 2 rfl rfl)
theorem dX0_way_3 : decode cX0_way 3 = .ok (.invokestatic 57, 3) := dk_184 0 57 (dk_at dksX0_way_0 3 rfl rfl)
theorem dX0_way_6 : decode cX0_way 6 = .ok (.ifCond .eq 13, 3) := dk_153 0 13 (dk_at dksX0_way_0 6 rfl rfl)
theorem dX0_way_9 : decode cX0_way 9 = .ok (.iload_n 2, 1) := dk_28 (dk_at dksX0_way_0 9 rfl rfl)
theorem dX0_way_10 : decode cX0_way 10 = .ok (.iconst 0, 1) := dk_3 (dk_at dksX0_way_0 10 rfl rfl)
theorem dX0_way_11 : decode cX0_way 11 = .ok (.bipush 10, 2) := dk_16 10 (dk_at dksX0_way_0 11 rfl rfl)
theorem dX0_way_13 : decode cX0_way 13 = .ok (.invokestatic 57, 3) := dk_184 0 57 (dk_at dksX0_way_0 13 rfl rfl)
theorem dX0_way_16 : decode cX0_way 16 = .ok (.ifCond .ne 10, 3) := dk_154 0 10 (dk_at dksX0_way_0 16 rfl rfl)
theorem dX0_way_19 : decode cX0_way 19 = .ok (.aload_n 0, 1) := dk_42 (dk_at dksX0_way_0 19 rfl rfl)
theorem dX0_way_20 : decode cX0_way 20 = .ok (.bipush (-2), 2) := dk_16 254 (dk_at dksX0_way_0 20 rfl rfl)
theorem dX0_way_22 : decode cX0_way 22 = .ok (.invokevirtual 85, 3) := dk_182 0 85 (dk_at dksX0_way_1 0 rfl rfl)
theorem dX0_way_25 : decode cX0_way 25 = .ok (.ireturn, 1) := dk_172 (dk_at dksX0_way_1 3 rfl rfl)
theorem dX0_way_26 : decode cX0_way 26 = .ok (.aload_n 0, 1) := dk_42 (dk_at dksX0_way_1 4 rfl rfl)
theorem dX0_way_27 : decode cX0_way 27 = .ok (.getfield 30, 3) := dk_180 0 30 (dk_at dksX0_way_1 5 rfl rfl)
theorem dX0_way_30 : decode cX0_way 30 = .ok (.getfield 65, 3) := dk_180 0 65 (dk_at dksX0_way_1 8 rfl rfl)
theorem dX0_way_33 : decode cX0_way 33 = .ok (.bipush 6, 2) := dk_16 6 (dk_at dksX0_way_1 11 rfl rfl)
theorem dX0_way_35 : decode cX0_way 35 = .ok (.if_icmp .ne 10, 3) := dk_160 0 10 (dk_at dksX0_way_1 13 rfl rfl)
theorem dX0_way_38 : decode cX0_way 38 = .ok (.aload_n 0, 1) := dk_42 (dk_at dksX0_way_1 16 rfl rfl)
theorem dX0_way_39 : decode cX0_way 39 = .ok (.bipush (-6), 2) := dk_16 250 (dk_at dksX0_way_1 17 rfl rfl)
theorem dX0_way_41 : decode cX0_way 41 = .ok (.invokevirtual 85, 3) := dk_182 0 85 (dk_at dksX0_way_1 19 rfl rfl)
theorem dX0_way_44 : decode cX0_way 44 = .ok (.ireturn, 1) := dk_172 (dk_at dksX0_way_1 22 rfl rfl)
theorem dX0_way_45 : decode cX0_way 45 = .ok (.aload_n 0, 1) := dk_42 (dk_at dksX0_way_1 23 rfl rfl)
theorem dX0_way_46 : decode cX0_way 46 = .ok (.getfield 30, 3) := dk_180 0 30 (dk_at dksX0_way_2 0 rfl rfl)
theorem dX0_way_49 : decode cX0_way 49 = .ok (.iload_n 1, 1) := dk_27 (dk_at dksX0_way_2 3 rfl rfl)
theorem dX0_way_50 : decode cX0_way 50 = .ok (.aload_n 0, 1) := dk_42 (dk_at dksX0_way_2 4 rfl rfl)
theorem dX0_way_51 : decode cX0_way 51 = .ok (.getfield 30, 3) := dk_180 0 30 (dk_at dksX0_way_2 5 rfl rfl)
theorem dX0_way_54 : decode cX0_way 54 = .ok (.getfield 65, 3) := dk_180 0 65 (dk_at dksX0_way_2 8 rfl rfl)
theorem dX0_way_57 : decode cX0_way 57 = .ok (.iload_n 2, 1) := dk_28 (dk_at dksX0_way_2 11 rfl rfl)
theorem dX0_way_58 : decode cX0_way 58 = .ok (.invokestatic 168, 3) := dk_184 0 168 (dk_at dksX0_way_2 12 rfl rfl)
theorem dX0_way_61 : decode cX0_way 61 = .ok (.invokevirtual 172, 3) := dk_182 0 172 (dk_at dksX0_way_2 15 rfl rfl)
theorem dX0_way_64 : decode cX0_way 64 = .ok (.aload_n 0, 1) := dk_42 (dk_at dksX0_way_2 18 rfl rfl)
theorem dX0_way_65 : decode cX0_way 65 = .ok (.getfield 30, 3) := dk_180 0 30 (dk_at dksX0_way_2 19 rfl rfl)
theorem dX0_way_68 : decode cX0_way 68 = .ok (.getfield 65, 3) := dk_180 0 65 (dk_at dksX0_way_3 0 rfl rfl)
theorem dX0_way_71 : decode cX0_way 71 = .ok (.iconst 1, 1) := dk_4 (dk_at dksX0_way_3 3 rfl rfl)
theorem dX0_way_72 : decode cX0_way 72 = .ok (.isub, 1) := dk_100 (dk_at dksX0_way_3 4 rfl rfl)
theorem dX0_way_73 : decode cX0_way 73 = .ok (.ireturn, 1) := dk_172 (dk_at dksX0_way_3 5 rfl rfl)
abbrev cX0_made : ByteArray := prog_1_method_3_code
def yX0_made : MethodName := ⟨RX0, "made", "(III)LStairOnSticks$Move;"⟩
def dkwX0_made_4 : List UInt8 := [183, 0, 18, 176, 187, 0, 19, 89, 27, 28, 183, 0, 21, 176]
abbrev dktX0_made_4 : List UInt8 := dkwX0_made_4 ++ []
def dkwX0_made_3 : List UInt8 := [27, 28, 183, 0, 12, 176, 187, 0, 13, 89, 27, 28, 183, 0, 15, 176, 187, 0, 16, 89, 27, 28]
abbrev dktX0_made_3 : List UInt8 := dkwX0_made_3 ++ dktX0_made_4
def dkwX0_made_2 : List UInt8 := [187, 0, 1, 89, 27, 28, 183, 0, 3, 176, 187, 0, 7, 89, 27, 28, 183, 0, 9, 176, 187, 0, 10, 89]
abbrev dktX0_made_2 : List UInt8 := dkwX0_made_2 ++ dktX0_made_3
def dkwX0_made_1 : List UInt8 := [170, 0, 0, 0, 0, 0, 85, 0, 0, 0, 0, 0, 0, 0, 4, 0, 0, 0, 35, 0, 0, 0, 45, 0, 0, 0, 55, 0, 0, 0, 65, 0, 0, 0, 75]
abbrev dktX0_made_1 : List UInt8 := dkwX0_made_1 ++ dktX0_made_2
def dkwX0_made_0 : List UInt8 := [26]
abbrev dktX0_made_0 : List UInt8 := dkwX0_made_0 ++ dktX0_made_1
theorem dksX0_made_0 : cX0_made.data.toList.drop 0 = dktX0_made_0 := by decide +kernel
theorem dksX0_made_1 : cX0_made.data.toList.drop 1 = dktX0_made_1 := dk_seg dksX0_made_0 1 rfl rfl
theorem dksX0_made_2 : cX0_made.data.toList.drop 36 = dktX0_made_2 := dk_seg dksX0_made_1 35 rfl rfl
theorem dksX0_made_3 : cX0_made.data.toList.drop 60 = dktX0_made_3 := dk_seg dksX0_made_2 24 rfl rfl
theorem dksX0_made_4 : cX0_made.data.toList.drop 82 = dktX0_made_4 := dk_seg dksX0_made_3 22 rfl rfl
theorem dX0_made_0 : decode cX0_made 0 = .ok (.iload_n 0, 1) := dk_26 (dk_at dksX0_made_0 0 rfl rfl)
theorem dX0_made_1 : decode cX0_made 1 = .ok (.tableswitch 85 0 4 #[35, 45, 55, 65, 75], 35) := by decide +kernel
theorem dX0_made_36 : decode cX0_made 36 = .ok (.new 1, 3) := dk_187 0 1 (dk_at dksX0_made_2 0 rfl rfl)
theorem dX0_made_39 : decode cX0_made 39 = .ok (.dup, 1) := dk_89 (dk_at dksX0_made_2 3 rfl rfl)
theorem dX0_made_40 : decode cX0_made 40 = .ok (.iload_n 1, 1) := dk_27 (dk_at dksX0_made_2 4 rfl rfl)
theorem dX0_made_41 : decode cX0_made 41 = .ok (.iload_n 2, 1) := dk_28 (dk_at dksX0_made_2 5 rfl rfl)
theorem dX0_made_42 : decode cX0_made 42 = .ok (.invokespecial 3, 3) := dk_183 0 3 (dk_at dksX0_made_2 6 rfl rfl)
theorem dX0_made_45 : decode cX0_made 45 = .ok (.areturn, 1) := dk_176 (dk_at dksX0_made_2 9 rfl rfl)
theorem dX0_made_46 : decode cX0_made 46 = .ok (.new 7, 3) := dk_187 0 7 (dk_at dksX0_made_2 10 rfl rfl)
theorem dX0_made_49 : decode cX0_made 49 = .ok (.dup, 1) := dk_89 (dk_at dksX0_made_2 13 rfl rfl)
theorem dX0_made_50 : decode cX0_made 50 = .ok (.iload_n 1, 1) := dk_27 (dk_at dksX0_made_2 14 rfl rfl)
theorem dX0_made_51 : decode cX0_made 51 = .ok (.iload_n 2, 1) := dk_28 (dk_at dksX0_made_2 15 rfl rfl)
theorem dX0_made_52 : decode cX0_made 52 = .ok (.invokespecial 9, 3) := dk_183 0 9 (dk_at dksX0_made_2 16 rfl rfl)
theorem dX0_made_55 : decode cX0_made 55 = .ok (.areturn, 1) := dk_176 (dk_at dksX0_made_2 19 rfl rfl)
theorem dX0_made_56 : decode cX0_made 56 = .ok (.new 10, 3) := dk_187 0 10 (dk_at dksX0_made_2 20 rfl rfl)
theorem dX0_made_59 : decode cX0_made 59 = .ok (.dup, 1) := dk_89 (dk_at dksX0_made_2 23 rfl rfl)
theorem dX0_made_60 : decode cX0_made 60 = .ok (.iload_n 1, 1) := dk_27 (dk_at dksX0_made_3 0 rfl rfl)
theorem dX0_made_61 : decode cX0_made 61 = .ok (.iload_n 2, 1) := dk_28 (dk_at dksX0_made_3 1 rfl rfl)
theorem dX0_made_62 : decode cX0_made 62 = .ok (.invokespecial 12, 3) := dk_183 0 12 (dk_at dksX0_made_3 2 rfl rfl)
theorem dX0_made_65 : decode cX0_made 65 = .ok (.areturn, 1) := dk_176 (dk_at dksX0_made_3 5 rfl rfl)
theorem dX0_made_66 : decode cX0_made 66 = .ok (.new 13, 3) := dk_187 0 13 (dk_at dksX0_made_3 6 rfl rfl)
theorem dX0_made_69 : decode cX0_made 69 = .ok (.dup, 1) := dk_89 (dk_at dksX0_made_3 9 rfl rfl)
theorem dX0_made_70 : decode cX0_made 70 = .ok (.iload_n 1, 1) := dk_27 (dk_at dksX0_made_3 10 rfl rfl)
theorem dX0_made_71 : decode cX0_made 71 = .ok (.iload_n 2, 1) := dk_28 (dk_at dksX0_made_3 11 rfl rfl)
theorem dX0_made_72 : decode cX0_made 72 = .ok (.invokespecial 15, 3) := dk_183 0 15 (dk_at dksX0_made_3 12 rfl rfl)
theorem dX0_made_75 : decode cX0_made 75 = .ok (.areturn, 1) := dk_176 (dk_at dksX0_made_3 15 rfl rfl)
theorem dX0_made_76 : decode cX0_made 76 = .ok (.new 16, 3) := dk_187 0 16 (dk_at dksX0_made_3 16 rfl rfl)
theorem dX0_made_79 : decode cX0_made 79 = .ok (.dup, 1) := dk_89 (dk_at dksX0_made_3 19 rfl rfl)
theorem dX0_made_80 : decode cX0_made 80 = .ok (.iload_n 1, 1) := dk_27 (dk_at dksX0_made_3 20 rfl rfl)
theorem dX0_made_81 : decode cX0_made 81 = .ok (.iload_n 2, 1) := dk_28 (dk_at dksX0_made_3 21 rfl rfl)
theorem dX0_made_82 : decode cX0_made 82 = .ok (.invokespecial 18, 3) := dk_183 0 18 (dk_at dksX0_made_4 0 rfl rfl)
theorem dX0_made_85 : decode cX0_made 85 = .ok (.areturn, 1) := dk_176 (dk_at dksX0_made_4 3 rfl rfl)
theorem dX0_made_86 : decode cX0_made 86 = .ok (.new 19, 3) := dk_187 0 19 (dk_at dksX0_made_4 4 rfl rfl)
theorem dX0_made_89 : decode cX0_made 89 = .ok (.dup, 1) := dk_89 (dk_at dksX0_made_4 7 rfl rfl)
theorem dX0_made_90 : decode cX0_made 90 = .ok (.iload_n 1, 1) := dk_27 (dk_at dksX0_made_4 8 rfl rfl)
theorem dX0_made_91 : decode cX0_made 91 = .ok (.iload_n 2, 1) := dk_28 (dk_at dksX0_made_4 9 rfl rfl)
theorem dX0_made_92 : decode cX0_made 92 = .ok (.invokespecial 21, 3) := dk_183 0 21 (dk_at dksX0_made_4 10 rfl rfl)
theorem dX0_made_95 : decode cX0_made 95 = .ok (.areturn, 1) := dk_176 (dk_at dksX0_made_4 13 rfl rfl)
abbrev cX0_ask : ByteArray := prog_1_method_25_code
def yX0_ask : MethodName := ⟨RX0, "ask", "(II)I"⟩
def dkwX0_ask_2 : List UInt8 := [180, 0, 30, 180, 0, 143, 180, 0, 181, 27, 28, 79, 29, 172]
abbrev dktX0_ask_2 : List UInt8 := dkwX0_ask_2 ++ []
def dkwX0_ask_1 : List UInt8 := [154, 0, 10, 42, 16, 254, 182, 0, 85, 172, 42, 180, 0, 30, 180, 0, 143, 180, 0, 181, 27, 46, 62, 42]
abbrev dktX0_ask_1 : List UInt8 := dkwX0_ask_1 ++ dktX0_ask_2
def dkwX0_ask_0 : List UInt8 := [27, 3, 16, 9, 184, 0, 57, 153, 0, 18, 42, 180, 0, 30, 180, 0, 143, 27, 28, 182, 0, 175]
abbrev dktX0_ask_0 : List UInt8 := dkwX0_ask_0 ++ dktX0_ask_1
theorem dksX0_ask_0 : cX0_ask.data.toList.drop 0 = dktX0_ask_0 := by decide +kernel
theorem dksX0_ask_1 : cX0_ask.data.toList.drop 22 = dktX0_ask_1 := dk_seg dksX0_ask_0 22 rfl rfl
theorem dksX0_ask_2 : cX0_ask.data.toList.drop 46 = dktX0_ask_2 := dk_seg dksX0_ask_1 24 rfl rfl
theorem dX0_ask_0 : decode cX0_ask 0 = .ok (.iload_n 1, 1) := dk_27 (dk_at dksX0_ask_0 0 rfl rfl)
theorem dX0_ask_1 : decode cX0_ask 1 = .ok (.iconst 0, 1) := dk_3 (dk_at dksX0_ask_0 1 rfl rfl)
theorem dX0_ask_2 : decode cX0_ask 2 = .ok (.bipush 9, 2) := dk_16 9 (dk_at dksX0_ask_0 2 rfl rfl)
theorem dX0_ask_4 : decode cX0_ask 4 = .ok (.invokestatic 57, 3) := dk_184 0 57 (dk_at dksX0_ask_0 4 rfl rfl)
theorem dX0_ask_7 : decode cX0_ask 7 = .ok (.ifCond .eq 18, 3) := dk_153 0 18 (dk_at dksX0_ask_0 7 rfl rfl)
theorem dX0_ask_10 : decode cX0_ask 10 = .ok (.aload_n 0, 1) := dk_42 (dk_at dksX0_ask_0 10 rfl rfl)
theorem dX0_ask_11 : decode cX0_ask 11 = .ok (.getfield 30, 3) := dk_180 0 30 (dk_at dksX0_ask_0 11 rfl rfl)
theorem dX0_ask_14 : decode cX0_ask 14 = .ok (.getfield 143, 3) := dk_180 0 143 (dk_at dksX0_ask_0 14 rfl rfl)
theorem dX0_ask_17 : decode cX0_ask 17 = .ok (.iload_n 1, 1) := dk_27 (dk_at dksX0_ask_0 17 rfl rfl)
theorem dX0_ask_18 : decode cX0_ask 18 = .ok (.iload_n 2, 1) := dk_28 (dk_at dksX0_ask_0 18 rfl rfl)
theorem dX0_ask_19 : decode cX0_ask 19 = .ok (.invokevirtual 175, 3) := dk_182 0 175 (dk_at dksX0_ask_0 19 rfl rfl)
theorem dX0_ask_22 : decode cX0_ask 22 = .ok (.ifCond .ne 10, 3) := dk_154 0 10 (dk_at dksX0_ask_1 0 rfl rfl)
theorem dX0_ask_25 : decode cX0_ask 25 = .ok (.aload_n 0, 1) := dk_42 (dk_at dksX0_ask_1 3 rfl rfl)
theorem dX0_ask_26 : decode cX0_ask 26 = .ok (.bipush (-2), 2) := dk_16 254 (dk_at dksX0_ask_1 4 rfl rfl)
theorem dX0_ask_28 : decode cX0_ask 28 = .ok (.invokevirtual 85, 3) := dk_182 0 85 (dk_at dksX0_ask_1 6 rfl rfl)
theorem dX0_ask_31 : decode cX0_ask 31 = .ok (.ireturn, 1) := dk_172 (dk_at dksX0_ask_1 9 rfl rfl)
theorem dX0_ask_32 : decode cX0_ask 32 = .ok (.aload_n 0, 1) := dk_42 (dk_at dksX0_ask_1 10 rfl rfl)
theorem dX0_ask_33 : decode cX0_ask 33 = .ok (.getfield 30, 3) := dk_180 0 30 (dk_at dksX0_ask_1 11 rfl rfl)
theorem dX0_ask_36 : decode cX0_ask 36 = .ok (.getfield 143, 3) := dk_180 0 143 (dk_at dksX0_ask_1 14 rfl rfl)
theorem dX0_ask_39 : decode cX0_ask 39 = .ok (.getfield 181, 3) := dk_180 0 181 (dk_at dksX0_ask_1 17 rfl rfl)
theorem dX0_ask_42 : decode cX0_ask 42 = .ok (.iload_n 1, 1) := dk_27 (dk_at dksX0_ask_1 20 rfl rfl)
theorem dX0_ask_43 : decode cX0_ask 43 = .ok (.iaload, 1) := dk_46 (dk_at dksX0_ask_1 21 rfl rfl)
theorem dX0_ask_44 : decode cX0_ask 44 = .ok (.istore_n 3, 1) := dk_62 (dk_at dksX0_ask_1 22 rfl rfl)
theorem dX0_ask_45 : decode cX0_ask 45 = .ok (.aload_n 0, 1) := dk_42 (dk_at dksX0_ask_1 23 rfl rfl)
theorem dX0_ask_46 : decode cX0_ask 46 = .ok (.getfield 30, 3) := dk_180 0 30 (dk_at dksX0_ask_2 0 rfl rfl)
theorem dX0_ask_49 : decode cX0_ask 49 = .ok (.getfield 143, 3) := dk_180 0 143 (dk_at dksX0_ask_2 3 rfl rfl)
theorem dX0_ask_52 : decode cX0_ask 52 = .ok (.getfield 181, 3) := dk_180 0 181 (dk_at dksX0_ask_2 6 rfl rfl)
theorem dX0_ask_55 : decode cX0_ask 55 = .ok (.iload_n 1, 1) := dk_27 (dk_at dksX0_ask_2 9 rfl rfl)
theorem dX0_ask_56 : decode cX0_ask 56 = .ok (.iload_n 2, 1) := dk_28 (dk_at dksX0_ask_2 10 rfl rfl)
theorem dX0_ask_57 : decode cX0_ask 57 = .ok (.iastore, 1) := dk_79 (dk_at dksX0_ask_2 11 rfl rfl)
theorem dX0_ask_58 : decode cX0_ask 58 = .ok (.iload_n 3, 1) := dk_29 (dk_at dksX0_ask_2 12 rfl rfl)
theorem dX0_ask_59 : decode cX0_ask 59 = .ok (.ireturn, 1) := dk_172 (dk_at dksX0_ask_2 13 rfl rfl)
abbrev cX0_put : ByteArray := prog_1_method_26_code
def yX0_put : MethodName := ⟨RX0, "put", "(IIZ)I"⟩
def dkwX0_put_2 : List UInt8 := [28, 29, 182, 0, 191, 21, 4, 29, 160, 0, 7, 3, 167, 0, 4, 4, 172]
abbrev dktX0_put_2 : List UInt8 := dkwX0_put_2 ++ []
def dkwX0_put_1 : List UInt8 := [42, 180, 0, 30, 180, 0, 147, 27, 50, 28, 182, 0, 187, 54, 4, 42, 180, 0, 30, 180, 0, 147, 27, 50]
abbrev dktX0_put_1 : List UInt8 := dkwX0_put_1 ++ dktX0_put_2
def dkwX0_put_0 : List UInt8 := [42, 27, 182, 0, 184, 153, 0, 12, 28, 3, 5, 184, 0, 57, 154, 0, 10, 42, 16, 254, 182, 0, 85, 172]
abbrev dktX0_put_0 : List UInt8 := dkwX0_put_0 ++ dktX0_put_1
theorem dksX0_put_0 : cX0_put.data.toList.drop 0 = dktX0_put_0 := by decide +kernel
theorem dksX0_put_1 : cX0_put.data.toList.drop 24 = dktX0_put_1 := dk_seg dksX0_put_0 24 rfl rfl
theorem dksX0_put_2 : cX0_put.data.toList.drop 48 = dktX0_put_2 := dk_seg dksX0_put_1 24 rfl rfl
theorem dX0_put_0 : decode cX0_put 0 = .ok (.aload_n 0, 1) := dk_42 (dk_at dksX0_put_0 0 rfl rfl)
theorem dX0_put_1 : decode cX0_put 1 = .ok (.iload_n 1, 1) := dk_27 (dk_at dksX0_put_0 1 rfl rfl)
theorem dX0_put_2 : decode cX0_put 2 = .ok (.invokevirtual 184, 3) := dk_182 0 184 (dk_at dksX0_put_0 2 rfl rfl)
theorem dX0_put_5 : decode cX0_put 5 = .ok (.ifCond .eq 12, 3) := dk_153 0 12 (dk_at dksX0_put_0 5 rfl rfl)
theorem dX0_put_8 : decode cX0_put 8 = .ok (.iload_n 2, 1) := dk_28 (dk_at dksX0_put_0 8 rfl rfl)
theorem dX0_put_9 : decode cX0_put 9 = .ok (.iconst 0, 1) := dk_3 (dk_at dksX0_put_0 9 rfl rfl)
theorem dX0_put_10 : decode cX0_put 10 = .ok (.iconst 2, 1) := dk_5 (dk_at dksX0_put_0 10 rfl rfl)
theorem dX0_put_11 : decode cX0_put 11 = .ok (.invokestatic 57, 3) := dk_184 0 57 (dk_at dksX0_put_0 11 rfl rfl)
theorem dX0_put_14 : decode cX0_put 14 = .ok (.ifCond .ne 10, 3) := dk_154 0 10 (dk_at dksX0_put_0 14 rfl rfl)
theorem dX0_put_17 : decode cX0_put 17 = .ok (.aload_n 0, 1) := dk_42 (dk_at dksX0_put_0 17 rfl rfl)
theorem dX0_put_18 : decode cX0_put 18 = .ok (.bipush (-2), 2) := dk_16 254 (dk_at dksX0_put_0 18 rfl rfl)
theorem dX0_put_20 : decode cX0_put 20 = .ok (.invokevirtual 85, 3) := dk_182 0 85 (dk_at dksX0_put_0 20 rfl rfl)
theorem dX0_put_23 : decode cX0_put 23 = .ok (.ireturn, 1) := dk_172 (dk_at dksX0_put_0 23 rfl rfl)
theorem dX0_put_24 : decode cX0_put 24 = .ok (.aload_n 0, 1) := dk_42 (dk_at dksX0_put_1 0 rfl rfl)
theorem dX0_put_25 : decode cX0_put 25 = .ok (.getfield 30, 3) := dk_180 0 30 (dk_at dksX0_put_1 1 rfl rfl)
theorem dX0_put_28 : decode cX0_put 28 = .ok (.getfield 147, 3) := dk_180 0 147 (dk_at dksX0_put_1 4 rfl rfl)
theorem dX0_put_31 : decode cX0_put 31 = .ok (.iload_n 1, 1) := dk_27 (dk_at dksX0_put_1 7 rfl rfl)
theorem dX0_put_32 : decode cX0_put 32 = .ok (.aaload, 1) := dk_50 (dk_at dksX0_put_1 8 rfl rfl)
theorem dX0_put_33 : decode cX0_put 33 = .ok (.iload_n 2, 1) := dk_28 (dk_at dksX0_put_1 9 rfl rfl)
theorem dX0_put_34 : decode cX0_put 34 = .ok (.invokevirtual 187, 3) := dk_182 0 187 (dk_at dksX0_put_1 10 rfl rfl)
theorem dX0_put_37 : decode cX0_put 37 = .ok (.istore 4, 2) := dk_54 4 (dk_at dksX0_put_1 13 rfl rfl)
theorem dX0_put_39 : decode cX0_put 39 = .ok (.aload_n 0, 1) := dk_42 (dk_at dksX0_put_1 15 rfl rfl)
theorem dX0_put_40 : decode cX0_put 40 = .ok (.getfield 30, 3) := dk_180 0 30 (dk_at dksX0_put_1 16 rfl rfl)
theorem dX0_put_43 : decode cX0_put 43 = .ok (.getfield 147, 3) := dk_180 0 147 (dk_at dksX0_put_1 19 rfl rfl)
theorem dX0_put_46 : decode cX0_put 46 = .ok (.iload_n 1, 1) := dk_27 (dk_at dksX0_put_1 22 rfl rfl)
theorem dX0_put_47 : decode cX0_put 47 = .ok (.aaload, 1) := dk_50 (dk_at dksX0_put_1 23 rfl rfl)
theorem dX0_put_48 : decode cX0_put 48 = .ok (.iload_n 2, 1) := dk_28 (dk_at dksX0_put_2 0 rfl rfl)
theorem dX0_put_49 : decode cX0_put 49 = .ok (.iload_n 3, 1) := dk_29 (dk_at dksX0_put_2 1 rfl rfl)
theorem dX0_put_50 : decode cX0_put 50 = .ok (.invokevirtual 191, 3) := dk_182 0 191 (dk_at dksX0_put_2 2 rfl rfl)
theorem dX0_put_53 : decode cX0_put 53 = .ok (.iload 4, 2) := dk_21 4 (dk_at dksX0_put_2 5 rfl rfl)
theorem dX0_put_55 : decode cX0_put 55 = .ok (.iload_n 3, 1) := dk_29 (dk_at dksX0_put_2 7 rfl rfl)
theorem dX0_put_56 : decode cX0_put 56 = .ok (.if_icmp .ne 7, 3) := dk_160 0 7 (dk_at dksX0_put_2 8 rfl rfl)
theorem dX0_put_59 : decode cX0_put 59 = .ok (.iconst 0, 1) := dk_3 (dk_at dksX0_put_2 11 rfl rfl)
theorem dX0_put_60 : decode cX0_put 60 = .ok (.goto 4, 3) := dk_167 0 4 (dk_at dksX0_put_2 12 rfl rfl)
theorem dX0_put_63 : decode cX0_put 63 = .ok (.iconst 1, 1) := dk_4 (dk_at dksX0_put_2 15 rfl rfl)
theorem dX0_put_64 : decode cX0_put 64 = .ok (.ireturn, 1) := dk_172 (dk_at dksX0_put_2 16 rfl rfl)
abbrev cX0_isStep : ByteArray := prog_1_method_7_code
def yX0_isStep : MethodName := ⟨RX0, "isStep", "(I)Z"⟩
def dkwX0_isStep_0 : List UInt8 := [27, 3, 42, 180, 0, 30, 180, 0, 61, 4, 100, 184, 0, 57, 172]
abbrev dktX0_isStep_0 : List UInt8 := dkwX0_isStep_0 ++ []
theorem dksX0_isStep_0 : cX0_isStep.data.toList.drop 0 = dktX0_isStep_0 := by decide +kernel
theorem dX0_isStep_0 : decode cX0_isStep 0 = .ok (.iload_n 1, 1) := dk_27 (dk_at dksX0_isStep_0 0 rfl rfl)
theorem dX0_isStep_1 : decode cX0_isStep 1 = .ok (.iconst 0, 1) := dk_3 (dk_at dksX0_isStep_0 1 rfl rfl)
theorem dX0_isStep_2 : decode cX0_isStep 2 = .ok (.aload_n 0, 1) := dk_42 (dk_at dksX0_isStep_0 2 rfl rfl)
theorem dX0_isStep_3 : decode cX0_isStep 3 = .ok (.getfield 30, 3) := dk_180 0 30 (dk_at dksX0_isStep_0 3 rfl rfl)
theorem dX0_isStep_6 : decode cX0_isStep 6 = .ok (.getfield 61, 3) := dk_180 0 61 (dk_at dksX0_isStep_0 6 rfl rfl)
theorem dX0_isStep_9 : decode cX0_isStep 9 = .ok (.iconst 1, 1) := dk_4 (dk_at dksX0_isStep_0 9 rfl rfl)
theorem dX0_isStep_10 : decode cX0_isStep 10 = .ok (.isub, 1) := dk_100 (dk_at dksX0_isStep_0 10 rfl rfl)
theorem dX0_isStep_11 : decode cX0_isStep 11 = .ok (.invokestatic 57, 3) := dk_184 0 57 (dk_at dksX0_isStep_0 11 rfl rfl)
theorem dX0_isStep_14 : decode cX0_isStep 14 = .ok (.ireturn, 1) := dk_172 (dk_at dksX0_isStep_0 14 rfl rfl)
abbrev cX0_rise : ByteArray := prog_1_method_27_code
def yX0_rise : MethodName := ⟨RX0, "rise", "(II)I"⟩
def dkwX0_rise_2 : List UInt8 := [181, 0, 194, 29, 172]
abbrev dktX0_rise_2 : List UInt8 := dkwX0_rise_2 ++ []
def dkwX0_rise_1 : List UInt8 := [172, 42, 180, 0, 30, 180, 0, 147, 27, 50, 180, 0, 194, 62, 42, 180, 0, 30, 180, 0, 147, 27, 50, 28]
abbrev dktX0_rise_1 : List UInt8 := dkwX0_rise_1 ++ dktX0_rise_2
def dkwX0_rise_0 : List UInt8 := [42, 27, 182, 0, 184, 153, 0, 13, 28, 4, 16, 20, 184, 0, 57, 154, 0, 10, 42, 16, 254, 182, 0, 85]
abbrev dktX0_rise_0 : List UInt8 := dkwX0_rise_0 ++ dktX0_rise_1
theorem dksX0_rise_0 : cX0_rise.data.toList.drop 0 = dktX0_rise_0 := by decide +kernel
theorem dksX0_rise_1 : cX0_rise.data.toList.drop 24 = dktX0_rise_1 := dk_seg dksX0_rise_0 24 rfl rfl
theorem dksX0_rise_2 : cX0_rise.data.toList.drop 48 = dktX0_rise_2 := dk_seg dksX0_rise_1 24 rfl rfl
theorem dX0_rise_0 : decode cX0_rise 0 = .ok (.aload_n 0, 1) := dk_42 (dk_at dksX0_rise_0 0 rfl rfl)
theorem dX0_rise_1 : decode cX0_rise 1 = .ok (.iload_n 1, 1) := dk_27 (dk_at dksX0_rise_0 1 rfl rfl)
theorem dX0_rise_2 : decode cX0_rise 2 = .ok (.invokevirtual 184, 3) := dk_182 0 184 (dk_at dksX0_rise_0 2 rfl rfl)
theorem dX0_rise_5 : decode cX0_rise 5 = .ok (.ifCond .eq 13, 3) := dk_153 0 13 (dk_at dksX0_rise_0 5 rfl rfl)
theorem dX0_rise_8 : decode cX0_rise 8 = .ok (.iload_n 2, 1) := dk_28 (dk_at dksX0_rise_0 8 rfl rfl)
theorem dX0_rise_9 : decode cX0_rise 9 = .ok (.iconst 1, 1) := dk_4 (dk_at dksX0_rise_0 9 rfl rfl)
theorem dX0_rise_10 : decode cX0_rise 10 = .ok (.bipush 20, 2) := dk_16 20 (dk_at dksX0_rise_0 10 rfl rfl)
theorem dX0_rise_12 : decode cX0_rise 12 = .ok (.invokestatic 57, 3) := dk_184 0 57 (dk_at dksX0_rise_0 12 rfl rfl)
theorem dX0_rise_15 : decode cX0_rise 15 = .ok (.ifCond .ne 10, 3) := dk_154 0 10 (dk_at dksX0_rise_0 15 rfl rfl)
theorem dX0_rise_18 : decode cX0_rise 18 = .ok (.aload_n 0, 1) := dk_42 (dk_at dksX0_rise_0 18 rfl rfl)
theorem dX0_rise_19 : decode cX0_rise 19 = .ok (.bipush (-2), 2) := dk_16 254 (dk_at dksX0_rise_0 19 rfl rfl)
theorem dX0_rise_21 : decode cX0_rise 21 = .ok (.invokevirtual 85, 3) := dk_182 0 85 (dk_at dksX0_rise_0 21 rfl rfl)
theorem dX0_rise_24 : decode cX0_rise 24 = .ok (.ireturn, 1) := dk_172 (dk_at dksX0_rise_1 0 rfl rfl)
theorem dX0_rise_25 : decode cX0_rise 25 = .ok (.aload_n 0, 1) := dk_42 (dk_at dksX0_rise_1 1 rfl rfl)
theorem dX0_rise_26 : decode cX0_rise 26 = .ok (.getfield 30, 3) := dk_180 0 30 (dk_at dksX0_rise_1 2 rfl rfl)
theorem dX0_rise_29 : decode cX0_rise 29 = .ok (.getfield 147, 3) := dk_180 0 147 (dk_at dksX0_rise_1 5 rfl rfl)
theorem dX0_rise_32 : decode cX0_rise 32 = .ok (.iload_n 1, 1) := dk_27 (dk_at dksX0_rise_1 8 rfl rfl)
theorem dX0_rise_33 : decode cX0_rise 33 = .ok (.aaload, 1) := dk_50 (dk_at dksX0_rise_1 9 rfl rfl)
theorem dX0_rise_34 : decode cX0_rise 34 = .ok (.getfield 194, 3) := dk_180 0 194 (dk_at dksX0_rise_1 10 rfl rfl)
theorem dX0_rise_37 : decode cX0_rise 37 = .ok (.istore_n 3, 1) := dk_62 (dk_at dksX0_rise_1 13 rfl rfl)
theorem dX0_rise_38 : decode cX0_rise 38 = .ok (.aload_n 0, 1) := dk_42 (dk_at dksX0_rise_1 14 rfl rfl)
theorem dX0_rise_39 : decode cX0_rise 39 = .ok (.getfield 30, 3) := dk_180 0 30 (dk_at dksX0_rise_1 15 rfl rfl)
theorem dX0_rise_42 : decode cX0_rise 42 = .ok (.getfield 147, 3) := dk_180 0 147 (dk_at dksX0_rise_1 18 rfl rfl)
theorem dX0_rise_45 : decode cX0_rise 45 = .ok (.iload_n 1, 1) := dk_27 (dk_at dksX0_rise_1 21 rfl rfl)
theorem dX0_rise_46 : decode cX0_rise 46 = .ok (.aaload, 1) := dk_50 (dk_at dksX0_rise_1 22 rfl rfl)
theorem dX0_rise_47 : decode cX0_rise 47 = .ok (.iload_n 2, 1) := dk_28 (dk_at dksX0_rise_1 23 rfl rfl)
theorem dX0_rise_48 : decode cX0_rise 48 = .ok (.putfield 194, 3) := dk_181 0 194 (dk_at dksX0_rise_2 0 rfl rfl)
theorem dX0_rise_51 : decode cX0_rise 51 = .ok (.iload_n 3, 1) := dk_29 (dk_at dksX0_rise_2 3 rfl rfl)
theorem dX0_rise_52 : decode cX0_rise 52 = .ok (.ireturn, 1) := dk_172 (dk_at dksX0_rise_2 4 rfl rfl)
abbrev cX0_feed : ByteArray := prog_1_method_28_code
def yX0_feed : MethodName := ⟨RX0, "feed", "(I)I"⟩
def dkwX0_feed_2 : List UInt8 := [89, 180, 0, 197, 4, 96, 181, 0, 197, 42, 180, 0, 197, 172]
abbrev dktX0_feed_2 : List UInt8 := dkwX0_feed_2 ++ []
def dkwX0_feed_1 : List UInt8 := [17, 0, 250, 160, 0, 10, 42, 16, 250, 182, 0, 85, 172, 42, 180, 0, 49, 42, 180, 0, 197, 27, 79, 42]
abbrev dktX0_feed_1 : List UInt8 := dkwX0_feed_1 ++ dktX0_feed_2
def dkwX0_feed_0 : List UInt8 := [27, 3, 17, 0, 255, 184, 0, 57, 154, 0, 10, 42, 16, 254, 182, 0, 85, 172, 42, 180, 0, 197]
abbrev dktX0_feed_0 : List UInt8 := dkwX0_feed_0 ++ dktX0_feed_1
theorem dksX0_feed_0 : cX0_feed.data.toList.drop 0 = dktX0_feed_0 := by decide +kernel
theorem dksX0_feed_1 : cX0_feed.data.toList.drop 22 = dktX0_feed_1 := dk_seg dksX0_feed_0 22 rfl rfl
theorem dksX0_feed_2 : cX0_feed.data.toList.drop 46 = dktX0_feed_2 := dk_seg dksX0_feed_1 24 rfl rfl
theorem dX0_feed_0 : decode cX0_feed 0 = .ok (.iload_n 1, 1) := dk_27 (dk_at dksX0_feed_0 0 rfl rfl)
theorem dX0_feed_1 : decode cX0_feed 1 = .ok (.iconst 0, 1) := dk_3 (dk_at dksX0_feed_0 1 rfl rfl)
theorem dX0_feed_2 : decode cX0_feed 2 = .ok (.sipush 255, 3) := dk_17 0 255 (dk_at dksX0_feed_0 2 rfl rfl)
theorem dX0_feed_5 : decode cX0_feed 5 = .ok (.invokestatic 57, 3) := dk_184 0 57 (dk_at dksX0_feed_0 5 rfl rfl)
theorem dX0_feed_8 : decode cX0_feed 8 = .ok (.ifCond .ne 10, 3) := dk_154 0 10 (dk_at dksX0_feed_0 8 rfl rfl)
theorem dX0_feed_11 : decode cX0_feed 11 = .ok (.aload_n 0, 1) := dk_42 (dk_at dksX0_feed_0 11 rfl rfl)
theorem dX0_feed_12 : decode cX0_feed 12 = .ok (.bipush (-2), 2) := dk_16 254 (dk_at dksX0_feed_0 12 rfl rfl)
theorem dX0_feed_14 : decode cX0_feed 14 = .ok (.invokevirtual 85, 3) := dk_182 0 85 (dk_at dksX0_feed_0 14 rfl rfl)
theorem dX0_feed_17 : decode cX0_feed 17 = .ok (.ireturn, 1) := dk_172 (dk_at dksX0_feed_0 17 rfl rfl)
theorem dX0_feed_18 : decode cX0_feed 18 = .ok (.aload_n 0, 1) := dk_42 (dk_at dksX0_feed_0 18 rfl rfl)
theorem dX0_feed_19 : decode cX0_feed 19 = .ok (.getfield 197, 3) := dk_180 0 197 (dk_at dksX0_feed_0 19 rfl rfl)
theorem dX0_feed_22 : decode cX0_feed 22 = .ok (.sipush 250, 3) := dk_17 0 250 (dk_at dksX0_feed_1 0 rfl rfl)
theorem dX0_feed_25 : decode cX0_feed 25 = .ok (.if_icmp .ne 10, 3) := dk_160 0 10 (dk_at dksX0_feed_1 3 rfl rfl)
theorem dX0_feed_28 : decode cX0_feed 28 = .ok (.aload_n 0, 1) := dk_42 (dk_at dksX0_feed_1 6 rfl rfl)
theorem dX0_feed_29 : decode cX0_feed 29 = .ok (.bipush (-6), 2) := dk_16 250 (dk_at dksX0_feed_1 7 rfl rfl)
theorem dX0_feed_31 : decode cX0_feed 31 = .ok (.invokevirtual 85, 3) := dk_182 0 85 (dk_at dksX0_feed_1 9 rfl rfl)
theorem dX0_feed_34 : decode cX0_feed 34 = .ok (.ireturn, 1) := dk_172 (dk_at dksX0_feed_1 12 rfl rfl)
theorem dX0_feed_35 : decode cX0_feed 35 = .ok (.aload_n 0, 1) := dk_42 (dk_at dksX0_feed_1 13 rfl rfl)
theorem dX0_feed_36 : decode cX0_feed 36 = .ok (.getfield 49, 3) := dk_180 0 49 (dk_at dksX0_feed_1 14 rfl rfl)
theorem dX0_feed_39 : decode cX0_feed 39 = .ok (.aload_n 0, 1) := dk_42 (dk_at dksX0_feed_1 17 rfl rfl)
theorem dX0_feed_40 : decode cX0_feed 40 = .ok (.getfield 197, 3) := dk_180 0 197 (dk_at dksX0_feed_1 18 rfl rfl)
theorem dX0_feed_43 : decode cX0_feed 43 = .ok (.iload_n 1, 1) := dk_27 (dk_at dksX0_feed_1 21 rfl rfl)
theorem dX0_feed_44 : decode cX0_feed 44 = .ok (.iastore, 1) := dk_79 (dk_at dksX0_feed_1 22 rfl rfl)
theorem dX0_feed_45 : decode cX0_feed 45 = .ok (.aload_n 0, 1) := dk_42 (dk_at dksX0_feed_1 23 rfl rfl)
theorem dX0_feed_46 : decode cX0_feed 46 = .ok (.dup, 1) := dk_89 (dk_at dksX0_feed_2 0 rfl rfl)
theorem dX0_feed_47 : decode cX0_feed 47 = .ok (.getfield 197, 3) := dk_180 0 197 (dk_at dksX0_feed_2 1 rfl rfl)
theorem dX0_feed_50 : decode cX0_feed 50 = .ok (.iconst 1, 1) := dk_4 (dk_at dksX0_feed_2 4 rfl rfl)
theorem dX0_feed_51 : decode cX0_feed 51 = .ok (.iadd, 1) := dk_96 (dk_at dksX0_feed_2 5 rfl rfl)
theorem dX0_feed_52 : decode cX0_feed 52 = .ok (.putfield 197, 3) := dk_181 0 197 (dk_at dksX0_feed_2 6 rfl rfl)
theorem dX0_feed_55 : decode cX0_feed 55 = .ok (.aload_n 0, 1) := dk_42 (dk_at dksX0_feed_2 9 rfl rfl)
theorem dX0_feed_56 : decode cX0_feed 56 = .ok (.getfield 197, 3) := dk_180 0 197 (dk_at dksX0_feed_2 10 rfl rfl)
theorem dX0_feed_59 : decode cX0_feed 59 = .ok (.ireturn, 1) := dk_172 (dk_at dksX0_feed_2 13 rfl rfl)
abbrev cX0_wipe : ByteArray := prog_1_method_29_code
def yX0_wipe : MethodName := ⟨RX0, "wipe", "()I"⟩
def dkwX0_wipe_0 : List UInt8 := [42, 180, 0, 197, 60, 42, 3, 181, 0, 197, 27, 172]
abbrev dktX0_wipe_0 : List UInt8 := dkwX0_wipe_0 ++ []
theorem dksX0_wipe_0 : cX0_wipe.data.toList.drop 0 = dktX0_wipe_0 := by decide +kernel
theorem dX0_wipe_0 : decode cX0_wipe 0 = .ok (.aload_n 0, 1) := dk_42 (dk_at dksX0_wipe_0 0 rfl rfl)
theorem dX0_wipe_1 : decode cX0_wipe 1 = .ok (.getfield 197, 3) := dk_180 0 197 (dk_at dksX0_wipe_0 1 rfl rfl)
theorem dX0_wipe_4 : decode cX0_wipe 4 = .ok (.istore_n 1, 1) := dk_60 (dk_at dksX0_wipe_0 4 rfl rfl)
theorem dX0_wipe_5 : decode cX0_wipe 5 = .ok (.aload_n 0, 1) := dk_42 (dk_at dksX0_wipe_0 5 rfl rfl)
theorem dX0_wipe_6 : decode cX0_wipe 6 = .ok (.iconst 0, 1) := dk_3 (dk_at dksX0_wipe_0 6 rfl rfl)
theorem dX0_wipe_7 : decode cX0_wipe 7 = .ok (.putfield 197, 3) := dk_181 0 197 (dk_at dksX0_wipe_0 7 rfl rfl)
theorem dX0_wipe_10 : decode cX0_wipe 10 = .ok (.iload_n 1, 1) := dk_27 (dk_at dksX0_wipe_0 10 rfl rfl)
theorem dX0_wipe_11 : decode cX0_wipe 11 = .ok (.ireturn, 1) := dk_172 (dk_at dksX0_wipe_0 11 rfl rfl)
abbrev cX0_stair : ByteArray := prog_1_method_30_code
def yX0_stair : MethodName := ⟨RX0, "stair", "()I"⟩
def dkwX0_stair_3 : List UInt8 := [3, 181, 0, 197, 25, 4, 191]
abbrev dktX0_stair_3 : List UInt8 := dkwX0_stair_3 ++ []
def dkwX0_stair_2 : List UInt8 := [16, 254, 182, 0, 85, 87, 16, 236, 43, 180, 0, 218, 100, 61, 42, 3, 181, 0, 197, 28, 172, 58, 4, 42]
abbrev dktX0_stair_2 : List UInt8 := dkwX0_stair_2 ++ dktX0_stair_3
def dkwX0_stair_1 : List UInt8 := [182, 0, 209, 61, 42, 43, 180, 0, 213, 181, 0, 30, 28, 62, 42, 3, 181, 0, 197, 29, 172, 76, 42]
abbrev dktX0_stair_1 : List UInt8 := dkwX0_stair_1 ++ dktX0_stair_2
def dkwX0_stair_0 : List UInt8 := [187, 0, 200, 89, 42, 180, 0, 49, 42, 180, 0, 197, 42, 180, 0, 30, 182, 0, 202, 183, 0, 206, 76, 43]
abbrev dktX0_stair_0 : List UInt8 := dkwX0_stair_0 ++ dktX0_stair_1
theorem dksX0_stair_0 : cX0_stair.data.toList.drop 0 = dktX0_stair_0 := by decide +kernel
theorem dksX0_stair_1 : cX0_stair.data.toList.drop 24 = dktX0_stair_1 := dk_seg dksX0_stair_0 24 rfl rfl
theorem dksX0_stair_2 : cX0_stair.data.toList.drop 47 = dktX0_stair_2 := dk_seg dksX0_stair_1 23 rfl rfl
theorem dksX0_stair_3 : cX0_stair.data.toList.drop 71 = dktX0_stair_3 := dk_seg dksX0_stair_2 24 rfl rfl
theorem dX0_stair_0 : decode cX0_stair 0 = .ok (.new 200, 3) := dk_187 0 200 (dk_at dksX0_stair_0 0 rfl rfl)
theorem dX0_stair_3 : decode cX0_stair 3 = .ok (.dup, 1) := dk_89 (dk_at dksX0_stair_0 3 rfl rfl)
theorem dX0_stair_4 : decode cX0_stair 4 = .ok (.aload_n 0, 1) := dk_42 (dk_at dksX0_stair_0 4 rfl rfl)
theorem dX0_stair_5 : decode cX0_stair 5 = .ok (.getfield 49, 3) := dk_180 0 49 (dk_at dksX0_stair_0 5 rfl rfl)
theorem dX0_stair_8 : decode cX0_stair 8 = .ok (.aload_n 0, 1) := dk_42 (dk_at dksX0_stair_0 8 rfl rfl)
theorem dX0_stair_9 : decode cX0_stair 9 = .ok (.getfield 197, 3) := dk_180 0 197 (dk_at dksX0_stair_0 9 rfl rfl)
theorem dX0_stair_12 : decode cX0_stair 12 = .ok (.aload_n 0, 1) := dk_42 (dk_at dksX0_stair_0 12 rfl rfl)
theorem dX0_stair_13 : decode cX0_stair 13 = .ok (.getfield 30, 3) := dk_180 0 30 (dk_at dksX0_stair_0 13 rfl rfl)
theorem dX0_stair_16 : decode cX0_stair 16 = .ok (.invokevirtual 202, 3) := dk_182 0 202 (dk_at dksX0_stair_0 16 rfl rfl)
theorem dX0_stair_19 : decode cX0_stair 19 = .ok (.invokespecial 206, 3) := dk_183 0 206 (dk_at dksX0_stair_0 19 rfl rfl)
theorem dX0_stair_22 : decode cX0_stair 22 = .ok (.astore_n 1, 1) := dk_76 (dk_at dksX0_stair_0 22 rfl rfl)
theorem dX0_stair_23 : decode cX0_stair 23 = .ok (.aload_n 1, 1) := dk_43 (dk_at dksX0_stair_0 23 rfl rfl)
theorem dX0_stair_24 : decode cX0_stair 24 = .ok (.invokevirtual 209, 3) := dk_182 0 209 (dk_at dksX0_stair_1 0 rfl rfl)
theorem dX0_stair_27 : decode cX0_stair 27 = .ok (.istore_n 2, 1) := dk_61 (dk_at dksX0_stair_1 3 rfl rfl)
theorem dX0_stair_28 : decode cX0_stair 28 = .ok (.aload_n 0, 1) := dk_42 (dk_at dksX0_stair_1 4 rfl rfl)
theorem dX0_stair_29 : decode cX0_stair 29 = .ok (.aload_n 1, 1) := dk_43 (dk_at dksX0_stair_1 5 rfl rfl)
theorem dX0_stair_30 : decode cX0_stair 30 = .ok (.getfield 213, 3) := dk_180 0 213 (dk_at dksX0_stair_1 6 rfl rfl)
theorem dX0_stair_33 : decode cX0_stair 33 = .ok (.putfield 30, 3) := dk_181 0 30 (dk_at dksX0_stair_1 9 rfl rfl)
theorem dX0_stair_36 : decode cX0_stair 36 = .ok (.iload_n 2, 1) := dk_28 (dk_at dksX0_stair_1 12 rfl rfl)
theorem dX0_stair_37 : decode cX0_stair 37 = .ok (.istore_n 3, 1) := dk_62 (dk_at dksX0_stair_1 13 rfl rfl)
theorem dX0_stair_38 : decode cX0_stair 38 = .ok (.aload_n 0, 1) := dk_42 (dk_at dksX0_stair_1 14 rfl rfl)
theorem dX0_stair_39 : decode cX0_stair 39 = .ok (.iconst 0, 1) := dk_3 (dk_at dksX0_stair_1 15 rfl rfl)
theorem dX0_stair_40 : decode cX0_stair 40 = .ok (.putfield 197, 3) := dk_181 0 197 (dk_at dksX0_stair_1 16 rfl rfl)
theorem dX0_stair_43 : decode cX0_stair 43 = .ok (.iload_n 3, 1) := dk_29 (dk_at dksX0_stair_1 19 rfl rfl)
theorem dX0_stair_44 : decode cX0_stair 44 = .ok (.ireturn, 1) := dk_172 (dk_at dksX0_stair_1 20 rfl rfl)
theorem dX0_stair_45 : decode cX0_stair 45 = .ok (.astore_n 1, 1) := dk_76 (dk_at dksX0_stair_1 21 rfl rfl)
theorem dX0_stair_46 : decode cX0_stair 46 = .ok (.aload_n 0, 1) := dk_42 (dk_at dksX0_stair_1 22 rfl rfl)
theorem dX0_stair_47 : decode cX0_stair 47 = .ok (.bipush (-2), 2) := dk_16 254 (dk_at dksX0_stair_2 0 rfl rfl)
theorem dX0_stair_49 : decode cX0_stair 49 = .ok (.invokevirtual 85, 3) := dk_182 0 85 (dk_at dksX0_stair_2 2 rfl rfl)
theorem dX0_stair_52 : decode cX0_stair 52 = .ok (.pop, 1) := dk_87 (dk_at dksX0_stair_2 5 rfl rfl)
theorem dX0_stair_53 : decode cX0_stair 53 = .ok (.bipush (-20), 2) := dk_16 236 (dk_at dksX0_stair_2 6 rfl rfl)
theorem dX0_stair_55 : decode cX0_stair 55 = .ok (.aload_n 1, 1) := dk_43 (dk_at dksX0_stair_2 8 rfl rfl)
theorem dX0_stair_56 : decode cX0_stair 56 = .ok (.getfield 218, 3) := dk_180 0 218 (dk_at dksX0_stair_2 9 rfl rfl)
theorem dX0_stair_59 : decode cX0_stair 59 = .ok (.isub, 1) := dk_100 (dk_at dksX0_stair_2 12 rfl rfl)
theorem dX0_stair_60 : decode cX0_stair 60 = .ok (.istore_n 2, 1) := dk_61 (dk_at dksX0_stair_2 13 rfl rfl)
theorem dX0_stair_61 : decode cX0_stair 61 = .ok (.aload_n 0, 1) := dk_42 (dk_at dksX0_stair_2 14 rfl rfl)
theorem dX0_stair_62 : decode cX0_stair 62 = .ok (.iconst 0, 1) := dk_3 (dk_at dksX0_stair_2 15 rfl rfl)
theorem dX0_stair_63 : decode cX0_stair 63 = .ok (.putfield 197, 3) := dk_181 0 197 (dk_at dksX0_stair_2 16 rfl rfl)
theorem dX0_stair_66 : decode cX0_stair 66 = .ok (.iload_n 2, 1) := dk_28 (dk_at dksX0_stair_2 19 rfl rfl)
theorem dX0_stair_67 : decode cX0_stair 67 = .ok (.ireturn, 1) := dk_172 (dk_at dksX0_stair_2 20 rfl rfl)
theorem dX0_stair_68 : decode cX0_stair 68 = .ok (.astore 4, 2) := dk_58 4 (dk_at dksX0_stair_2 21 rfl rfl)
theorem dX0_stair_70 : decode cX0_stair 70 = .ok (.aload_n 0, 1) := dk_42 (dk_at dksX0_stair_2 23 rfl rfl)
theorem dX0_stair_71 : decode cX0_stair 71 = .ok (.iconst 0, 1) := dk_3 (dk_at dksX0_stair_3 0 rfl rfl)
theorem dX0_stair_72 : decode cX0_stair 72 = .ok (.putfield 197, 3) := dk_181 0 197 (dk_at dksX0_stair_3 1 rfl rfl)
theorem dX0_stair_75 : decode cX0_stair 75 = .ok (.aload 4, 2) := dk_25 4 (dk_at dksX0_stair_3 4 rfl rfl)
theorem dX0_stair_77 : decode cX0_stair 77 = .ok (.athrow, 1) := dk_191 (dk_at dksX0_stair_3 6 rfl rfl)
abbrev cX0_stepOf : ByteArray := prog_1_method_31_code
def yX0_stepOf : MethodName := ⟨RX0, "stepOf", "(II)I"⟩
def dkwX0_stepOf_5 : List UInt8 := [16, 254, 182, 0, 85, 172]
abbrev dktX0_stepOf_5 : List UInt8 := dkwX0_stepOf_5 ++ []
def dkwX0_stepOf_4 : List UInt8 := [153, 0, 7, 4, 167, 0, 4, 3, 172, 45, 180, 0, 228, 153, 0, 7, 4, 167, 0, 4, 3, 172, 42]
abbrev dktX0_stepOf_4 : List UInt8 := dkwX0_stepOf_4 ++ dktX0_stepOf_5
def dkwX0_stepOf_3 : List UInt8 := [45, 180, 0, 194, 172, 45, 180, 0, 221, 153, 0, 7, 4, 167, 0, 4, 3, 172, 45, 180, 0, 225]
abbrev dktX0_stepOf_3 : List UInt8 := dkwX0_stepOf_3 ++ dktX0_stepOf_4
def dkwX0_stepOf_2 : List UInt8 := [170, 0, 0, 0, 0, 74, 0, 0, 0, 0, 0, 0, 0, 3, 0, 0, 0, 30, 0, 0, 0, 35, 0, 0, 0, 48, 0, 0, 0, 61]
abbrev dktX0_stepOf_2 : List UInt8 := dkwX0_stepOf_2 ++ dktX0_stepOf_3
def dkwX0_stepOf_1 : List UInt8 := [78, 28]
abbrev dktX0_stepOf_1 : List UInt8 := dkwX0_stepOf_1 ++ dktX0_stepOf_2
def dkwX0_stepOf_0 : List UInt8 := [42, 27, 182, 0, 184, 154, 0, 10, 42, 16, 254, 182, 0, 85, 172, 42, 180, 0, 30, 180, 0, 147, 27, 50]
abbrev dktX0_stepOf_0 : List UInt8 := dkwX0_stepOf_0 ++ dktX0_stepOf_1
theorem dksX0_stepOf_0 : cX0_stepOf.data.toList.drop 0 = dktX0_stepOf_0 := by decide +kernel
theorem dksX0_stepOf_1 : cX0_stepOf.data.toList.drop 24 = dktX0_stepOf_1 := dk_seg dksX0_stepOf_0 24 rfl rfl
theorem dksX0_stepOf_2 : cX0_stepOf.data.toList.drop 26 = dktX0_stepOf_2 := dk_seg dksX0_stepOf_1 2 rfl rfl
theorem dksX0_stepOf_3 : cX0_stepOf.data.toList.drop 56 = dktX0_stepOf_3 := dk_seg dksX0_stepOf_2 30 rfl rfl
theorem dksX0_stepOf_4 : cX0_stepOf.data.toList.drop 78 = dktX0_stepOf_4 := dk_seg dksX0_stepOf_3 22 rfl rfl
theorem dksX0_stepOf_5 : cX0_stepOf.data.toList.drop 101 = dktX0_stepOf_5 := dk_seg dksX0_stepOf_4 23 rfl rfl
theorem dX0_stepOf_0 : decode cX0_stepOf 0 = .ok (.aload_n 0, 1) := dk_42 (dk_at dksX0_stepOf_0 0 rfl rfl)
theorem dX0_stepOf_1 : decode cX0_stepOf 1 = .ok (.iload_n 1, 1) := dk_27 (dk_at dksX0_stepOf_0 1 rfl rfl)
theorem dX0_stepOf_2 : decode cX0_stepOf 2 = .ok (.invokevirtual 184, 3) := dk_182 0 184 (dk_at dksX0_stepOf_0 2 rfl rfl)
theorem dX0_stepOf_5 : decode cX0_stepOf 5 = .ok (.ifCond .ne 10, 3) := dk_154 0 10 (dk_at dksX0_stepOf_0 5 rfl rfl)
theorem dX0_stepOf_8 : decode cX0_stepOf 8 = .ok (.aload_n 0, 1) := dk_42 (dk_at dksX0_stepOf_0 8 rfl rfl)
theorem dX0_stepOf_9 : decode cX0_stepOf 9 = .ok (.bipush (-2), 2) := dk_16 254 (dk_at dksX0_stepOf_0 9 rfl rfl)
theorem dX0_stepOf_11 : decode cX0_stepOf 11 = .ok (.invokevirtual 85, 3) := dk_182 0 85 (dk_at dksX0_stepOf_0 11 rfl rfl)
theorem dX0_stepOf_14 : decode cX0_stepOf 14 = .ok (.ireturn, 1) := dk_172 (dk_at dksX0_stepOf_0 14 rfl rfl)
theorem dX0_stepOf_15 : decode cX0_stepOf 15 = .ok (.aload_n 0, 1) := dk_42 (dk_at dksX0_stepOf_0 15 rfl rfl)
theorem dX0_stepOf_16 : decode cX0_stepOf 16 = .ok (.getfield 30, 3) := dk_180 0 30 (dk_at dksX0_stepOf_0 16 rfl rfl)
theorem dX0_stepOf_19 : decode cX0_stepOf 19 = .ok (.getfield 147, 3) := dk_180 0 147 (dk_at dksX0_stepOf_0 19 rfl rfl)
theorem dX0_stepOf_22 : decode cX0_stepOf 22 = .ok (.iload_n 1, 1) := dk_27 (dk_at dksX0_stepOf_0 22 rfl rfl)
theorem dX0_stepOf_23 : decode cX0_stepOf 23 = .ok (.aaload, 1) := dk_50 (dk_at dksX0_stepOf_0 23 rfl rfl)
theorem dX0_stepOf_24 : decode cX0_stepOf 24 = .ok (.astore_n 3, 1) := dk_78 (dk_at dksX0_stepOf_1 0 rfl rfl)
theorem dX0_stepOf_25 : decode cX0_stepOf 25 = .ok (.iload_n 2, 1) := dk_28 (dk_at dksX0_stepOf_1 1 rfl rfl)
theorem dX0_stepOf_26 : decode cX0_stepOf 26 = .ok (.tableswitch 74 0 3 #[30, 35, 48, 61], 30) := by decide +kernel
theorem dX0_stepOf_56 : decode cX0_stepOf 56 = .ok (.aload_n 3, 1) := dk_45 (dk_at dksX0_stepOf_3 0 rfl rfl)
theorem dX0_stepOf_57 : decode cX0_stepOf 57 = .ok (.getfield 194, 3) := dk_180 0 194 (dk_at dksX0_stepOf_3 1 rfl rfl)
theorem dX0_stepOf_60 : decode cX0_stepOf 60 = .ok (.ireturn, 1) := dk_172 (dk_at dksX0_stepOf_3 4 rfl rfl)
theorem dX0_stepOf_61 : decode cX0_stepOf 61 = .ok (.aload_n 3, 1) := dk_45 (dk_at dksX0_stepOf_3 5 rfl rfl)
theorem dX0_stepOf_62 : decode cX0_stepOf 62 = .ok (.getfield 221, 3) := dk_180 0 221 (dk_at dksX0_stepOf_3 6 rfl rfl)
theorem dX0_stepOf_65 : decode cX0_stepOf 65 = .ok (.ifCond .eq 7, 3) := dk_153 0 7 (dk_at dksX0_stepOf_3 9 rfl rfl)
theorem dX0_stepOf_68 : decode cX0_stepOf 68 = .ok (.iconst 1, 1) := dk_4 (dk_at dksX0_stepOf_3 12 rfl rfl)
theorem dX0_stepOf_69 : decode cX0_stepOf 69 = .ok (.goto 4, 3) := dk_167 0 4 (dk_at dksX0_stepOf_3 13 rfl rfl)
theorem dX0_stepOf_72 : decode cX0_stepOf 72 = .ok (.iconst 0, 1) := dk_3 (dk_at dksX0_stepOf_3 16 rfl rfl)
theorem dX0_stepOf_73 : decode cX0_stepOf 73 = .ok (.ireturn, 1) := dk_172 (dk_at dksX0_stepOf_3 17 rfl rfl)
theorem dX0_stepOf_74 : decode cX0_stepOf 74 = .ok (.aload_n 3, 1) := dk_45 (dk_at dksX0_stepOf_3 18 rfl rfl)
theorem dX0_stepOf_75 : decode cX0_stepOf 75 = .ok (.getfield 225, 3) := dk_180 0 225 (dk_at dksX0_stepOf_3 19 rfl rfl)
theorem dX0_stepOf_78 : decode cX0_stepOf 78 = .ok (.ifCond .eq 7, 3) := dk_153 0 7 (dk_at dksX0_stepOf_4 0 rfl rfl)
theorem dX0_stepOf_81 : decode cX0_stepOf 81 = .ok (.iconst 1, 1) := dk_4 (dk_at dksX0_stepOf_4 3 rfl rfl)
theorem dX0_stepOf_82 : decode cX0_stepOf 82 = .ok (.goto 4, 3) := dk_167 0 4 (dk_at dksX0_stepOf_4 4 rfl rfl)
theorem dX0_stepOf_85 : decode cX0_stepOf 85 = .ok (.iconst 0, 1) := dk_3 (dk_at dksX0_stepOf_4 7 rfl rfl)
theorem dX0_stepOf_86 : decode cX0_stepOf 86 = .ok (.ireturn, 1) := dk_172 (dk_at dksX0_stepOf_4 8 rfl rfl)
theorem dX0_stepOf_87 : decode cX0_stepOf 87 = .ok (.aload_n 3, 1) := dk_45 (dk_at dksX0_stepOf_4 9 rfl rfl)
theorem dX0_stepOf_88 : decode cX0_stepOf 88 = .ok (.getfield 228, 3) := dk_180 0 228 (dk_at dksX0_stepOf_4 10 rfl rfl)
theorem dX0_stepOf_91 : decode cX0_stepOf 91 = .ok (.ifCond .eq 7, 3) := dk_153 0 7 (dk_at dksX0_stepOf_4 13 rfl rfl)
theorem dX0_stepOf_94 : decode cX0_stepOf 94 = .ok (.iconst 1, 1) := dk_4 (dk_at dksX0_stepOf_4 16 rfl rfl)
theorem dX0_stepOf_95 : decode cX0_stepOf 95 = .ok (.goto 4, 3) := dk_167 0 4 (dk_at dksX0_stepOf_4 17 rfl rfl)
theorem dX0_stepOf_98 : decode cX0_stepOf 98 = .ok (.iconst 0, 1) := dk_3 (dk_at dksX0_stepOf_4 20 rfl rfl)
theorem dX0_stepOf_99 : decode cX0_stepOf 99 = .ok (.ireturn, 1) := dk_172 (dk_at dksX0_stepOf_4 21 rfl rfl)
theorem dX0_stepOf_100 : decode cX0_stepOf 100 = .ok (.aload_n 0, 1) := dk_42 (dk_at dksX0_stepOf_4 22 rfl rfl)
theorem dX0_stepOf_101 : decode cX0_stepOf 101 = .ok (.bipush (-2), 2) := dk_16 254 (dk_at dksX0_stepOf_5 0 rfl rfl)
theorem dX0_stepOf_103 : decode cX0_stepOf 103 = .ok (.invokevirtual 85, 3) := dk_182 0 85 (dk_at dksX0_stepOf_5 2 rfl rfl)
theorem dX0_stepOf_106 : decode cX0_stepOf 106 = .ok (.ireturn, 1) := dk_172 (dk_at dksX0_stepOf_5 5 rfl rfl)
abbrev cX0_wayOf : ByteArray := prog_1_method_32_code
def yX0_wayOf : MethodName := ⟨RX0, "wayOf", "(II)I"⟩
def dkwX0_wayOf_2 : List UInt8 := [180, 0, 139, 27, 50, 180, 0, 155, 172]
abbrev dktX0_wayOf_2 : List UInt8 := dkwX0_wayOf_2 ++ []
def dkwX0_wayOf_1 : List UInt8 := [28, 154, 0, 18, 42, 180, 0, 30, 180, 0, 139, 27, 50, 182, 0, 231, 167, 0, 15, 42, 180, 0, 30]
abbrev dktX0_wayOf_1 : List UInt8 := dkwX0_wayOf_1 ++ dktX0_wayOf_2
def dkwX0_wayOf_0 : List UInt8 := [42, 27, 182, 0, 136, 153, 0, 12, 28, 3, 4, 184, 0, 57, 154, 0, 10, 42, 16, 254, 182, 0, 85, 172]
abbrev dktX0_wayOf_0 : List UInt8 := dkwX0_wayOf_0 ++ dktX0_wayOf_1
theorem dksX0_wayOf_0 : cX0_wayOf.data.toList.drop 0 = dktX0_wayOf_0 := by decide +kernel
theorem dksX0_wayOf_1 : cX0_wayOf.data.toList.drop 24 = dktX0_wayOf_1 := dk_seg dksX0_wayOf_0 24 rfl rfl
theorem dksX0_wayOf_2 : cX0_wayOf.data.toList.drop 47 = dktX0_wayOf_2 := dk_seg dksX0_wayOf_1 23 rfl rfl
theorem dX0_wayOf_0 : decode cX0_wayOf 0 = .ok (.aload_n 0, 1) := dk_42 (dk_at dksX0_wayOf_0 0 rfl rfl)
theorem dX0_wayOf_1 : decode cX0_wayOf 1 = .ok (.iload_n 1, 1) := dk_27 (dk_at dksX0_wayOf_0 1 rfl rfl)
theorem dX0_wayOf_2 : decode cX0_wayOf 2 = .ok (.invokevirtual 136, 3) := dk_182 0 136 (dk_at dksX0_wayOf_0 2 rfl rfl)
theorem dX0_wayOf_5 : decode cX0_wayOf 5 = .ok (.ifCond .eq 12, 3) := dk_153 0 12 (dk_at dksX0_wayOf_0 5 rfl rfl)
theorem dX0_wayOf_8 : decode cX0_wayOf 8 = .ok (.iload_n 2, 1) := dk_28 (dk_at dksX0_wayOf_0 8 rfl rfl)
theorem dX0_wayOf_9 : decode cX0_wayOf 9 = .ok (.iconst 0, 1) := dk_3 (dk_at dksX0_wayOf_0 9 rfl rfl)
theorem dX0_wayOf_10 : decode cX0_wayOf 10 = .ok (.iconst 1, 1) := dk_4 (dk_at dksX0_wayOf_0 10 rfl rfl)
theorem dX0_wayOf_11 : decode cX0_wayOf 11 = .ok (.invokestatic 57, 3) := dk_184 0 57 (dk_at dksX0_wayOf_0 11 rfl rfl)
theorem dX0_wayOf_14 : decode cX0_wayOf 14 = .ok (.ifCond .ne 10, 3) := dk_154 0 10 (dk_at dksX0_wayOf_0 14 rfl rfl)
theorem dX0_wayOf_17 : decode cX0_wayOf 17 = .ok (.aload_n 0, 1) := dk_42 (dk_at dksX0_wayOf_0 17 rfl rfl)
theorem dX0_wayOf_18 : decode cX0_wayOf 18 = .ok (.bipush (-2), 2) := dk_16 254 (dk_at dksX0_wayOf_0 18 rfl rfl)
theorem dX0_wayOf_20 : decode cX0_wayOf 20 = .ok (.invokevirtual 85, 3) := dk_182 0 85 (dk_at dksX0_wayOf_0 20 rfl rfl)
theorem dX0_wayOf_23 : decode cX0_wayOf 23 = .ok (.ireturn, 1) := dk_172 (dk_at dksX0_wayOf_0 23 rfl rfl)
theorem dX0_wayOf_24 : decode cX0_wayOf 24 = .ok (.iload_n 2, 1) := dk_28 (dk_at dksX0_wayOf_1 0 rfl rfl)
theorem dX0_wayOf_25 : decode cX0_wayOf 25 = .ok (.ifCond .ne 18, 3) := dk_154 0 18 (dk_at dksX0_wayOf_1 1 rfl rfl)
theorem dX0_wayOf_28 : decode cX0_wayOf 28 = .ok (.aload_n 0, 1) := dk_42 (dk_at dksX0_wayOf_1 4 rfl rfl)
theorem dX0_wayOf_29 : decode cX0_wayOf 29 = .ok (.getfield 30, 3) := dk_180 0 30 (dk_at dksX0_wayOf_1 5 rfl rfl)
theorem dX0_wayOf_32 : decode cX0_wayOf 32 = .ok (.getfield 139, 3) := dk_180 0 139 (dk_at dksX0_wayOf_1 8 rfl rfl)
theorem dX0_wayOf_35 : decode cX0_wayOf 35 = .ok (.iload_n 1, 1) := dk_27 (dk_at dksX0_wayOf_1 11 rfl rfl)
theorem dX0_wayOf_36 : decode cX0_wayOf 36 = .ok (.aaload, 1) := dk_50 (dk_at dksX0_wayOf_1 12 rfl rfl)
theorem dX0_wayOf_37 : decode cX0_wayOf 37 = .ok (.invokevirtual 231, 3) := dk_182 0 231 (dk_at dksX0_wayOf_1 13 rfl rfl)
theorem dX0_wayOf_40 : decode cX0_wayOf 40 = .ok (.goto 15, 3) := dk_167 0 15 (dk_at dksX0_wayOf_1 16 rfl rfl)
theorem dX0_wayOf_43 : decode cX0_wayOf 43 = .ok (.aload_n 0, 1) := dk_42 (dk_at dksX0_wayOf_1 19 rfl rfl)
theorem dX0_wayOf_44 : decode cX0_wayOf 44 = .ok (.getfield 30, 3) := dk_180 0 30 (dk_at dksX0_wayOf_1 20 rfl rfl)
theorem dX0_wayOf_47 : decode cX0_wayOf 47 = .ok (.getfield 139, 3) := dk_180 0 139 (dk_at dksX0_wayOf_2 0 rfl rfl)
theorem dX0_wayOf_50 : decode cX0_wayOf 50 = .ok (.iload_n 1, 1) := dk_27 (dk_at dksX0_wayOf_2 3 rfl rfl)
theorem dX0_wayOf_51 : decode cX0_wayOf 51 = .ok (.aaload, 1) := dk_50 (dk_at dksX0_wayOf_2 4 rfl rfl)
theorem dX0_wayOf_52 : decode cX0_wayOf 52 = .ok (.getfield 155, 3) := dk_180 0 155 (dk_at dksX0_wayOf_2 5 rfl rfl)
theorem dX0_wayOf_55 : decode cX0_wayOf 55 = .ok (.ireturn, 1) := dk_172 (dk_at dksX0_wayOf_2 8 rfl rfl)
abbrev cX0_asked : ByteArray := prog_1_method_33_code
def yX0_asked : MethodName := ⟨RX0, "asked", "(I)I"⟩
def dkwX0_asked_1 : List UInt8 := [167, 0, 9, 42, 16, 254, 182, 0, 85, 172]
abbrev dktX0_asked_1 : List UInt8 := dkwX0_asked_1 ++ []
def dkwX0_asked_0 : List UInt8 := [27, 3, 16, 9, 184, 0, 57, 153, 0, 18, 42, 180, 0, 30, 180, 0, 143, 180, 0, 181, 27, 46]
abbrev dktX0_asked_0 : List UInt8 := dkwX0_asked_0 ++ dktX0_asked_1
theorem dksX0_asked_0 : cX0_asked.data.toList.drop 0 = dktX0_asked_0 := by decide +kernel
theorem dksX0_asked_1 : cX0_asked.data.toList.drop 22 = dktX0_asked_1 := dk_seg dksX0_asked_0 22 rfl rfl
theorem dX0_asked_0 : decode cX0_asked 0 = .ok (.iload_n 1, 1) := dk_27 (dk_at dksX0_asked_0 0 rfl rfl)
theorem dX0_asked_1 : decode cX0_asked 1 = .ok (.iconst 0, 1) := dk_3 (dk_at dksX0_asked_0 1 rfl rfl)
theorem dX0_asked_2 : decode cX0_asked 2 = .ok (.bipush 9, 2) := dk_16 9 (dk_at dksX0_asked_0 2 rfl rfl)
theorem dX0_asked_4 : decode cX0_asked 4 = .ok (.invokestatic 57, 3) := dk_184 0 57 (dk_at dksX0_asked_0 4 rfl rfl)
theorem dX0_asked_7 : decode cX0_asked 7 = .ok (.ifCond .eq 18, 3) := dk_153 0 18 (dk_at dksX0_asked_0 7 rfl rfl)
theorem dX0_asked_10 : decode cX0_asked 10 = .ok (.aload_n 0, 1) := dk_42 (dk_at dksX0_asked_0 10 rfl rfl)
theorem dX0_asked_11 : decode cX0_asked 11 = .ok (.getfield 30, 3) := dk_180 0 30 (dk_at dksX0_asked_0 11 rfl rfl)
theorem dX0_asked_14 : decode cX0_asked 14 = .ok (.getfield 143, 3) := dk_180 0 143 (dk_at dksX0_asked_0 14 rfl rfl)
theorem dX0_asked_17 : decode cX0_asked 17 = .ok (.getfield 181, 3) := dk_180 0 181 (dk_at dksX0_asked_0 17 rfl rfl)
theorem dX0_asked_20 : decode cX0_asked 20 = .ok (.iload_n 1, 1) := dk_27 (dk_at dksX0_asked_0 20 rfl rfl)
theorem dX0_asked_21 : decode cX0_asked 21 = .ok (.iaload, 1) := dk_46 (dk_at dksX0_asked_0 21 rfl rfl)
theorem dX0_asked_22 : decode cX0_asked 22 = .ok (.goto 9, 3) := dk_167 0 9 (dk_at dksX0_asked_1 0 rfl rfl)
theorem dX0_asked_25 : decode cX0_asked 25 = .ok (.aload_n 0, 1) := dk_42 (dk_at dksX0_asked_1 3 rfl rfl)
theorem dX0_asked_26 : decode cX0_asked 26 = .ok (.bipush (-2), 2) := dk_16 254 (dk_at dksX0_asked_1 4 rfl rfl)
theorem dX0_asked_28 : decode cX0_asked 28 = .ok (.invokevirtual 85, 3) := dk_182 0 85 (dk_at dksX0_asked_1 6 rfl rfl)
theorem dX0_asked_31 : decode cX0_asked 31 = .ok (.ireturn, 1) := dk_172 (dk_at dksX0_asked_1 9 rfl rfl)
abbrev cX0_move : ByteArray := prog_1_method_34_code
def yX0_move : MethodName := ⟨RX0, "move", "(III)I"⟩
def dkwX0_move_2 : List UInt8 := [180, 0, 143, 42, 180, 0, 30, 180, 0, 147, 28, 50, 29, 182, 0, 151, 172]
abbrev dktX0_move_2 : List UInt8 := dkwX0_move_2 ++ []
def dkwX0_move_1 : List UInt8 := [154, 0, 10, 42, 16, 254, 182, 0, 85, 172, 42, 180, 0, 30, 180, 0, 139, 27, 50, 42, 180, 0, 30]
abbrev dktX0_move_1 : List UInt8 := dkwX0_move_1 ++ dktX0_move_2
def dkwX0_move_0 : List UInt8 := [42, 27, 182, 0, 136, 153, 0, 20, 42, 28, 182, 0, 184, 153, 0, 12, 29, 3, 6, 184, 0, 57]
abbrev dktX0_move_0 : List UInt8 := dkwX0_move_0 ++ dktX0_move_1
theorem dksX0_move_0 : cX0_move.data.toList.drop 0 = dktX0_move_0 := by decide +kernel
theorem dksX0_move_1 : cX0_move.data.toList.drop 22 = dktX0_move_1 := dk_seg dksX0_move_0 22 rfl rfl
theorem dksX0_move_2 : cX0_move.data.toList.drop 45 = dktX0_move_2 := dk_seg dksX0_move_1 23 rfl rfl
theorem dX0_move_0 : decode cX0_move 0 = .ok (.aload_n 0, 1) := dk_42 (dk_at dksX0_move_0 0 rfl rfl)
theorem dX0_move_1 : decode cX0_move 1 = .ok (.iload_n 1, 1) := dk_27 (dk_at dksX0_move_0 1 rfl rfl)
theorem dX0_move_2 : decode cX0_move 2 = .ok (.invokevirtual 136, 3) := dk_182 0 136 (dk_at dksX0_move_0 2 rfl rfl)
theorem dX0_move_5 : decode cX0_move 5 = .ok (.ifCond .eq 20, 3) := dk_153 0 20 (dk_at dksX0_move_0 5 rfl rfl)
theorem dX0_move_8 : decode cX0_move 8 = .ok (.aload_n 0, 1) := dk_42 (dk_at dksX0_move_0 8 rfl rfl)
theorem dX0_move_9 : decode cX0_move 9 = .ok (.iload_n 2, 1) := dk_28 (dk_at dksX0_move_0 9 rfl rfl)
theorem dX0_move_10 : decode cX0_move 10 = .ok (.invokevirtual 184, 3) := dk_182 0 184 (dk_at dksX0_move_0 10 rfl rfl)
theorem dX0_move_13 : decode cX0_move 13 = .ok (.ifCond .eq 12, 3) := dk_153 0 12 (dk_at dksX0_move_0 13 rfl rfl)
theorem dX0_move_16 : decode cX0_move 16 = .ok (.iload_n 3, 1) := dk_29 (dk_at dksX0_move_0 16 rfl rfl)
theorem dX0_move_17 : decode cX0_move 17 = .ok (.iconst 0, 1) := dk_3 (dk_at dksX0_move_0 17 rfl rfl)
theorem dX0_move_18 : decode cX0_move 18 = .ok (.iconst 3, 1) := dk_6 (dk_at dksX0_move_0 18 rfl rfl)
theorem dX0_move_19 : decode cX0_move 19 = .ok (.invokestatic 57, 3) := dk_184 0 57 (dk_at dksX0_move_0 19 rfl rfl)
theorem dX0_move_22 : decode cX0_move 22 = .ok (.ifCond .ne 10, 3) := dk_154 0 10 (dk_at dksX0_move_1 0 rfl rfl)
theorem dX0_move_25 : decode cX0_move 25 = .ok (.aload_n 0, 1) := dk_42 (dk_at dksX0_move_1 3 rfl rfl)
theorem dX0_move_26 : decode cX0_move 26 = .ok (.bipush (-2), 2) := dk_16 254 (dk_at dksX0_move_1 4 rfl rfl)
theorem dX0_move_28 : decode cX0_move 28 = .ok (.invokevirtual 85, 3) := dk_182 0 85 (dk_at dksX0_move_1 6 rfl rfl)
theorem dX0_move_31 : decode cX0_move 31 = .ok (.ireturn, 1) := dk_172 (dk_at dksX0_move_1 9 rfl rfl)
theorem dX0_move_32 : decode cX0_move 32 = .ok (.aload_n 0, 1) := dk_42 (dk_at dksX0_move_1 10 rfl rfl)
theorem dX0_move_33 : decode cX0_move 33 = .ok (.getfield 30, 3) := dk_180 0 30 (dk_at dksX0_move_1 11 rfl rfl)
theorem dX0_move_36 : decode cX0_move 36 = .ok (.getfield 139, 3) := dk_180 0 139 (dk_at dksX0_move_1 14 rfl rfl)
theorem dX0_move_39 : decode cX0_move 39 = .ok (.iload_n 1, 1) := dk_27 (dk_at dksX0_move_1 17 rfl rfl)
theorem dX0_move_40 : decode cX0_move 40 = .ok (.aaload, 1) := dk_50 (dk_at dksX0_move_1 18 rfl rfl)
theorem dX0_move_41 : decode cX0_move 41 = .ok (.aload_n 0, 1) := dk_42 (dk_at dksX0_move_1 19 rfl rfl)
theorem dX0_move_42 : decode cX0_move 42 = .ok (.getfield 30, 3) := dk_180 0 30 (dk_at dksX0_move_1 20 rfl rfl)
theorem dX0_move_45 : decode cX0_move 45 = .ok (.getfield 143, 3) := dk_180 0 143 (dk_at dksX0_move_2 0 rfl rfl)
theorem dX0_move_48 : decode cX0_move 48 = .ok (.aload_n 0, 1) := dk_42 (dk_at dksX0_move_2 3 rfl rfl)
theorem dX0_move_49 : decode cX0_move 49 = .ok (.getfield 30, 3) := dk_180 0 30 (dk_at dksX0_move_2 4 rfl rfl)
theorem dX0_move_52 : decode cX0_move 52 = .ok (.getfield 147, 3) := dk_180 0 147 (dk_at dksX0_move_2 7 rfl rfl)
theorem dX0_move_55 : decode cX0_move 55 = .ok (.iload_n 2, 1) := dk_28 (dk_at dksX0_move_2 10 rfl rfl)
theorem dX0_move_56 : decode cX0_move 56 = .ok (.aaload, 1) := dk_50 (dk_at dksX0_move_2 11 rfl rfl)
theorem dX0_move_57 : decode cX0_move 57 = .ok (.iload_n 3, 1) := dk_29 (dk_at dksX0_move_2 12 rfl rfl)
theorem dX0_move_58 : decode cX0_move 58 = .ok (.invokevirtual 151, 3) := dk_182 0 151 (dk_at dksX0_move_2 13 rfl rfl)
theorem dX0_move_61 : decode cX0_move 61 = .ok (.ireturn, 1) := dk_172 (dk_at dksX0_move_2 16 rfl rfl)
abbrev cX0_may : ByteArray := prog_1_method_35_code
def yX0_may : MethodName := ⟨RX0, "may", "(II)I"⟩
def dkwX0_may_3 : List UInt8 := [132, 4, 1, 167, 255, 216, 29, 172]
abbrev dktX0_may_3 : List UInt8 := dkwX0_may_3 ++ []
def dkwX0_may_2 : List UInt8 := [180, 0, 30, 21, 4, 27, 28, 182, 0, 234, 153, 0, 10, 4, 21, 4, 120, 167, 0, 4, 3, 128, 62]
abbrev dktX0_may_2 : List UInt8 := dkwX0_may_2 ++ dktX0_may_3
def dkwX0_may_1 : List UInt8 := [182, 0, 85, 172, 3, 62, 3, 54, 4, 21, 4, 42, 180, 0, 30, 180, 0, 65, 162, 0, 34, 29, 42]
abbrev dktX0_may_1 : List UInt8 := dkwX0_may_1 ++ dktX0_may_2
def dkwX0_may_0 : List UInt8 := [42, 27, 182, 0, 184, 153, 0, 14, 28, 3, 17, 0, 200, 184, 0, 57, 154, 0, 10, 42, 16, 254]
abbrev dktX0_may_0 : List UInt8 := dkwX0_may_0 ++ dktX0_may_1
theorem dksX0_may_0 : cX0_may.data.toList.drop 0 = dktX0_may_0 := by decide +kernel
theorem dksX0_may_1 : cX0_may.data.toList.drop 22 = dktX0_may_1 := dk_seg dksX0_may_0 22 rfl rfl
theorem dksX0_may_2 : cX0_may.data.toList.drop 45 = dktX0_may_2 := dk_seg dksX0_may_1 23 rfl rfl
theorem dksX0_may_3 : cX0_may.data.toList.drop 68 = dktX0_may_3 := dk_seg dksX0_may_2 23 rfl rfl
theorem dX0_may_0 : decode cX0_may 0 = .ok (.aload_n 0, 1) := dk_42 (dk_at dksX0_may_0 0 rfl rfl)
theorem dX0_may_1 : decode cX0_may 1 = .ok (.iload_n 1, 1) := dk_27 (dk_at dksX0_may_0 1 rfl rfl)
theorem dX0_may_2 : decode cX0_may 2 = .ok (.invokevirtual 184, 3) := dk_182 0 184 (dk_at dksX0_may_0 2 rfl rfl)
theorem dX0_may_5 : decode cX0_may 5 = .ok (.ifCond .eq 14, 3) := dk_153 0 14 (dk_at dksX0_may_0 5 rfl rfl)
theorem dX0_may_8 : decode cX0_may 8 = .ok (.iload_n 2, 1) := dk_28 (dk_at dksX0_may_0 8 rfl rfl)
theorem dX0_may_9 : decode cX0_may 9 = .ok (.iconst 0, 1) := dk_3 (dk_at dksX0_may_0 9 rfl rfl)
theorem dX0_may_10 : decode cX0_may 10 = .ok (.sipush 200, 3) := dk_17 0 200 (dk_at dksX0_may_0 10 rfl rfl)
theorem dX0_may_13 : decode cX0_may 13 = .ok (.invokestatic 57, 3) := dk_184 0 57 (dk_at dksX0_may_0 13 rfl rfl)
theorem dX0_may_16 : decode cX0_may 16 = .ok (.ifCond .ne 10, 3) := dk_154 0 10 (dk_at dksX0_may_0 16 rfl rfl)
theorem dX0_may_19 : decode cX0_may 19 = .ok (.aload_n 0, 1) := dk_42 (dk_at dksX0_may_0 19 rfl rfl)
theorem dX0_may_20 : decode cX0_may 20 = .ok (.bipush (-2), 2) := dk_16 254 (dk_at dksX0_may_0 20 rfl rfl)
theorem dX0_may_22 : decode cX0_may 22 = .ok (.invokevirtual 85, 3) := dk_182 0 85 (dk_at dksX0_may_1 0 rfl rfl)
theorem dX0_may_25 : decode cX0_may 25 = .ok (.ireturn, 1) := dk_172 (dk_at dksX0_may_1 3 rfl rfl)
theorem dX0_may_26 : decode cX0_may 26 = .ok (.iconst 0, 1) := dk_3 (dk_at dksX0_may_1 4 rfl rfl)
theorem dX0_may_27 : decode cX0_may 27 = .ok (.istore_n 3, 1) := dk_62 (dk_at dksX0_may_1 5 rfl rfl)
theorem dX0_may_28 : decode cX0_may 28 = .ok (.iconst 0, 1) := dk_3 (dk_at dksX0_may_1 6 rfl rfl)
theorem dX0_may_29 : decode cX0_may 29 = .ok (.istore 4, 2) := dk_54 4 (dk_at dksX0_may_1 7 rfl rfl)
theorem dX0_may_31 : decode cX0_may 31 = .ok (.iload 4, 2) := dk_21 4 (dk_at dksX0_may_1 9 rfl rfl)
theorem dX0_may_33 : decode cX0_may 33 = .ok (.aload_n 0, 1) := dk_42 (dk_at dksX0_may_1 11 rfl rfl)
theorem dX0_may_34 : decode cX0_may 34 = .ok (.getfield 30, 3) := dk_180 0 30 (dk_at dksX0_may_1 12 rfl rfl)
theorem dX0_may_37 : decode cX0_may 37 = .ok (.getfield 65, 3) := dk_180 0 65 (dk_at dksX0_may_1 15 rfl rfl)
theorem dX0_may_40 : decode cX0_may 40 = .ok (.if_icmp .ge 34, 3) := dk_162 0 34 (dk_at dksX0_may_1 18 rfl rfl)
theorem dX0_may_43 : decode cX0_may 43 = .ok (.iload_n 3, 1) := dk_29 (dk_at dksX0_may_1 21 rfl rfl)
theorem dX0_may_44 : decode cX0_may 44 = .ok (.aload_n 0, 1) := dk_42 (dk_at dksX0_may_1 22 rfl rfl)
theorem dX0_may_45 : decode cX0_may 45 = .ok (.getfield 30, 3) := dk_180 0 30 (dk_at dksX0_may_2 0 rfl rfl)
theorem dX0_may_48 : decode cX0_may 48 = .ok (.iload 4, 2) := dk_21 4 (dk_at dksX0_may_2 3 rfl rfl)
theorem dX0_may_50 : decode cX0_may 50 = .ok (.iload_n 1, 1) := dk_27 (dk_at dksX0_may_2 5 rfl rfl)
theorem dX0_may_51 : decode cX0_may 51 = .ok (.iload_n 2, 1) := dk_28 (dk_at dksX0_may_2 6 rfl rfl)
theorem dX0_may_52 : decode cX0_may 52 = .ok (.invokevirtual 234, 3) := dk_182 0 234 (dk_at dksX0_may_2 7 rfl rfl)
theorem dX0_may_55 : decode cX0_may 55 = .ok (.ifCond .eq 10, 3) := dk_153 0 10 (dk_at dksX0_may_2 10 rfl rfl)
theorem dX0_may_58 : decode cX0_may 58 = .ok (.iconst 1, 1) := dk_4 (dk_at dksX0_may_2 13 rfl rfl)
theorem dX0_may_59 : decode cX0_may 59 = .ok (.iload 4, 2) := dk_21 4 (dk_at dksX0_may_2 14 rfl rfl)
theorem dX0_may_61 : decode cX0_may 61 = .ok (.ishl, 1) := dk_120 (dk_at dksX0_may_2 16 rfl rfl)
theorem dX0_may_62 : decode cX0_may 62 = .ok (.goto 4, 3) := dk_167 0 4 (dk_at dksX0_may_2 17 rfl rfl)
theorem dX0_may_65 : decode cX0_may 65 = .ok (.iconst 0, 1) := dk_3 (dk_at dksX0_may_2 20 rfl rfl)
theorem dX0_may_66 : decode cX0_may 66 = .ok (.ior, 1) := dk_128 (dk_at dksX0_may_2 21 rfl rfl)
theorem dX0_may_67 : decode cX0_may 67 = .ok (.istore_n 3, 1) := dk_62 (dk_at dksX0_may_2 22 rfl rfl)
theorem dX0_may_68 : decode cX0_may 68 = .ok (.iinc 4 1, 3) := dk_132 4 1 (dk_at dksX0_may_3 0 rfl rfl)
theorem dX0_may_71 : decode cX0_may 71 = .ok (.goto (-40), 3) := dk_167 255 216 (dk_at dksX0_may_3 3 rfl rfl)
theorem dX0_may_74 : decode cX0_may 74 = .ok (.iload_n 3, 1) := dk_29 (dk_at dksX0_may_3 6 rfl rfl)
theorem dX0_may_75 : decode cX0_may 75 = .ok (.ireturn, 1) := dk_172 (dk_at dksX0_may_3 7 rfl rfl)
abbrev cX0_hardest : ByteArray := prog_1_method_36_code
def yX0_hardest : MethodName := ⟨RX0, "hardest", "()I"⟩
def dkwX0_hardest_3 : List UInt8 := [167, 0, 4, 27, 172]
abbrev dktX0_hardest_3 : List UInt8 := dkwX0_hardest_3 ++ []
def dkwX0_hardest_2 : List UInt8 := [167, 0, 4, 27, 60, 132, 2, 1, 167, 255, 204, 27, 2, 160, 0, 12, 42, 16, 251, 182, 0, 85]
abbrev dktX0_hardest_2 : List UInt8 := dkwX0_hardest_2 ++ dktX0_hardest_3
def dkwX0_hardest_1 : List UInt8 := [180, 0, 147, 28, 50, 180, 0, 194, 42, 180, 0, 30, 180, 0, 147, 27, 50, 180, 0, 194, 164, 0, 7, 28]
abbrev dktX0_hardest_1 : List UInt8 := dkwX0_hardest_1 ++ dktX0_hardest_2
def dkwX0_hardest_0 : List UInt8 := [2, 60, 3, 61, 28, 42, 180, 0, 30, 180, 0, 61, 162, 0, 47, 27, 2, 159, 0, 30, 42, 180, 0, 30]
abbrev dktX0_hardest_0 : List UInt8 := dkwX0_hardest_0 ++ dktX0_hardest_1
theorem dksX0_hardest_0 : cX0_hardest.data.toList.drop 0 = dktX0_hardest_0 := by decide +kernel
theorem dksX0_hardest_1 : cX0_hardest.data.toList.drop 24 = dktX0_hardest_1 := dk_seg dksX0_hardest_0 24 rfl rfl
theorem dksX0_hardest_2 : cX0_hardest.data.toList.drop 48 = dktX0_hardest_2 := dk_seg dksX0_hardest_1 24 rfl rfl
theorem dksX0_hardest_3 : cX0_hardest.data.toList.drop 70 = dktX0_hardest_3 := dk_seg dksX0_hardest_2 22 rfl rfl
theorem dX0_hardest_0 : decode cX0_hardest 0 = .ok (.iconst (-1), 1) := dk_2 (dk_at dksX0_hardest_0 0 rfl rfl)
theorem dX0_hardest_1 : decode cX0_hardest 1 = .ok (.istore_n 1, 1) := dk_60 (dk_at dksX0_hardest_0 1 rfl rfl)
theorem dX0_hardest_2 : decode cX0_hardest 2 = .ok (.iconst 0, 1) := dk_3 (dk_at dksX0_hardest_0 2 rfl rfl)
theorem dX0_hardest_3 : decode cX0_hardest 3 = .ok (.istore_n 2, 1) := dk_61 (dk_at dksX0_hardest_0 3 rfl rfl)
theorem dX0_hardest_4 : decode cX0_hardest 4 = .ok (.iload_n 2, 1) := dk_28 (dk_at dksX0_hardest_0 4 rfl rfl)
theorem dX0_hardest_5 : decode cX0_hardest 5 = .ok (.aload_n 0, 1) := dk_42 (dk_at dksX0_hardest_0 5 rfl rfl)
theorem dX0_hardest_6 : decode cX0_hardest 6 = .ok (.getfield 30, 3) := dk_180 0 30 (dk_at dksX0_hardest_0 6 rfl rfl)
theorem dX0_hardest_9 : decode cX0_hardest 9 = .ok (.getfield 61, 3) := dk_180 0 61 (dk_at dksX0_hardest_0 9 rfl rfl)
theorem dX0_hardest_12 : decode cX0_hardest 12 = .ok (.if_icmp .ge 47, 3) := dk_162 0 47 (dk_at dksX0_hardest_0 12 rfl rfl)
theorem dX0_hardest_15 : decode cX0_hardest 15 = .ok (.iload_n 1, 1) := dk_27 (dk_at dksX0_hardest_0 15 rfl rfl)
theorem dX0_hardest_16 : decode cX0_hardest 16 = .ok (.iconst (-1), 1) := dk_2 (dk_at dksX0_hardest_0 16 rfl rfl)
theorem dX0_hardest_17 : decode cX0_hardest 17 = .ok (.if_icmp .eq 30, 3) := dk_159 0 30 (dk_at dksX0_hardest_0 17 rfl rfl)
theorem dX0_hardest_20 : decode cX0_hardest 20 = .ok (.aload_n 0, 1) := dk_42 (dk_at dksX0_hardest_0 20 rfl rfl)
theorem dX0_hardest_21 : decode cX0_hardest 21 = .ok (.getfield 30, 3) := dk_180 0 30 (dk_at dksX0_hardest_0 21 rfl rfl)
theorem dX0_hardest_24 : decode cX0_hardest 24 = .ok (.getfield 147, 3) := dk_180 0 147 (dk_at dksX0_hardest_1 0 rfl rfl)
theorem dX0_hardest_27 : decode cX0_hardest 27 = .ok (.iload_n 2, 1) := dk_28 (dk_at dksX0_hardest_1 3 rfl rfl)
theorem dX0_hardest_28 : decode cX0_hardest 28 = .ok (.aaload, 1) := dk_50 (dk_at dksX0_hardest_1 4 rfl rfl)
theorem dX0_hardest_29 : decode cX0_hardest 29 = .ok (.getfield 194, 3) := dk_180 0 194 (dk_at dksX0_hardest_1 5 rfl rfl)
theorem dX0_hardest_32 : decode cX0_hardest 32 = .ok (.aload_n 0, 1) := dk_42 (dk_at dksX0_hardest_1 8 rfl rfl)
theorem dX0_hardest_33 : decode cX0_hardest 33 = .ok (.getfield 30, 3) := dk_180 0 30 (dk_at dksX0_hardest_1 9 rfl rfl)
theorem dX0_hardest_36 : decode cX0_hardest 36 = .ok (.getfield 147, 3) := dk_180 0 147 (dk_at dksX0_hardest_1 12 rfl rfl)
theorem dX0_hardest_39 : decode cX0_hardest 39 = .ok (.iload_n 1, 1) := dk_27 (dk_at dksX0_hardest_1 15 rfl rfl)
theorem dX0_hardest_40 : decode cX0_hardest 40 = .ok (.aaload, 1) := dk_50 (dk_at dksX0_hardest_1 16 rfl rfl)
theorem dX0_hardest_41 : decode cX0_hardest 41 = .ok (.getfield 194, 3) := dk_180 0 194 (dk_at dksX0_hardest_1 17 rfl rfl)
theorem dX0_hardest_44 : decode cX0_hardest 44 = .ok (.if_icmp .le 7, 3) := dk_164 0 7 (dk_at dksX0_hardest_1 20 rfl rfl)
theorem dX0_hardest_47 : decode cX0_hardest 47 = .ok (.iload_n 2, 1) := dk_28 (dk_at dksX0_hardest_1 23 rfl rfl)
theorem dX0_hardest_48 : decode cX0_hardest 48 = .ok (.goto 4, 3) := dk_167 0 4 (dk_at dksX0_hardest_2 0 rfl rfl)
theorem dX0_hardest_51 : decode cX0_hardest 51 = .ok (.iload_n 1, 1) := dk_27 (dk_at dksX0_hardest_2 3 rfl rfl)
theorem dX0_hardest_52 : decode cX0_hardest 52 = .ok (.istore_n 1, 1) := dk_60 (dk_at dksX0_hardest_2 4 rfl rfl)
theorem dX0_hardest_53 : decode cX0_hardest 53 = .ok (.iinc 2 1, 3) := dk_132 2 1 (dk_at dksX0_hardest_2 5 rfl rfl)
theorem dX0_hardest_56 : decode cX0_hardest 56 = .ok (.goto (-52), 3) := dk_167 255 204 (dk_at dksX0_hardest_2 8 rfl rfl)
theorem dX0_hardest_59 : decode cX0_hardest 59 = .ok (.iload_n 1, 1) := dk_27 (dk_at dksX0_hardest_2 11 rfl rfl)
theorem dX0_hardest_60 : decode cX0_hardest 60 = .ok (.iconst (-1), 1) := dk_2 (dk_at dksX0_hardest_2 12 rfl rfl)
theorem dX0_hardest_61 : decode cX0_hardest 61 = .ok (.if_icmp .ne 12, 3) := dk_160 0 12 (dk_at dksX0_hardest_2 13 rfl rfl)
theorem dX0_hardest_64 : decode cX0_hardest 64 = .ok (.aload_n 0, 1) := dk_42 (dk_at dksX0_hardest_2 16 rfl rfl)
theorem dX0_hardest_65 : decode cX0_hardest 65 = .ok (.bipush (-5), 2) := dk_16 251 (dk_at dksX0_hardest_2 17 rfl rfl)
theorem dX0_hardest_67 : decode cX0_hardest 67 = .ok (.invokevirtual 85, 3) := dk_182 0 85 (dk_at dksX0_hardest_2 19 rfl rfl)
theorem dX0_hardest_70 : decode cX0_hardest 70 = .ok (.goto 4, 3) := dk_167 0 4 (dk_at dksX0_hardest_3 0 rfl rfl)
theorem dX0_hardest_73 : decode cX0_hardest 73 = .ok (.iload_n 1, 1) := dk_27 (dk_at dksX0_hardest_3 3 rfl rfl)
theorem dX0_hardest_74 : decode cX0_hardest 74 = .ok (.ireturn, 1) := dk_172 (dk_at dksX0_hardest_3 4 rfl rfl)
abbrev cX0_lightest : ByteArray := prog_1_method_37_code
def yX0_lightest : MethodName := ⟨RX0, "lightest", "(I)I"⟩
def dkwX0_lightest_5 : List UInt8 := [2, 160, 0, 12, 42, 16, 251, 182, 0, 85, 167, 0, 4, 28, 172]
abbrev dktX0_lightest_5 : List UInt8 := dkwX0_lightest_5 ++ []
def dkwX0_lightest_4 : List UInt8 := [167, 0, 4, 3, 54, 4, 21, 4, 153, 0, 7, 29, 167, 0, 4, 28, 61, 132, 3, 1, 167, 255, 160, 28]
abbrev dktX0_lightest_4 : List UInt8 := dkwX0_lightest_4 ++ dktX0_lightest_5
def dkwX0_lightest_3 : List UInt8 := [42, 180, 0, 30, 180, 0, 143, 42, 180, 0, 30, 180, 0, 147, 27, 50, 182, 0, 237, 162, 0, 7, 4]
abbrev dktX0_lightest_3 : List UInt8 := dkwX0_lightest_3 ++ dktX0_lightest_4
def dkwX0_lightest_2 : List UInt8 := [180, 0, 143, 42, 180, 0, 30, 180, 0, 147, 27, 50, 182, 0, 237, 42, 180, 0, 30, 180, 0, 139, 28, 50]
abbrev dktX0_lightest_2 : List UInt8 := dkwX0_lightest_2 ++ dktX0_lightest_3
def dkwX0_lightest_1 : List UInt8 := [180, 0, 65, 162, 0, 91, 28, 2, 159, 0, 62, 42, 180, 0, 30, 180, 0, 139, 29, 50, 42, 180, 0, 30]
abbrev dktX0_lightest_1 : List UInt8 := dkwX0_lightest_1 ++ dktX0_lightest_2
def dkwX0_lightest_0 : List UInt8 := [42, 27, 182, 0, 184, 154, 0, 10, 42, 16, 254, 182, 0, 85, 172, 2, 61, 3, 62, 29, 42, 180, 0, 30]
abbrev dktX0_lightest_0 : List UInt8 := dkwX0_lightest_0 ++ dktX0_lightest_1
theorem dksX0_lightest_0 : cX0_lightest.data.toList.drop 0 = dktX0_lightest_0 := by decide +kernel
theorem dksX0_lightest_1 : cX0_lightest.data.toList.drop 24 = dktX0_lightest_1 := dk_seg dksX0_lightest_0 24 rfl rfl
theorem dksX0_lightest_2 : cX0_lightest.data.toList.drop 48 = dktX0_lightest_2 := dk_seg dksX0_lightest_1 24 rfl rfl
theorem dksX0_lightest_3 : cX0_lightest.data.toList.drop 72 = dktX0_lightest_3 := dk_seg dksX0_lightest_2 24 rfl rfl
theorem dksX0_lightest_4 : cX0_lightest.data.toList.drop 95 = dktX0_lightest_4 := dk_seg dksX0_lightest_3 23 rfl rfl
theorem dksX0_lightest_5 : cX0_lightest.data.toList.drop 119 = dktX0_lightest_5 := dk_seg dksX0_lightest_4 24 rfl rfl
theorem dX0_lightest_0 : decode cX0_lightest 0 = .ok (.aload_n 0, 1) := dk_42 (dk_at dksX0_lightest_0 0 rfl rfl)
theorem dX0_lightest_1 : decode cX0_lightest 1 = .ok (.iload_n 1, 1) := dk_27 (dk_at dksX0_lightest_0 1 rfl rfl)
theorem dX0_lightest_2 : decode cX0_lightest 2 = .ok (.invokevirtual 184, 3) := dk_182 0 184 (dk_at dksX0_lightest_0 2 rfl rfl)
theorem dX0_lightest_5 : decode cX0_lightest 5 = .ok (.ifCond .ne 10, 3) := dk_154 0 10 (dk_at dksX0_lightest_0 5 rfl rfl)
theorem dX0_lightest_8 : decode cX0_lightest 8 = .ok (.aload_n 0, 1) := dk_42 (dk_at dksX0_lightest_0 8 rfl rfl)
theorem dX0_lightest_9 : decode cX0_lightest 9 = .ok (.bipush (-2), 2) := dk_16 254 (dk_at dksX0_lightest_0 9 rfl rfl)
theorem dX0_lightest_11 : decode cX0_lightest 11 = .ok (.invokevirtual 85, 3) := dk_182 0 85 (dk_at dksX0_lightest_0 11 rfl rfl)
theorem dX0_lightest_14 : decode cX0_lightest 14 = .ok (.ireturn, 1) := dk_172 (dk_at dksX0_lightest_0 14 rfl rfl)
theorem dX0_lightest_15 : decode cX0_lightest 15 = .ok (.iconst (-1), 1) := dk_2 (dk_at dksX0_lightest_0 15 rfl rfl)
theorem dX0_lightest_16 : decode cX0_lightest 16 = .ok (.istore_n 2, 1) := dk_61 (dk_at dksX0_lightest_0 16 rfl rfl)
theorem dX0_lightest_17 : decode cX0_lightest 17 = .ok (.iconst 0, 1) := dk_3 (dk_at dksX0_lightest_0 17 rfl rfl)
theorem dX0_lightest_18 : decode cX0_lightest 18 = .ok (.istore_n 3, 1) := dk_62 (dk_at dksX0_lightest_0 18 rfl rfl)
theorem dX0_lightest_19 : decode cX0_lightest 19 = .ok (.iload_n 3, 1) := dk_29 (dk_at dksX0_lightest_0 19 rfl rfl)
theorem dX0_lightest_20 : decode cX0_lightest 20 = .ok (.aload_n 0, 1) := dk_42 (dk_at dksX0_lightest_0 20 rfl rfl)
theorem dX0_lightest_21 : decode cX0_lightest 21 = .ok (.getfield 30, 3) := dk_180 0 30 (dk_at dksX0_lightest_0 21 rfl rfl)
theorem dX0_lightest_24 : decode cX0_lightest 24 = .ok (.getfield 65, 3) := dk_180 0 65 (dk_at dksX0_lightest_1 0 rfl rfl)
theorem dX0_lightest_27 : decode cX0_lightest 27 = .ok (.if_icmp .ge 91, 3) := dk_162 0 91 (dk_at dksX0_lightest_1 3 rfl rfl)
theorem dX0_lightest_30 : decode cX0_lightest 30 = .ok (.iload_n 2, 1) := dk_28 (dk_at dksX0_lightest_1 6 rfl rfl)
theorem dX0_lightest_31 : decode cX0_lightest 31 = .ok (.iconst (-1), 1) := dk_2 (dk_at dksX0_lightest_1 7 rfl rfl)
theorem dX0_lightest_32 : decode cX0_lightest 32 = .ok (.if_icmp .eq 62, 3) := dk_159 0 62 (dk_at dksX0_lightest_1 8 rfl rfl)
theorem dX0_lightest_35 : decode cX0_lightest 35 = .ok (.aload_n 0, 1) := dk_42 (dk_at dksX0_lightest_1 11 rfl rfl)
theorem dX0_lightest_36 : decode cX0_lightest 36 = .ok (.getfield 30, 3) := dk_180 0 30 (dk_at dksX0_lightest_1 12 rfl rfl)
theorem dX0_lightest_39 : decode cX0_lightest 39 = .ok (.getfield 139, 3) := dk_180 0 139 (dk_at dksX0_lightest_1 15 rfl rfl)
theorem dX0_lightest_42 : decode cX0_lightest 42 = .ok (.iload_n 3, 1) := dk_29 (dk_at dksX0_lightest_1 18 rfl rfl)
theorem dX0_lightest_43 : decode cX0_lightest 43 = .ok (.aaload, 1) := dk_50 (dk_at dksX0_lightest_1 19 rfl rfl)
theorem dX0_lightest_44 : decode cX0_lightest 44 = .ok (.aload_n 0, 1) := dk_42 (dk_at dksX0_lightest_1 20 rfl rfl)
theorem dX0_lightest_45 : decode cX0_lightest 45 = .ok (.getfield 30, 3) := dk_180 0 30 (dk_at dksX0_lightest_1 21 rfl rfl)
theorem dX0_lightest_48 : decode cX0_lightest 48 = .ok (.getfield 143, 3) := dk_180 0 143 (dk_at dksX0_lightest_2 0 rfl rfl)
theorem dX0_lightest_51 : decode cX0_lightest 51 = .ok (.aload_n 0, 1) := dk_42 (dk_at dksX0_lightest_2 3 rfl rfl)
theorem dX0_lightest_52 : decode cX0_lightest 52 = .ok (.getfield 30, 3) := dk_180 0 30 (dk_at dksX0_lightest_2 4 rfl rfl)
theorem dX0_lightest_55 : decode cX0_lightest 55 = .ok (.getfield 147, 3) := dk_180 0 147 (dk_at dksX0_lightest_2 7 rfl rfl)
theorem dX0_lightest_58 : decode cX0_lightest 58 = .ok (.iload_n 1, 1) := dk_27 (dk_at dksX0_lightest_2 10 rfl rfl)
theorem dX0_lightest_59 : decode cX0_lightest 59 = .ok (.aaload, 1) := dk_50 (dk_at dksX0_lightest_2 11 rfl rfl)
theorem dX0_lightest_60 : decode cX0_lightest 60 = .ok (.invokevirtual 237, 3) := dk_182 0 237 (dk_at dksX0_lightest_2 12 rfl rfl)
theorem dX0_lightest_63 : decode cX0_lightest 63 = .ok (.aload_n 0, 1) := dk_42 (dk_at dksX0_lightest_2 15 rfl rfl)
theorem dX0_lightest_64 : decode cX0_lightest 64 = .ok (.getfield 30, 3) := dk_180 0 30 (dk_at dksX0_lightest_2 16 rfl rfl)
theorem dX0_lightest_67 : decode cX0_lightest 67 = .ok (.getfield 139, 3) := dk_180 0 139 (dk_at dksX0_lightest_2 19 rfl rfl)
theorem dX0_lightest_70 : decode cX0_lightest 70 = .ok (.iload_n 2, 1) := dk_28 (dk_at dksX0_lightest_2 22 rfl rfl)
theorem dX0_lightest_71 : decode cX0_lightest 71 = .ok (.aaload, 1) := dk_50 (dk_at dksX0_lightest_2 23 rfl rfl)
theorem dX0_lightest_72 : decode cX0_lightest 72 = .ok (.aload_n 0, 1) := dk_42 (dk_at dksX0_lightest_3 0 rfl rfl)
theorem dX0_lightest_73 : decode cX0_lightest 73 = .ok (.getfield 30, 3) := dk_180 0 30 (dk_at dksX0_lightest_3 1 rfl rfl)
theorem dX0_lightest_76 : decode cX0_lightest 76 = .ok (.getfield 143, 3) := dk_180 0 143 (dk_at dksX0_lightest_3 4 rfl rfl)
theorem dX0_lightest_79 : decode cX0_lightest 79 = .ok (.aload_n 0, 1) := dk_42 (dk_at dksX0_lightest_3 7 rfl rfl)
theorem dX0_lightest_80 : decode cX0_lightest 80 = .ok (.getfield 30, 3) := dk_180 0 30 (dk_at dksX0_lightest_3 8 rfl rfl)
theorem dX0_lightest_83 : decode cX0_lightest 83 = .ok (.getfield 147, 3) := dk_180 0 147 (dk_at dksX0_lightest_3 11 rfl rfl)
theorem dX0_lightest_86 : decode cX0_lightest 86 = .ok (.iload_n 1, 1) := dk_27 (dk_at dksX0_lightest_3 14 rfl rfl)
theorem dX0_lightest_87 : decode cX0_lightest 87 = .ok (.aaload, 1) := dk_50 (dk_at dksX0_lightest_3 15 rfl rfl)
theorem dX0_lightest_88 : decode cX0_lightest 88 = .ok (.invokevirtual 237, 3) := dk_182 0 237 (dk_at dksX0_lightest_3 16 rfl rfl)
theorem dX0_lightest_91 : decode cX0_lightest 91 = .ok (.if_icmp .ge 7, 3) := dk_162 0 7 (dk_at dksX0_lightest_3 19 rfl rfl)
theorem dX0_lightest_94 : decode cX0_lightest 94 = .ok (.iconst 1, 1) := dk_4 (dk_at dksX0_lightest_3 22 rfl rfl)
theorem dX0_lightest_95 : decode cX0_lightest 95 = .ok (.goto 4, 3) := dk_167 0 4 (dk_at dksX0_lightest_4 0 rfl rfl)
theorem dX0_lightest_98 : decode cX0_lightest 98 = .ok (.iconst 0, 1) := dk_3 (dk_at dksX0_lightest_4 3 rfl rfl)
theorem dX0_lightest_99 : decode cX0_lightest 99 = .ok (.istore 4, 2) := dk_54 4 (dk_at dksX0_lightest_4 4 rfl rfl)
theorem dX0_lightest_101 : decode cX0_lightest 101 = .ok (.iload 4, 2) := dk_21 4 (dk_at dksX0_lightest_4 6 rfl rfl)
theorem dX0_lightest_103 : decode cX0_lightest 103 = .ok (.ifCond .eq 7, 3) := dk_153 0 7 (dk_at dksX0_lightest_4 8 rfl rfl)
theorem dX0_lightest_106 : decode cX0_lightest 106 = .ok (.iload_n 3, 1) := dk_29 (dk_at dksX0_lightest_4 11 rfl rfl)
theorem dX0_lightest_107 : decode cX0_lightest 107 = .ok (.goto 4, 3) := dk_167 0 4 (dk_at dksX0_lightest_4 12 rfl rfl)
theorem dX0_lightest_110 : decode cX0_lightest 110 = .ok (.iload_n 2, 1) := dk_28 (dk_at dksX0_lightest_4 15 rfl rfl)
theorem dX0_lightest_111 : decode cX0_lightest 111 = .ok (.istore_n 2, 1) := dk_61 (dk_at dksX0_lightest_4 16 rfl rfl)
theorem dX0_lightest_112 : decode cX0_lightest 112 = .ok (.iinc 3 1, 3) := dk_132 3 1 (dk_at dksX0_lightest_4 17 rfl rfl)
theorem dX0_lightest_115 : decode cX0_lightest 115 = .ok (.goto (-96), 3) := dk_167 255 160 (dk_at dksX0_lightest_4 20 rfl rfl)
theorem dX0_lightest_118 : decode cX0_lightest 118 = .ok (.iload_n 2, 1) := dk_28 (dk_at dksX0_lightest_4 23 rfl rfl)
theorem dX0_lightest_119 : decode cX0_lightest 119 = .ok (.iconst (-1), 1) := dk_2 (dk_at dksX0_lightest_5 0 rfl rfl)
theorem dX0_lightest_120 : decode cX0_lightest 120 = .ok (.if_icmp .ne 12, 3) := dk_160 0 12 (dk_at dksX0_lightest_5 1 rfl rfl)
theorem dX0_lightest_123 : decode cX0_lightest 123 = .ok (.aload_n 0, 1) := dk_42 (dk_at dksX0_lightest_5 4 rfl rfl)
theorem dX0_lightest_124 : decode cX0_lightest 124 = .ok (.bipush (-5), 2) := dk_16 251 (dk_at dksX0_lightest_5 5 rfl rfl)
theorem dX0_lightest_126 : decode cX0_lightest 126 = .ok (.invokevirtual 85, 3) := dk_182 0 85 (dk_at dksX0_lightest_5 7 rfl rfl)
theorem dX0_lightest_129 : decode cX0_lightest 129 = .ok (.goto 4, 3) := dk_167 0 4 (dk_at dksX0_lightest_5 10 rfl rfl)
theorem dX0_lightest_132 : decode cX0_lightest 132 = .ok (.iload_n 2, 1) := dk_28 (dk_at dksX0_lightest_5 13 rfl rfl)
theorem dX0_lightest_133 : decode cX0_lightest 133 = .ok (.ireturn, 1) := dk_172 (dk_at dksX0_lightest_5 14 rfl rfl)
abbrev cX0_judge : ByteArray := prog_1_method_40_code
def yX0_judge : MethodName := ⟨RX0, "judge", "(I)I"⟩
def dkwX0_judge_0 : List UInt8 := [42, 42, 27, 182, 0, 248, 182, 0, 252, 172, 77, 42, 44, 180, 0, 112, 182, 0, 85, 172]
abbrev dktX0_judge_0 : List UInt8 := dkwX0_judge_0 ++ []
theorem dksX0_judge_0 : cX0_judge.data.toList.drop 0 = dktX0_judge_0 := by decide +kernel
theorem dX0_judge_0 : decode cX0_judge 0 = .ok (.aload_n 0, 1) := dk_42 (dk_at dksX0_judge_0 0 rfl rfl)
theorem dX0_judge_1 : decode cX0_judge 1 = .ok (.aload_n 0, 1) := dk_42 (dk_at dksX0_judge_0 1 rfl rfl)
theorem dX0_judge_2 : decode cX0_judge 2 = .ok (.iload_n 1, 1) := dk_27 (dk_at dksX0_judge_0 2 rfl rfl)
theorem dX0_judge_3 : decode cX0_judge 3 = .ok (.invokevirtual 248, 3) := dk_182 0 248 (dk_at dksX0_judge_0 3 rfl rfl)
theorem dX0_judge_6 : decode cX0_judge 6 = .ok (.invokevirtual 252, 3) := dk_182 0 252 (dk_at dksX0_judge_0 6 rfl rfl)
theorem dX0_judge_9 : decode cX0_judge 9 = .ok (.ireturn, 1) := dk_172 (dk_at dksX0_judge_0 9 rfl rfl)
theorem dX0_judge_10 : decode cX0_judge 10 = .ok (.astore_n 2, 1) := dk_77 (dk_at dksX0_judge_0 10 rfl rfl)
theorem dX0_judge_11 : decode cX0_judge 11 = .ok (.aload_n 0, 1) := dk_42 (dk_at dksX0_judge_0 11 rfl rfl)
theorem dX0_judge_12 : decode cX0_judge 12 = .ok (.aload_n 2, 1) := dk_44 (dk_at dksX0_judge_0 12 rfl rfl)
theorem dX0_judge_13 : decode cX0_judge 13 = .ok (.getfield 112, 3) := dk_180 0 112 (dk_at dksX0_judge_0 13 rfl rfl)
theorem dX0_judge_16 : decode cX0_judge 16 = .ok (.invokevirtual 85, 3) := dk_182 0 85 (dk_at dksX0_judge_0 16 rfl rfl)
theorem dX0_judge_19 : decode cX0_judge 19 = .ok (.ireturn, 1) := dk_172 (dk_at dksX0_judge_0 19 rfl rfl)
abbrev cX0_climb : ByteArray := prog_1_method_38_code
def yX0_climb : MethodName := ⟨RX0, "climb", "(I)[I"⟩
def dkwX0_climb_4 : List UInt8 := [187, 0, 99, 89, 16, 254, 183, 0, 101, 191, 45, 176]
abbrev dktX0_climb_4 : List UInt8 := dkwX0_climb_4 ++ []
def dkwX0_climb_3 : List UInt8 := [133, 148, 155, 0, 7, 2, 167, 0, 6, 22, 5, 136, 79, 132, 4, 1, 167, 255, 206, 167, 0, 15, 58, 4]
abbrev dktX0_climb_3 : List UInt8 := dkwX0_climb_3 ++ dktX0_climb_4
def dkwX0_climb_2 : List UInt8 := [184, 0, 129, 55, 5, 45, 21, 4, 22, 5, 9, 148, 155, 0, 17, 22, 5, 42, 180, 0, 30, 180, 0, 65]
abbrev dktX0_climb_2 : List UInt8 := dkwX0_climb_2 ++ dktX0_climb_3
def dkwX0_climb_1 : List UInt8 := [180, 0, 30, 180, 0, 61, 188, 10, 78, 3, 54, 4, 21, 4, 45, 190, 162, 0, 49, 44, 21, 4]
abbrev dktX0_climb_1 : List UInt8 := dkwX0_climb_1 ++ dktX0_climb_2
def dkwX0_climb_0 : List UInt8 := [27, 184, 0, 81, 154, 0, 13, 187, 0, 99, 89, 16, 254, 183, 0, 101, 191, 42, 27, 182, 0, 104, 77, 42]
abbrev dktX0_climb_0 : List UInt8 := dkwX0_climb_0 ++ dktX0_climb_1
theorem dksX0_climb_0 : cX0_climb.data.toList.drop 0 = dktX0_climb_0 := by decide +kernel
theorem dksX0_climb_1 : cX0_climb.data.toList.drop 24 = dktX0_climb_1 := dk_seg dksX0_climb_0 24 rfl rfl
theorem dksX0_climb_2 : cX0_climb.data.toList.drop 46 = dktX0_climb_2 := dk_seg dksX0_climb_1 22 rfl rfl
theorem dksX0_climb_3 : cX0_climb.data.toList.drop 70 = dktX0_climb_3 := dk_seg dksX0_climb_2 24 rfl rfl
theorem dksX0_climb_4 : cX0_climb.data.toList.drop 94 = dktX0_climb_4 := dk_seg dksX0_climb_3 24 rfl rfl
theorem dX0_climb_0 : decode cX0_climb 0 = .ok (.iload_n 1, 1) := dk_27 (dk_at dksX0_climb_0 0 rfl rfl)
theorem dX0_climb_1 : decode cX0_climb 1 = .ok (.invokestatic 81, 3) := dk_184 0 81 (dk_at dksX0_climb_0 1 rfl rfl)
theorem dX0_climb_4 : decode cX0_climb 4 = .ok (.ifCond .ne 13, 3) := dk_154 0 13 (dk_at dksX0_climb_0 4 rfl rfl)
theorem dX0_climb_7 : decode cX0_climb 7 = .ok (.new 99, 3) := dk_187 0 99 (dk_at dksX0_climb_0 7 rfl rfl)
theorem dX0_climb_10 : decode cX0_climb 10 = .ok (.dup, 1) := dk_89 (dk_at dksX0_climb_0 10 rfl rfl)
theorem dX0_climb_11 : decode cX0_climb 11 = .ok (.bipush (-2), 2) := dk_16 254 (dk_at dksX0_climb_0 11 rfl rfl)
theorem dX0_climb_13 : decode cX0_climb 13 = .ok (.invokespecial 101, 3) := dk_183 0 101 (dk_at dksX0_climb_0 13 rfl rfl)
theorem dX0_climb_16 : decode cX0_climb 16 = .ok (.athrow, 1) := dk_191 (dk_at dksX0_climb_0 16 rfl rfl)
theorem dX0_climb_17 : decode cX0_climb 17 = .ok (.aload_n 0, 1) := dk_42 (dk_at dksX0_climb_0 17 rfl rfl)
theorem dX0_climb_18 : decode cX0_climb 18 = .ok (.iload_n 1, 1) := dk_27 (dk_at dksX0_climb_0 18 rfl rfl)
theorem dX0_climb_19 : decode cX0_climb 19 = .ok (.invokevirtual 104, 3) := dk_182 0 104 (dk_at dksX0_climb_0 19 rfl rfl)
theorem dX0_climb_22 : decode cX0_climb 22 = .ok (.astore_n 2, 1) := dk_77 (dk_at dksX0_climb_0 22 rfl rfl)
theorem dX0_climb_23 : decode cX0_climb 23 = .ok (.aload_n 0, 1) := dk_42 (dk_at dksX0_climb_0 23 rfl rfl)
theorem dX0_climb_24 : decode cX0_climb 24 = .ok (.getfield 30, 3) := dk_180 0 30 (dk_at dksX0_climb_1 0 rfl rfl)
theorem dX0_climb_27 : decode cX0_climb 27 = .ok (.getfield 61, 3) := dk_180 0 61 (dk_at dksX0_climb_1 3 rfl rfl)
theorem dX0_climb_30 : decode cX0_climb 30 = .ok (.newarray .int, 2) := dk_188_10 (dk_at dksX0_climb_1 6 rfl rfl)
theorem dX0_climb_32 : decode cX0_climb 32 = .ok (.astore_n 3, 1) := dk_78 (dk_at dksX0_climb_1 8 rfl rfl)
theorem dX0_climb_33 : decode cX0_climb 33 = .ok (.iconst 0, 1) := dk_3 (dk_at dksX0_climb_1 9 rfl rfl)
theorem dX0_climb_34 : decode cX0_climb 34 = .ok (.istore 4, 2) := dk_54 4 (dk_at dksX0_climb_1 10 rfl rfl)
theorem dX0_climb_36 : decode cX0_climb 36 = .ok (.iload 4, 2) := dk_21 4 (dk_at dksX0_climb_1 12 rfl rfl)
theorem dX0_climb_38 : decode cX0_climb 38 = .ok (.aload_n 3, 1) := dk_45 (dk_at dksX0_climb_1 14 rfl rfl)
theorem dX0_climb_39 : decode cX0_climb 39 = .ok (.arraylength, 1) := dk_190 (dk_at dksX0_climb_1 15 rfl rfl)
theorem dX0_climb_40 : decode cX0_climb 40 = .ok (.if_icmp .ge 49, 3) := dk_162 0 49 (dk_at dksX0_climb_1 16 rfl rfl)
theorem dX0_climb_43 : decode cX0_climb 43 = .ok (.aload_n 2, 1) := dk_44 (dk_at dksX0_climb_1 19 rfl rfl)
theorem dX0_climb_44 : decode cX0_climb 44 = .ok (.iload 4, 2) := dk_21 4 (dk_at dksX0_climb_1 20 rfl rfl)
theorem dX0_climb_46 : decode cX0_climb 46 = .ok (.invokestatic 129, 3) := dk_184 0 129 (dk_at dksX0_climb_2 0 rfl rfl)
theorem dX0_climb_49 : decode cX0_climb 49 = .ok (.lstore 5, 2) := dk_55 5 (dk_at dksX0_climb_2 3 rfl rfl)
theorem dX0_climb_51 : decode cX0_climb 51 = .ok (.aload_n 3, 1) := dk_45 (dk_at dksX0_climb_2 5 rfl rfl)
theorem dX0_climb_52 : decode cX0_climb 52 = .ok (.iload 4, 2) := dk_21 4 (dk_at dksX0_climb_2 6 rfl rfl)
theorem dX0_climb_54 : decode cX0_climb 54 = .ok (.lload 5, 2) := dk_22 5 (dk_at dksX0_climb_2 8 rfl rfl)
theorem dX0_climb_56 : decode cX0_climb 56 = .ok (.lconst 0, 1) := dk_9 (dk_at dksX0_climb_2 10 rfl rfl)
theorem dX0_climb_57 : decode cX0_climb 57 = .ok (.lcmp, 1) := dk_148 (dk_at dksX0_climb_2 11 rfl rfl)
theorem dX0_climb_58 : decode cX0_climb 58 = .ok (.ifCond .lt 17, 3) := dk_155 0 17 (dk_at dksX0_climb_2 12 rfl rfl)
theorem dX0_climb_61 : decode cX0_climb 61 = .ok (.lload 5, 2) := dk_22 5 (dk_at dksX0_climb_2 15 rfl rfl)
theorem dX0_climb_63 : decode cX0_climb 63 = .ok (.aload_n 0, 1) := dk_42 (dk_at dksX0_climb_2 17 rfl rfl)
theorem dX0_climb_64 : decode cX0_climb 64 = .ok (.getfield 30, 3) := dk_180 0 30 (dk_at dksX0_climb_2 18 rfl rfl)
theorem dX0_climb_67 : decode cX0_climb 67 = .ok (.getfield 65, 3) := dk_180 0 65 (dk_at dksX0_climb_2 21 rfl rfl)
theorem dX0_climb_70 : decode cX0_climb 70 = .ok (.i2l, 1) := dk_133 (dk_at dksX0_climb_3 0 rfl rfl)
theorem dX0_climb_71 : decode cX0_climb 71 = .ok (.lcmp, 1) := dk_148 (dk_at dksX0_climb_3 1 rfl rfl)
theorem dX0_climb_72 : decode cX0_climb 72 = .ok (.ifCond .lt 7, 3) := dk_155 0 7 (dk_at dksX0_climb_3 2 rfl rfl)
theorem dX0_climb_75 : decode cX0_climb 75 = .ok (.iconst (-1), 1) := dk_2 (dk_at dksX0_climb_3 5 rfl rfl)
theorem dX0_climb_76 : decode cX0_climb 76 = .ok (.goto 6, 3) := dk_167 0 6 (dk_at dksX0_climb_3 6 rfl rfl)
theorem dX0_climb_79 : decode cX0_climb 79 = .ok (.lload 5, 2) := dk_22 5 (dk_at dksX0_climb_3 9 rfl rfl)
theorem dX0_climb_81 : decode cX0_climb 81 = .ok (.l2i, 1) := dk_136 (dk_at dksX0_climb_3 11 rfl rfl)
theorem dX0_climb_82 : decode cX0_climb 82 = .ok (.iastore, 1) := dk_79 (dk_at dksX0_climb_3 12 rfl rfl)
theorem dX0_climb_83 : decode cX0_climb 83 = .ok (.iinc 4 1, 3) := dk_132 4 1 (dk_at dksX0_climb_3 13 rfl rfl)
theorem dX0_climb_86 : decode cX0_climb 86 = .ok (.goto (-50), 3) := dk_167 255 206 (dk_at dksX0_climb_3 16 rfl rfl)
theorem dX0_climb_89 : decode cX0_climb 89 = .ok (.goto 15, 3) := dk_167 0 15 (dk_at dksX0_climb_3 19 rfl rfl)
theorem dX0_climb_92 : decode cX0_climb 92 = .ok (.astore 4, 2) := dk_58 4 (dk_at dksX0_climb_3 22 rfl rfl)
theorem dX0_climb_94 : decode cX0_climb 94 = .ok (.new 99, 3) := dk_187 0 99 (dk_at dksX0_climb_4 0 rfl rfl)
theorem dX0_climb_97 : decode cX0_climb 97 = .ok (.dup, 1) := dk_89 (dk_at dksX0_climb_4 3 rfl rfl)
theorem dX0_climb_98 : decode cX0_climb 98 = .ok (.bipush (-2), 2) := dk_16 254 (dk_at dksX0_climb_4 4 rfl rfl)
theorem dX0_climb_100 : decode cX0_climb 100 = .ok (.invokespecial 101, 3) := dk_183 0 101 (dk_at dksX0_climb_4 6 rfl rfl)
theorem dX0_climb_103 : decode cX0_climb 103 = .ok (.athrow, 1) := dk_191 (dk_at dksX0_climb_4 9 rfl rfl)
theorem dX0_climb_104 : decode cX0_climb 104 = .ok (.aload_n 3, 1) := dk_45 (dk_at dksX0_climb_4 10 rfl rfl)
theorem dX0_climb_105 : decode cX0_climb 105 = .ok (.areturn, 1) := dk_176 (dk_at dksX0_climb_4 11 rfl rfl)
abbrev cX0_wrongIn : ByteArray := prog_1_method_39_code
def yX0_wrongIn : MethodName := ⟨RX0, "wrongIn", "([I)I"⟩
def dkwX0_wrongIn_2 : List UInt8 := [43, 29, 46, 29, 28, 182, 0, 244, 61, 132, 3, 1, 167, 255, 210, 2, 172]
abbrev dktX0_wrongIn_2 : List UInt8 := dkwX0_wrongIn_2 ++ []
def dkwX0_wrongIn_1 : List UInt8 := [159, 0, 18, 42, 180, 0, 30, 43, 29, 46, 29, 28, 182, 0, 234, 154, 0, 5, 29, 172, 42, 180, 0, 30]
abbrev dktX0_wrongIn_1 : List UInt8 := dkwX0_wrongIn_1 ++ dktX0_wrongIn_2
def dkwX0_wrongIn_0 : List UInt8 := [42, 180, 0, 30, 180, 0, 143, 182, 0, 241, 61, 3, 62, 29, 43, 190, 162, 0, 46, 43, 29, 46, 2]
abbrev dktX0_wrongIn_0 : List UInt8 := dkwX0_wrongIn_0 ++ dktX0_wrongIn_1
theorem dksX0_wrongIn_0 : cX0_wrongIn.data.toList.drop 0 = dktX0_wrongIn_0 := by decide +kernel
theorem dksX0_wrongIn_1 : cX0_wrongIn.data.toList.drop 23 = dktX0_wrongIn_1 := dk_seg dksX0_wrongIn_0 23 rfl rfl
theorem dksX0_wrongIn_2 : cX0_wrongIn.data.toList.drop 47 = dktX0_wrongIn_2 := dk_seg dksX0_wrongIn_1 24 rfl rfl
theorem dX0_wrongIn_0 : decode cX0_wrongIn 0 = .ok (.aload_n 0, 1) := dk_42 (dk_at dksX0_wrongIn_0 0 rfl rfl)
theorem dX0_wrongIn_1 : decode cX0_wrongIn 1 = .ok (.getfield 30, 3) := dk_180 0 30 (dk_at dksX0_wrongIn_0 1 rfl rfl)
theorem dX0_wrongIn_4 : decode cX0_wrongIn 4 = .ok (.getfield 143, 3) := dk_180 0 143 (dk_at dksX0_wrongIn_0 4 rfl rfl)
theorem dX0_wrongIn_7 : decode cX0_wrongIn 7 = .ok (.invokevirtual 241, 3) := dk_182 0 241 (dk_at dksX0_wrongIn_0 7 rfl rfl)
theorem dX0_wrongIn_10 : decode cX0_wrongIn 10 = .ok (.istore_n 2, 1) := dk_61 (dk_at dksX0_wrongIn_0 10 rfl rfl)
theorem dX0_wrongIn_11 : decode cX0_wrongIn 11 = .ok (.iconst 0, 1) := dk_3 (dk_at dksX0_wrongIn_0 11 rfl rfl)
theorem dX0_wrongIn_12 : decode cX0_wrongIn 12 = .ok (.istore_n 3, 1) := dk_62 (dk_at dksX0_wrongIn_0 12 rfl rfl)
theorem dX0_wrongIn_13 : decode cX0_wrongIn 13 = .ok (.iload_n 3, 1) := dk_29 (dk_at dksX0_wrongIn_0 13 rfl rfl)
theorem dX0_wrongIn_14 : decode cX0_wrongIn 14 = .ok (.aload_n 1, 1) := dk_43 (dk_at dksX0_wrongIn_0 14 rfl rfl)
theorem dX0_wrongIn_15 : decode cX0_wrongIn 15 = .ok (.arraylength, 1) := dk_190 (dk_at dksX0_wrongIn_0 15 rfl rfl)
theorem dX0_wrongIn_16 : decode cX0_wrongIn 16 = .ok (.if_icmp .ge 46, 3) := dk_162 0 46 (dk_at dksX0_wrongIn_0 16 rfl rfl)
theorem dX0_wrongIn_19 : decode cX0_wrongIn 19 = .ok (.aload_n 1, 1) := dk_43 (dk_at dksX0_wrongIn_0 19 rfl rfl)
theorem dX0_wrongIn_20 : decode cX0_wrongIn 20 = .ok (.iload_n 3, 1) := dk_29 (dk_at dksX0_wrongIn_0 20 rfl rfl)
theorem dX0_wrongIn_21 : decode cX0_wrongIn 21 = .ok (.iaload, 1) := dk_46 (dk_at dksX0_wrongIn_0 21 rfl rfl)
theorem dX0_wrongIn_22 : decode cX0_wrongIn 22 = .ok (.iconst (-1), 1) := dk_2 (dk_at dksX0_wrongIn_0 22 rfl rfl)
theorem dX0_wrongIn_23 : decode cX0_wrongIn 23 = .ok (.if_icmp .eq 18, 3) := dk_159 0 18 (dk_at dksX0_wrongIn_1 0 rfl rfl)
theorem dX0_wrongIn_26 : decode cX0_wrongIn 26 = .ok (.aload_n 0, 1) := dk_42 (dk_at dksX0_wrongIn_1 3 rfl rfl)
theorem dX0_wrongIn_27 : decode cX0_wrongIn 27 = .ok (.getfield 30, 3) := dk_180 0 30 (dk_at dksX0_wrongIn_1 4 rfl rfl)
theorem dX0_wrongIn_30 : decode cX0_wrongIn 30 = .ok (.aload_n 1, 1) := dk_43 (dk_at dksX0_wrongIn_1 7 rfl rfl)
theorem dX0_wrongIn_31 : decode cX0_wrongIn 31 = .ok (.iload_n 3, 1) := dk_29 (dk_at dksX0_wrongIn_1 8 rfl rfl)
theorem dX0_wrongIn_32 : decode cX0_wrongIn 32 = .ok (.iaload, 1) := dk_46 (dk_at dksX0_wrongIn_1 9 rfl rfl)
theorem dX0_wrongIn_33 : decode cX0_wrongIn 33 = .ok (.iload_n 3, 1) := dk_29 (dk_at dksX0_wrongIn_1 10 rfl rfl)
theorem dX0_wrongIn_34 : decode cX0_wrongIn 34 = .ok (.iload_n 2, 1) := dk_28 (dk_at dksX0_wrongIn_1 11 rfl rfl)
theorem dX0_wrongIn_35 : decode cX0_wrongIn 35 = .ok (.invokevirtual 234, 3) := dk_182 0 234 (dk_at dksX0_wrongIn_1 12 rfl rfl)
theorem dX0_wrongIn_38 : decode cX0_wrongIn 38 = .ok (.ifCond .ne 5, 3) := dk_154 0 5 (dk_at dksX0_wrongIn_1 15 rfl rfl)
theorem dX0_wrongIn_41 : decode cX0_wrongIn 41 = .ok (.iload_n 3, 1) := dk_29 (dk_at dksX0_wrongIn_1 18 rfl rfl)
theorem dX0_wrongIn_42 : decode cX0_wrongIn 42 = .ok (.ireturn, 1) := dk_172 (dk_at dksX0_wrongIn_1 19 rfl rfl)
theorem dX0_wrongIn_43 : decode cX0_wrongIn 43 = .ok (.aload_n 0, 1) := dk_42 (dk_at dksX0_wrongIn_1 20 rfl rfl)
theorem dX0_wrongIn_44 : decode cX0_wrongIn 44 = .ok (.getfield 30, 3) := dk_180 0 30 (dk_at dksX0_wrongIn_1 21 rfl rfl)
theorem dX0_wrongIn_47 : decode cX0_wrongIn 47 = .ok (.aload_n 1, 1) := dk_43 (dk_at dksX0_wrongIn_2 0 rfl rfl)
theorem dX0_wrongIn_48 : decode cX0_wrongIn 48 = .ok (.iload_n 3, 1) := dk_29 (dk_at dksX0_wrongIn_2 1 rfl rfl)
theorem dX0_wrongIn_49 : decode cX0_wrongIn 49 = .ok (.iaload, 1) := dk_46 (dk_at dksX0_wrongIn_2 2 rfl rfl)
theorem dX0_wrongIn_50 : decode cX0_wrongIn 50 = .ok (.iload_n 3, 1) := dk_29 (dk_at dksX0_wrongIn_2 3 rfl rfl)
theorem dX0_wrongIn_51 : decode cX0_wrongIn 51 = .ok (.iload_n 2, 1) := dk_28 (dk_at dksX0_wrongIn_2 4 rfl rfl)
theorem dX0_wrongIn_52 : decode cX0_wrongIn 52 = .ok (.invokevirtual 244, 3) := dk_182 0 244 (dk_at dksX0_wrongIn_2 5 rfl rfl)
theorem dX0_wrongIn_55 : decode cX0_wrongIn 55 = .ok (.istore_n 2, 1) := dk_61 (dk_at dksX0_wrongIn_2 8 rfl rfl)
theorem dX0_wrongIn_56 : decode cX0_wrongIn 56 = .ok (.iinc 3 1, 3) := dk_132 3 1 (dk_at dksX0_wrongIn_2 9 rfl rfl)
theorem dX0_wrongIn_59 : decode cX0_wrongIn 59 = .ok (.goto (-46), 3) := dk_167 255 210 (dk_at dksX0_wrongIn_2 12 rfl rfl)
theorem dX0_wrongIn_62 : decode cX0_wrongIn 62 = .ok (.iconst (-1), 1) := dk_2 (dk_at dksX0_wrongIn_2 15 rfl rfl)
theorem dX0_wrongIn_63 : decode cX0_wrongIn 63 = .ok (.ireturn, 1) := dk_172 (dk_at dksX0_wrongIn_2 16 rfl rfl)
abbrev cX0_told : ByteArray := prog_1_method_43_code
def yX0_told : MethodName := ⟨RX0, "told", "(II)I"⟩
def dkwX0_told_1 : List UInt8 := [182, 1, 9, 172, 78, 42, 45, 180, 0, 112, 182, 0, 85, 172]
abbrev dktX0_told_1 : List UInt8 := dkwX0_told_1 ++ []
def dkwX0_told_0 : List UInt8 := [28, 3, 7, 184, 0, 57, 154, 0, 10, 42, 16, 254, 182, 0, 85, 172, 42, 42, 27, 182, 1, 6, 28]
abbrev dktX0_told_0 : List UInt8 := dkwX0_told_0 ++ dktX0_told_1
theorem dksX0_told_0 : cX0_told.data.toList.drop 0 = dktX0_told_0 := by decide +kernel
theorem dksX0_told_1 : cX0_told.data.toList.drop 23 = dktX0_told_1 := dk_seg dksX0_told_0 23 rfl rfl
theorem dX0_told_0 : decode cX0_told 0 = .ok (.iload_n 2, 1) := dk_28 (dk_at dksX0_told_0 0 rfl rfl)
theorem dX0_told_1 : decode cX0_told 1 = .ok (.iconst 0, 1) := dk_3 (dk_at dksX0_told_0 1 rfl rfl)
theorem dX0_told_2 : decode cX0_told 2 = .ok (.iconst 4, 1) := dk_7 (dk_at dksX0_told_0 2 rfl rfl)
theorem dX0_told_3 : decode cX0_told 3 = .ok (.invokestatic 57, 3) := dk_184 0 57 (dk_at dksX0_told_0 3 rfl rfl)
theorem dX0_told_6 : decode cX0_told 6 = .ok (.ifCond .ne 10, 3) := dk_154 0 10 (dk_at dksX0_told_0 6 rfl rfl)
theorem dX0_told_9 : decode cX0_told 9 = .ok (.aload_n 0, 1) := dk_42 (dk_at dksX0_told_0 9 rfl rfl)
theorem dX0_told_10 : decode cX0_told 10 = .ok (.bipush (-2), 2) := dk_16 254 (dk_at dksX0_told_0 10 rfl rfl)
theorem dX0_told_12 : decode cX0_told 12 = .ok (.invokevirtual 85, 3) := dk_182 0 85 (dk_at dksX0_told_0 12 rfl rfl)
theorem dX0_told_15 : decode cX0_told 15 = .ok (.ireturn, 1) := dk_172 (dk_at dksX0_told_0 15 rfl rfl)
theorem dX0_told_16 : decode cX0_told 16 = .ok (.aload_n 0, 1) := dk_42 (dk_at dksX0_told_0 16 rfl rfl)
theorem dX0_told_17 : decode cX0_told 17 = .ok (.aload_n 0, 1) := dk_42 (dk_at dksX0_told_0 17 rfl rfl)
theorem dX0_told_18 : decode cX0_told 18 = .ok (.iload_n 1, 1) := dk_27 (dk_at dksX0_told_0 18 rfl rfl)
theorem dX0_told_19 : decode cX0_told 19 = .ok (.invokevirtual 262, 3) := dk_182 1 6 (dk_at dksX0_told_0 19 rfl rfl)
theorem dX0_told_22 : decode cX0_told 22 = .ok (.iload_n 2, 1) := dk_28 (dk_at dksX0_told_0 22 rfl rfl)
theorem dX0_told_23 : decode cX0_told 23 = .ok (.invokevirtual 265, 3) := dk_182 1 9 (dk_at dksX0_told_1 0 rfl rfl)
theorem dX0_told_26 : decode cX0_told 26 = .ok (.ireturn, 1) := dk_172 (dk_at dksX0_told_1 3 rfl rfl)
theorem dX0_told_27 : decode cX0_told 27 = .ok (.astore_n 3, 1) := dk_78 (dk_at dksX0_told_1 4 rfl rfl)
theorem dX0_told_28 : decode cX0_told 28 = .ok (.aload_n 0, 1) := dk_42 (dk_at dksX0_told_1 5 rfl rfl)
theorem dX0_told_29 : decode cX0_told 29 = .ok (.aload_n 3, 1) := dk_45 (dk_at dksX0_told_1 6 rfl rfl)
theorem dX0_told_30 : decode cX0_told 30 = .ok (.getfield 112, 3) := dk_180 0 112 (dk_at dksX0_told_1 7 rfl rfl)
theorem dX0_told_33 : decode cX0_told 33 = .ok (.invokevirtual 85, 3) := dk_182 0 85 (dk_at dksX0_told_1 10 rfl rfl)
theorem dX0_told_36 : decode cX0_told 36 = .ok (.ireturn, 1) := dk_172 (dk_at dksX0_told_1 13 rfl rfl)
abbrev cX0_goodClimb : ByteArray := prog_1_method_41_code
def yX0_goodClimb : MethodName := ⟨RX0, "goodClimb", "(I)[I"⟩
def dkwX0_goodClimb_1 : List UInt8 := [191, 44, 176]
abbrev dktX0_goodClimb_1 : List UInt8 := dkwX0_goodClimb_1 ++ []
def dkwX0_goodClimb_0 : List UInt8 := [42, 27, 182, 0, 248, 77, 42, 44, 182, 0, 252, 2, 159, 0, 13, 187, 0, 99, 89, 16, 251, 183, 0, 101]
abbrev dktX0_goodClimb_0 : List UInt8 := dkwX0_goodClimb_0 ++ dktX0_goodClimb_1
theorem dksX0_goodClimb_0 : cX0_goodClimb.data.toList.drop 0 = dktX0_goodClimb_0 := by decide +kernel
theorem dksX0_goodClimb_1 : cX0_goodClimb.data.toList.drop 24 = dktX0_goodClimb_1 := dk_seg dksX0_goodClimb_0 24 rfl rfl
theorem dX0_goodClimb_0 : decode cX0_goodClimb 0 = .ok (.aload_n 0, 1) := dk_42 (dk_at dksX0_goodClimb_0 0 rfl rfl)
theorem dX0_goodClimb_1 : decode cX0_goodClimb 1 = .ok (.iload_n 1, 1) := dk_27 (dk_at dksX0_goodClimb_0 1 rfl rfl)
theorem dX0_goodClimb_2 : decode cX0_goodClimb 2 = .ok (.invokevirtual 248, 3) := dk_182 0 248 (dk_at dksX0_goodClimb_0 2 rfl rfl)
theorem dX0_goodClimb_5 : decode cX0_goodClimb 5 = .ok (.astore_n 2, 1) := dk_77 (dk_at dksX0_goodClimb_0 5 rfl rfl)
theorem dX0_goodClimb_6 : decode cX0_goodClimb 6 = .ok (.aload_n 0, 1) := dk_42 (dk_at dksX0_goodClimb_0 6 rfl rfl)
theorem dX0_goodClimb_7 : decode cX0_goodClimb 7 = .ok (.aload_n 2, 1) := dk_44 (dk_at dksX0_goodClimb_0 7 rfl rfl)
theorem dX0_goodClimb_8 : decode cX0_goodClimb 8 = .ok (.invokevirtual 252, 3) := dk_182 0 252 (dk_at dksX0_goodClimb_0 8 rfl rfl)
theorem dX0_goodClimb_11 : decode cX0_goodClimb 11 = .ok (.iconst (-1), 1) := dk_2 (dk_at dksX0_goodClimb_0 11 rfl rfl)
theorem dX0_goodClimb_12 : decode cX0_goodClimb 12 = .ok (.if_icmp .eq 13, 3) := dk_159 0 13 (dk_at dksX0_goodClimb_0 12 rfl rfl)
theorem dX0_goodClimb_15 : decode cX0_goodClimb 15 = .ok (.new 99, 3) := dk_187 0 99 (dk_at dksX0_goodClimb_0 15 rfl rfl)
theorem dX0_goodClimb_18 : decode cX0_goodClimb 18 = .ok (.dup, 1) := dk_89 (dk_at dksX0_goodClimb_0 18 rfl rfl)
theorem dX0_goodClimb_19 : decode cX0_goodClimb 19 = .ok (.bipush (-5), 2) := dk_16 251 (dk_at dksX0_goodClimb_0 19 rfl rfl)
theorem dX0_goodClimb_21 : decode cX0_goodClimb 21 = .ok (.invokespecial 101, 3) := dk_183 0 101 (dk_at dksX0_goodClimb_0 21 rfl rfl)
theorem dX0_goodClimb_24 : decode cX0_goodClimb 24 = .ok (.athrow, 1) := dk_191 (dk_at dksX0_goodClimb_1 0 rfl rfl)
theorem dX0_goodClimb_25 : decode cX0_goodClimb 25 = .ok (.aload_n 2, 1) := dk_44 (dk_at dksX0_goodClimb_1 1 rfl rfl)
theorem dX0_goodClimb_26 : decode cX0_goodClimb 26 = .ok (.areturn, 1) := dk_176 (dk_at dksX0_goodClimb_1 2 rfl rfl)
abbrev cX0_sumOf : ByteArray := prog_1_method_42_code
def yX0_sumOf : MethodName := ⟨RX0, "sumOf", "([II)I"⟩
def dkwX0_sumOf_6 : List UInt8 := [28, 7, 162, 0, 8, 21, 4, 167, 0, 5, 21, 5, 172]
abbrev dktX0_sumOf_6 : List UInt8 := dkwX0_sumOf_6 ++ []
def dkwX0_sumOf_5 : List UInt8 := [21, 6, 21, 5, 182, 0, 244, 54, 5, 132, 6, 1, 167, 255, 146, 28, 5, 162, 0, 7, 29, 167, 0, 15]
abbrev dktX0_sumOf_5 : List UInt8 := dkwX0_sumOf_5 ++ dktX0_sumOf_6
def dkwX0_sumOf_4 : List UInt8 := [160, 0, 7, 3, 167, 0, 4, 4, 182, 0, 151, 184, 1, 0, 54, 4, 42, 180, 0, 30, 43, 21, 6, 46]
abbrev dktX0_sumOf_4 : List UInt8 := dkwX0_sumOf_4 ++ dktX0_sumOf_5
def dkwX0_sumOf_3 : List UInt8 := [167, 0, 4, 5, 182, 0, 151, 96, 62, 21, 4, 25, 7, 42, 180, 0, 30, 180, 0, 143, 25, 8, 28, 5]
abbrev dktX0_sumOf_3 : List UInt8 := dkwX0_sumOf_3 ++ dktX0_sumOf_4
def dkwX0_sumOf_2 : List UInt8 := [21, 6, 50, 58, 8, 29, 25, 7, 42, 180, 0, 30, 180, 0, 143, 25, 8, 28, 154, 0, 7, 6]
abbrev dktX0_sumOf_2 : List UInt8 := dkwX0_sumOf_2 ++ dktX0_sumOf_3
def dkwX0_sumOf_1 : List UInt8 := [162, 0, 109, 42, 180, 0, 30, 180, 0, 139, 43, 21, 6, 46, 50, 58, 7, 42, 180, 0, 30, 180, 0, 147]
abbrev dktX0_sumOf_1 : List UInt8 := dkwX0_sumOf_1 ++ dktX0_sumOf_2
def dkwX0_sumOf_0 : List UInt8 := [3, 62, 3, 54, 4, 42, 180, 0, 30, 180, 0, 143, 182, 0, 241, 54, 5, 3, 54, 6, 21, 6, 43, 190]
abbrev dktX0_sumOf_0 : List UInt8 := dkwX0_sumOf_0 ++ dktX0_sumOf_1
theorem dksX0_sumOf_0 : cX0_sumOf.data.toList.drop 0 = dktX0_sumOf_0 := by decide +kernel
theorem dksX0_sumOf_1 : cX0_sumOf.data.toList.drop 24 = dktX0_sumOf_1 := dk_seg dksX0_sumOf_0 24 rfl rfl
theorem dksX0_sumOf_2 : cX0_sumOf.data.toList.drop 48 = dktX0_sumOf_2 := dk_seg dksX0_sumOf_1 24 rfl rfl
theorem dksX0_sumOf_3 : cX0_sumOf.data.toList.drop 70 = dktX0_sumOf_3 := dk_seg dksX0_sumOf_2 22 rfl rfl
theorem dksX0_sumOf_4 : cX0_sumOf.data.toList.drop 94 = dktX0_sumOf_4 := dk_seg dksX0_sumOf_3 24 rfl rfl
theorem dksX0_sumOf_5 : cX0_sumOf.data.toList.drop 118 = dktX0_sumOf_5 := dk_seg dksX0_sumOf_4 24 rfl rfl
theorem dksX0_sumOf_6 : cX0_sumOf.data.toList.drop 142 = dktX0_sumOf_6 := dk_seg dksX0_sumOf_5 24 rfl rfl
theorem dX0_sumOf_0 : decode cX0_sumOf 0 = .ok (.iconst 0, 1) := dk_3 (dk_at dksX0_sumOf_0 0 rfl rfl)
theorem dX0_sumOf_1 : decode cX0_sumOf 1 = .ok (.istore_n 3, 1) := dk_62 (dk_at dksX0_sumOf_0 1 rfl rfl)
theorem dX0_sumOf_2 : decode cX0_sumOf 2 = .ok (.iconst 0, 1) := dk_3 (dk_at dksX0_sumOf_0 2 rfl rfl)
theorem dX0_sumOf_3 : decode cX0_sumOf 3 = .ok (.istore 4, 2) := dk_54 4 (dk_at dksX0_sumOf_0 3 rfl rfl)
theorem dX0_sumOf_5 : decode cX0_sumOf 5 = .ok (.aload_n 0, 1) := dk_42 (dk_at dksX0_sumOf_0 5 rfl rfl)
theorem dX0_sumOf_6 : decode cX0_sumOf 6 = .ok (.getfield 30, 3) := dk_180 0 30 (dk_at dksX0_sumOf_0 6 rfl rfl)
theorem dX0_sumOf_9 : decode cX0_sumOf 9 = .ok (.getfield 143, 3) := dk_180 0 143 (dk_at dksX0_sumOf_0 9 rfl rfl)
theorem dX0_sumOf_12 : decode cX0_sumOf 12 = .ok (.invokevirtual 241, 3) := dk_182 0 241 (dk_at dksX0_sumOf_0 12 rfl rfl)
theorem dX0_sumOf_15 : decode cX0_sumOf 15 = .ok (.istore 5, 2) := dk_54 5 (dk_at dksX0_sumOf_0 15 rfl rfl)
theorem dX0_sumOf_17 : decode cX0_sumOf 17 = .ok (.iconst 0, 1) := dk_3 (dk_at dksX0_sumOf_0 17 rfl rfl)
theorem dX0_sumOf_18 : decode cX0_sumOf 18 = .ok (.istore 6, 2) := dk_54 6 (dk_at dksX0_sumOf_0 18 rfl rfl)
theorem dX0_sumOf_20 : decode cX0_sumOf 20 = .ok (.iload 6, 2) := dk_21 6 (dk_at dksX0_sumOf_0 20 rfl rfl)
theorem dX0_sumOf_22 : decode cX0_sumOf 22 = .ok (.aload_n 1, 1) := dk_43 (dk_at dksX0_sumOf_0 22 rfl rfl)
theorem dX0_sumOf_23 : decode cX0_sumOf 23 = .ok (.arraylength, 1) := dk_190 (dk_at dksX0_sumOf_0 23 rfl rfl)
theorem dX0_sumOf_24 : decode cX0_sumOf 24 = .ok (.if_icmp .ge 109, 3) := dk_162 0 109 (dk_at dksX0_sumOf_1 0 rfl rfl)
theorem dX0_sumOf_27 : decode cX0_sumOf 27 = .ok (.aload_n 0, 1) := dk_42 (dk_at dksX0_sumOf_1 3 rfl rfl)
theorem dX0_sumOf_28 : decode cX0_sumOf 28 = .ok (.getfield 30, 3) := dk_180 0 30 (dk_at dksX0_sumOf_1 4 rfl rfl)
theorem dX0_sumOf_31 : decode cX0_sumOf 31 = .ok (.getfield 139, 3) := dk_180 0 139 (dk_at dksX0_sumOf_1 7 rfl rfl)
theorem dX0_sumOf_34 : decode cX0_sumOf 34 = .ok (.aload_n 1, 1) := dk_43 (dk_at dksX0_sumOf_1 10 rfl rfl)
theorem dX0_sumOf_35 : decode cX0_sumOf 35 = .ok (.iload 6, 2) := dk_21 6 (dk_at dksX0_sumOf_1 11 rfl rfl)
theorem dX0_sumOf_37 : decode cX0_sumOf 37 = .ok (.iaload, 1) := dk_46 (dk_at dksX0_sumOf_1 13 rfl rfl)
theorem dX0_sumOf_38 : decode cX0_sumOf 38 = .ok (.aaload, 1) := dk_50 (dk_at dksX0_sumOf_1 14 rfl rfl)
theorem dX0_sumOf_39 : decode cX0_sumOf 39 = .ok (.astore 7, 2) := dk_58 7 (dk_at dksX0_sumOf_1 15 rfl rfl)
theorem dX0_sumOf_41 : decode cX0_sumOf 41 = .ok (.aload_n 0, 1) := dk_42 (dk_at dksX0_sumOf_1 17 rfl rfl)
theorem dX0_sumOf_42 : decode cX0_sumOf 42 = .ok (.getfield 30, 3) := dk_180 0 30 (dk_at dksX0_sumOf_1 18 rfl rfl)
theorem dX0_sumOf_45 : decode cX0_sumOf 45 = .ok (.getfield 147, 3) := dk_180 0 147 (dk_at dksX0_sumOf_1 21 rfl rfl)
theorem dX0_sumOf_48 : decode cX0_sumOf 48 = .ok (.iload 6, 2) := dk_21 6 (dk_at dksX0_sumOf_2 0 rfl rfl)
theorem dX0_sumOf_50 : decode cX0_sumOf 50 = .ok (.aaload, 1) := dk_50 (dk_at dksX0_sumOf_2 2 rfl rfl)
theorem dX0_sumOf_51 : decode cX0_sumOf 51 = .ok (.astore 8, 2) := dk_58 8 (dk_at dksX0_sumOf_2 3 rfl rfl)
theorem dX0_sumOf_53 : decode cX0_sumOf 53 = .ok (.iload_n 3, 1) := dk_29 (dk_at dksX0_sumOf_2 5 rfl rfl)
theorem dX0_sumOf_54 : decode cX0_sumOf 54 = .ok (.aload 7, 2) := dk_25 7 (dk_at dksX0_sumOf_2 6 rfl rfl)
theorem dX0_sumOf_56 : decode cX0_sumOf 56 = .ok (.aload_n 0, 1) := dk_42 (dk_at dksX0_sumOf_2 8 rfl rfl)
theorem dX0_sumOf_57 : decode cX0_sumOf 57 = .ok (.getfield 30, 3) := dk_180 0 30 (dk_at dksX0_sumOf_2 9 rfl rfl)
theorem dX0_sumOf_60 : decode cX0_sumOf 60 = .ok (.getfield 143, 3) := dk_180 0 143 (dk_at dksX0_sumOf_2 12 rfl rfl)
theorem dX0_sumOf_63 : decode cX0_sumOf 63 = .ok (.aload 8, 2) := dk_25 8 (dk_at dksX0_sumOf_2 15 rfl rfl)
theorem dX0_sumOf_65 : decode cX0_sumOf 65 = .ok (.iload_n 2, 1) := dk_28 (dk_at dksX0_sumOf_2 17 rfl rfl)
theorem dX0_sumOf_66 : decode cX0_sumOf 66 = .ok (.ifCond .ne 7, 3) := dk_154 0 7 (dk_at dksX0_sumOf_2 18 rfl rfl)
theorem dX0_sumOf_69 : decode cX0_sumOf 69 = .ok (.iconst 3, 1) := dk_6 (dk_at dksX0_sumOf_2 21 rfl rfl)
theorem dX0_sumOf_70 : decode cX0_sumOf 70 = .ok (.goto 4, 3) := dk_167 0 4 (dk_at dksX0_sumOf_3 0 rfl rfl)
theorem dX0_sumOf_73 : decode cX0_sumOf 73 = .ok (.iconst 2, 1) := dk_5 (dk_at dksX0_sumOf_3 3 rfl rfl)
theorem dX0_sumOf_74 : decode cX0_sumOf 74 = .ok (.invokevirtual 151, 3) := dk_182 0 151 (dk_at dksX0_sumOf_3 4 rfl rfl)
theorem dX0_sumOf_77 : decode cX0_sumOf 77 = .ok (.iadd, 1) := dk_96 (dk_at dksX0_sumOf_3 7 rfl rfl)
theorem dX0_sumOf_78 : decode cX0_sumOf 78 = .ok (.istore_n 3, 1) := dk_62 (dk_at dksX0_sumOf_3 8 rfl rfl)
theorem dX0_sumOf_79 : decode cX0_sumOf 79 = .ok (.iload 4, 2) := dk_21 4 (dk_at dksX0_sumOf_3 9 rfl rfl)
theorem dX0_sumOf_81 : decode cX0_sumOf 81 = .ok (.aload 7, 2) := dk_25 7 (dk_at dksX0_sumOf_3 11 rfl rfl)
theorem dX0_sumOf_83 : decode cX0_sumOf 83 = .ok (.aload_n 0, 1) := dk_42 (dk_at dksX0_sumOf_3 13 rfl rfl)
theorem dX0_sumOf_84 : decode cX0_sumOf 84 = .ok (.getfield 30, 3) := dk_180 0 30 (dk_at dksX0_sumOf_3 14 rfl rfl)
theorem dX0_sumOf_87 : decode cX0_sumOf 87 = .ok (.getfield 143, 3) := dk_180 0 143 (dk_at dksX0_sumOf_3 17 rfl rfl)
theorem dX0_sumOf_90 : decode cX0_sumOf 90 = .ok (.aload 8, 2) := dk_25 8 (dk_at dksX0_sumOf_3 20 rfl rfl)
theorem dX0_sumOf_92 : decode cX0_sumOf 92 = .ok (.iload_n 2, 1) := dk_28 (dk_at dksX0_sumOf_3 22 rfl rfl)
theorem dX0_sumOf_93 : decode cX0_sumOf 93 = .ok (.iconst 2, 1) := dk_5 (dk_at dksX0_sumOf_3 23 rfl rfl)
theorem dX0_sumOf_94 : decode cX0_sumOf 94 = .ok (.if_icmp .ne 7, 3) := dk_160 0 7 (dk_at dksX0_sumOf_4 0 rfl rfl)
theorem dX0_sumOf_97 : decode cX0_sumOf 97 = .ok (.iconst 0, 1) := dk_3 (dk_at dksX0_sumOf_4 3 rfl rfl)
theorem dX0_sumOf_98 : decode cX0_sumOf 98 = .ok (.goto 4, 3) := dk_167 0 4 (dk_at dksX0_sumOf_4 4 rfl rfl)
theorem dX0_sumOf_101 : decode cX0_sumOf 101 = .ok (.iconst 1, 1) := dk_4 (dk_at dksX0_sumOf_4 7 rfl rfl)
theorem dX0_sumOf_102 : decode cX0_sumOf 102 = .ok (.invokevirtual 151, 3) := dk_182 0 151 (dk_at dksX0_sumOf_4 8 rfl rfl)
theorem dX0_sumOf_105 : decode cX0_sumOf 105 = .ok (.invokestatic 256, 3) := dk_184 1 0 (dk_at dksX0_sumOf_4 11 rfl rfl)
theorem dX0_sumOf_108 : decode cX0_sumOf 108 = .ok (.istore 4, 2) := dk_54 4 (dk_at dksX0_sumOf_4 14 rfl rfl)
theorem dX0_sumOf_110 : decode cX0_sumOf 110 = .ok (.aload_n 0, 1) := dk_42 (dk_at dksX0_sumOf_4 16 rfl rfl)
theorem dX0_sumOf_111 : decode cX0_sumOf 111 = .ok (.getfield 30, 3) := dk_180 0 30 (dk_at dksX0_sumOf_4 17 rfl rfl)
theorem dX0_sumOf_114 : decode cX0_sumOf 114 = .ok (.aload_n 1, 1) := dk_43 (dk_at dksX0_sumOf_4 20 rfl rfl)
theorem dX0_sumOf_115 : decode cX0_sumOf 115 = .ok (.iload 6, 2) := dk_21 6 (dk_at dksX0_sumOf_4 21 rfl rfl)
theorem dX0_sumOf_117 : decode cX0_sumOf 117 = .ok (.iaload, 1) := dk_46 (dk_at dksX0_sumOf_4 23 rfl rfl)
theorem dX0_sumOf_118 : decode cX0_sumOf 118 = .ok (.iload 6, 2) := dk_21 6 (dk_at dksX0_sumOf_5 0 rfl rfl)
theorem dX0_sumOf_120 : decode cX0_sumOf 120 = .ok (.iload 5, 2) := dk_21 5 (dk_at dksX0_sumOf_5 2 rfl rfl)
theorem dX0_sumOf_122 : decode cX0_sumOf 122 = .ok (.invokevirtual 244, 3) := dk_182 0 244 (dk_at dksX0_sumOf_5 4 rfl rfl)
theorem dX0_sumOf_125 : decode cX0_sumOf 125 = .ok (.istore 5, 2) := dk_54 5 (dk_at dksX0_sumOf_5 7 rfl rfl)
theorem dX0_sumOf_127 : decode cX0_sumOf 127 = .ok (.iinc 6 1, 3) := dk_132 6 1 (dk_at dksX0_sumOf_5 9 rfl rfl)
theorem dX0_sumOf_130 : decode cX0_sumOf 130 = .ok (.goto (-110), 3) := dk_167 255 146 (dk_at dksX0_sumOf_5 12 rfl rfl)
theorem dX0_sumOf_133 : decode cX0_sumOf 133 = .ok (.iload_n 2, 1) := dk_28 (dk_at dksX0_sumOf_5 15 rfl rfl)
theorem dX0_sumOf_134 : decode cX0_sumOf 134 = .ok (.iconst 2, 1) := dk_5 (dk_at dksX0_sumOf_5 16 rfl rfl)
theorem dX0_sumOf_135 : decode cX0_sumOf 135 = .ok (.if_icmp .ge 7, 3) := dk_162 0 7 (dk_at dksX0_sumOf_5 17 rfl rfl)
theorem dX0_sumOf_138 : decode cX0_sumOf 138 = .ok (.iload_n 3, 1) := dk_29 (dk_at dksX0_sumOf_5 20 rfl rfl)
theorem dX0_sumOf_139 : decode cX0_sumOf 139 = .ok (.goto 15, 3) := dk_167 0 15 (dk_at dksX0_sumOf_5 21 rfl rfl)
theorem dX0_sumOf_142 : decode cX0_sumOf 142 = .ok (.iload_n 2, 1) := dk_28 (dk_at dksX0_sumOf_6 0 rfl rfl)
theorem dX0_sumOf_143 : decode cX0_sumOf 143 = .ok (.iconst 4, 1) := dk_7 (dk_at dksX0_sumOf_6 1 rfl rfl)
theorem dX0_sumOf_144 : decode cX0_sumOf 144 = .ok (.if_icmp .ge 8, 3) := dk_162 0 8 (dk_at dksX0_sumOf_6 2 rfl rfl)
theorem dX0_sumOf_147 : decode cX0_sumOf 147 = .ok (.iload 4, 2) := dk_21 4 (dk_at dksX0_sumOf_6 5 rfl rfl)
theorem dX0_sumOf_149 : decode cX0_sumOf 149 = .ok (.goto 5, 3) := dk_167 0 5 (dk_at dksX0_sumOf_6 7 rfl rfl)
theorem dX0_sumOf_152 : decode cX0_sumOf 152 = .ok (.iload 5, 2) := dk_21 5 (dk_at dksX0_sumOf_6 10 rfl rfl)
theorem dX0_sumOf_154 : decode cX0_sumOf 154 = .ok (.ireturn, 1) := dk_172 (dk_at dksX0_sumOf_6 12 rfl rfl)
abbrev cX0_odds : ByteArray := prog_1_method_44_code
def yX0_odds : MethodName := ⟨RX0, "odds", "(I)J"⟩
def dkwX0_odds_2 : List UInt8 := [100, 133, 105, 66, 132, 5, 1, 167, 255, 214, 33, 173, 77, 42, 44, 180, 0, 112, 182, 0, 85, 133, 173]
abbrev dktX0_odds_2 : List UInt8 := dkwX0_odds_2 ++ []
def dkwX0_odds_1 : List UInt8 := [180, 0, 30, 180, 0, 139, 44, 21, 5, 46, 50, 42, 180, 0, 30, 180, 0, 147, 21, 5, 50, 182, 1, 13]
abbrev dktX0_odds_1 : List UInt8 := dkwX0_odds_1 ++ dktX0_odds_2
def dkwX0_odds_0 : List UInt8 := [42, 27, 182, 1, 6, 77, 10, 66, 3, 54, 5, 21, 5, 44, 190, 162, 0, 41, 33, 16, 100, 42]
abbrev dktX0_odds_0 : List UInt8 := dkwX0_odds_0 ++ dktX0_odds_1
theorem dksX0_odds_0 : cX0_odds.data.toList.drop 0 = dktX0_odds_0 := by decide +kernel
theorem dksX0_odds_1 : cX0_odds.data.toList.drop 22 = dktX0_odds_1 := dk_seg dksX0_odds_0 22 rfl rfl
theorem dksX0_odds_2 : cX0_odds.data.toList.drop 46 = dktX0_odds_2 := dk_seg dksX0_odds_1 24 rfl rfl
theorem dX0_odds_0 : decode cX0_odds 0 = .ok (.aload_n 0, 1) := dk_42 (dk_at dksX0_odds_0 0 rfl rfl)
theorem dX0_odds_1 : decode cX0_odds 1 = .ok (.iload_n 1, 1) := dk_27 (dk_at dksX0_odds_0 1 rfl rfl)
theorem dX0_odds_2 : decode cX0_odds 2 = .ok (.invokevirtual 262, 3) := dk_182 1 6 (dk_at dksX0_odds_0 2 rfl rfl)
theorem dX0_odds_5 : decode cX0_odds 5 = .ok (.astore_n 2, 1) := dk_77 (dk_at dksX0_odds_0 5 rfl rfl)
theorem dX0_odds_6 : decode cX0_odds 6 = .ok (.lconst 1, 1) := dk_10 (dk_at dksX0_odds_0 6 rfl rfl)
theorem dX0_odds_7 : decode cX0_odds 7 = .ok (.lstore_n 3, 1) := dk_66 (dk_at dksX0_odds_0 7 rfl rfl)
theorem dX0_odds_8 : decode cX0_odds 8 = .ok (.iconst 0, 1) := dk_3 (dk_at dksX0_odds_0 8 rfl rfl)
theorem dX0_odds_9 : decode cX0_odds 9 = .ok (.istore 5, 2) := dk_54 5 (dk_at dksX0_odds_0 9 rfl rfl)
theorem dX0_odds_11 : decode cX0_odds 11 = .ok (.iload 5, 2) := dk_21 5 (dk_at dksX0_odds_0 11 rfl rfl)
theorem dX0_odds_13 : decode cX0_odds 13 = .ok (.aload_n 2, 1) := dk_44 (dk_at dksX0_odds_0 13 rfl rfl)
theorem dX0_odds_14 : decode cX0_odds 14 = .ok (.arraylength, 1) := dk_190 (dk_at dksX0_odds_0 14 rfl rfl)
theorem dX0_odds_15 : decode cX0_odds 15 = .ok (.if_icmp .ge 41, 3) := dk_162 0 41 (dk_at dksX0_odds_0 15 rfl rfl)
theorem dX0_odds_18 : decode cX0_odds 18 = .ok (.lload_n 3, 1) := dk_33 (dk_at dksX0_odds_0 18 rfl rfl)
theorem dX0_odds_19 : decode cX0_odds 19 = .ok (.bipush 100, 2) := dk_16 100 (dk_at dksX0_odds_0 19 rfl rfl)
theorem dX0_odds_21 : decode cX0_odds 21 = .ok (.aload_n 0, 1) := dk_42 (dk_at dksX0_odds_0 21 rfl rfl)
theorem dX0_odds_22 : decode cX0_odds 22 = .ok (.getfield 30, 3) := dk_180 0 30 (dk_at dksX0_odds_1 0 rfl rfl)
theorem dX0_odds_25 : decode cX0_odds 25 = .ok (.getfield 139, 3) := dk_180 0 139 (dk_at dksX0_odds_1 3 rfl rfl)
theorem dX0_odds_28 : decode cX0_odds 28 = .ok (.aload_n 2, 1) := dk_44 (dk_at dksX0_odds_1 6 rfl rfl)
theorem dX0_odds_29 : decode cX0_odds 29 = .ok (.iload 5, 2) := dk_21 5 (dk_at dksX0_odds_1 7 rfl rfl)
theorem dX0_odds_31 : decode cX0_odds 31 = .ok (.iaload, 1) := dk_46 (dk_at dksX0_odds_1 9 rfl rfl)
theorem dX0_odds_32 : decode cX0_odds 32 = .ok (.aaload, 1) := dk_50 (dk_at dksX0_odds_1 10 rfl rfl)
theorem dX0_odds_33 : decode cX0_odds 33 = .ok (.aload_n 0, 1) := dk_42 (dk_at dksX0_odds_1 11 rfl rfl)
theorem dX0_odds_34 : decode cX0_odds 34 = .ok (.getfield 30, 3) := dk_180 0 30 (dk_at dksX0_odds_1 12 rfl rfl)
theorem dX0_odds_37 : decode cX0_odds 37 = .ok (.getfield 147, 3) := dk_180 0 147 (dk_at dksX0_odds_1 15 rfl rfl)
theorem dX0_odds_40 : decode cX0_odds 40 = .ok (.iload 5, 2) := dk_21 5 (dk_at dksX0_odds_1 18 rfl rfl)
theorem dX0_odds_42 : decode cX0_odds 42 = .ok (.aaload, 1) := dk_50 (dk_at dksX0_odds_1 20 rfl rfl)
theorem dX0_odds_43 : decode cX0_odds 43 = .ok (.invokevirtual 269, 3) := dk_182 1 13 (dk_at dksX0_odds_1 21 rfl rfl)
theorem dX0_odds_46 : decode cX0_odds 46 = .ok (.isub, 1) := dk_100 (dk_at dksX0_odds_2 0 rfl rfl)
theorem dX0_odds_47 : decode cX0_odds 47 = .ok (.i2l, 1) := dk_133 (dk_at dksX0_odds_2 1 rfl rfl)
theorem dX0_odds_48 : decode cX0_odds 48 = .ok (.lmul, 1) := dk_105 (dk_at dksX0_odds_2 2 rfl rfl)
theorem dX0_odds_49 : decode cX0_odds 49 = .ok (.lstore_n 3, 1) := dk_66 (dk_at dksX0_odds_2 3 rfl rfl)
theorem dX0_odds_50 : decode cX0_odds 50 = .ok (.iinc 5 1, 3) := dk_132 5 1 (dk_at dksX0_odds_2 4 rfl rfl)
theorem dX0_odds_53 : decode cX0_odds 53 = .ok (.goto (-42), 3) := dk_167 255 214 (dk_at dksX0_odds_2 7 rfl rfl)
theorem dX0_odds_56 : decode cX0_odds 56 = .ok (.lload_n 3, 1) := dk_33 (dk_at dksX0_odds_2 10 rfl rfl)
theorem dX0_odds_57 : decode cX0_odds 57 = .ok (.lreturn, 1) := dk_173 (dk_at dksX0_odds_2 11 rfl rfl)
theorem dX0_odds_58 : decode cX0_odds 58 = .ok (.astore_n 2, 1) := dk_77 (dk_at dksX0_odds_2 12 rfl rfl)
theorem dX0_odds_59 : decode cX0_odds 59 = .ok (.aload_n 0, 1) := dk_42 (dk_at dksX0_odds_2 13 rfl rfl)
theorem dX0_odds_60 : decode cX0_odds 60 = .ok (.aload_n 2, 1) := dk_44 (dk_at dksX0_odds_2 14 rfl rfl)
theorem dX0_odds_61 : decode cX0_odds 61 = .ok (.getfield 112, 3) := dk_180 0 112 (dk_at dksX0_odds_2 15 rfl rfl)
theorem dX0_odds_64 : decode cX0_odds 64 = .ok (.invokevirtual 85, 3) := dk_182 0 85 (dk_at dksX0_odds_2 18 rfl rfl)
theorem dX0_odds_67 : decode cX0_odds 67 = .ok (.i2l, 1) := dk_133 (dk_at dksX0_odds_2 21 rfl rfl)
theorem dX0_odds_68 : decode cX0_odds 68 = .ok (.lreturn, 1) := dk_173 (dk_at dksX0_odds_2 22 rfl rfl)
abbrev cX0_safest : ByteArray := prog_1_method_46_code
def yX0_safest : MethodName := ⟨RX0, "safest", "(I)I"⟩
def dkwX0_safest_0 : List UInt8 := [42, 42, 180, 0, 39, 42, 180, 0, 30, 3, 16, 100, 182, 1, 29, 27, 182, 1, 33, 172]
abbrev dktX0_safest_0 : List UInt8 := dkwX0_safest_0 ++ []
theorem dksX0_safest_0 : cX0_safest.data.toList.drop 0 = dktX0_safest_0 := by decide +kernel
theorem dX0_safest_0 : decode cX0_safest 0 = .ok (.aload_n 0, 1) := dk_42 (dk_at dksX0_safest_0 0 rfl rfl)
theorem dX0_safest_1 : decode cX0_safest 1 = .ok (.aload_n 0, 1) := dk_42 (dk_at dksX0_safest_0 1 rfl rfl)
theorem dX0_safest_2 : decode cX0_safest 2 = .ok (.getfield 39, 3) := dk_180 0 39 (dk_at dksX0_safest_0 2 rfl rfl)
theorem dX0_safest_5 : decode cX0_safest 5 = .ok (.aload_n 0, 1) := dk_42 (dk_at dksX0_safest_0 5 rfl rfl)
theorem dX0_safest_6 : decode cX0_safest 6 = .ok (.getfield 30, 3) := dk_180 0 30 (dk_at dksX0_safest_0 6 rfl rfl)
theorem dX0_safest_9 : decode cX0_safest 9 = .ok (.iconst 0, 1) := dk_3 (dk_at dksX0_safest_0 9 rfl rfl)
theorem dX0_safest_10 : decode cX0_safest 10 = .ok (.bipush 100, 2) := dk_16 100 (dk_at dksX0_safest_0 10 rfl rfl)
theorem dX0_safest_12 : decode cX0_safest 12 = .ok (.invokevirtual 285, 3) := dk_182 1 29 (dk_at dksX0_safest_0 12 rfl rfl)
theorem dX0_safest_15 : decode cX0_safest 15 = .ok (.iload_n 1, 1) := dk_27 (dk_at dksX0_safest_0 15 rfl rfl)
theorem dX0_safest_16 : decode cX0_safest 16 = .ok (.invokevirtual 289, 3) := dk_182 1 33 (dk_at dksX0_safest_0 16 rfl rfl)
theorem dX0_safest_19 : decode cX0_safest 19 = .ok (.ireturn, 1) := dk_172 (dk_at dksX0_safest_0 19 rfl rfl)
abbrev cX0_bestOf : ByteArray := prog_1_method_45_code
def yX0_bestOf : MethodName := ⟨RX0, "bestOf", "(LStairOnSticks$Best;I)I"⟩
def dkwX0_bestOf_3 : List UInt8 := [16, 10, 100, 46, 172]
abbrev dktX0_bestOf_3 : List UInt8 := dkwX0_bestOf_3 ++ []
def dkwX0_bestOf_2 : List UInt8 := [182, 1, 21, 167, 0, 24, 28, 4, 160, 0, 10, 43, 182, 1, 23, 167, 0, 12, 43, 182, 1, 26, 28]
abbrev dktX0_bestOf_2 : List UInt8 := dkwX0_bestOf_2 ++ dktX0_bestOf_3
def dkwX0_bestOf_1 : List UInt8 := [182, 0, 85, 172, 43, 182, 1, 17, 153, 0, 10, 42, 16, 251, 182, 0, 85, 172, 28, 154, 0, 10, 43]
abbrev dktX0_bestOf_1 : List UInt8 := dkwX0_bestOf_1 ++ dktX0_bestOf_2
def dkwX0_bestOf_0 : List UInt8 := [28, 4, 164, 0, 14, 42, 28, 16, 10, 100, 182, 0, 184, 153, 0, 7, 28, 156, 0, 10, 42, 16, 254]
abbrev dktX0_bestOf_0 : List UInt8 := dkwX0_bestOf_0 ++ dktX0_bestOf_1
theorem dksX0_bestOf_0 : cX0_bestOf.data.toList.drop 0 = dktX0_bestOf_0 := by decide +kernel
theorem dksX0_bestOf_1 : cX0_bestOf.data.toList.drop 23 = dktX0_bestOf_1 := dk_seg dksX0_bestOf_0 23 rfl rfl
theorem dksX0_bestOf_2 : cX0_bestOf.data.toList.drop 46 = dktX0_bestOf_2 := dk_seg dksX0_bestOf_1 23 rfl rfl
theorem dksX0_bestOf_3 : cX0_bestOf.data.toList.drop 69 = dktX0_bestOf_3 := dk_seg dksX0_bestOf_2 23 rfl rfl
theorem dX0_bestOf_0 : decode cX0_bestOf 0 = .ok (.iload_n 2, 1) := dk_28 (dk_at dksX0_bestOf_0 0 rfl rfl)
theorem dX0_bestOf_1 : decode cX0_bestOf 1 = .ok (.iconst 1, 1) := dk_4 (dk_at dksX0_bestOf_0 1 rfl rfl)
theorem dX0_bestOf_2 : decode cX0_bestOf 2 = .ok (.if_icmp .le 14, 3) := dk_164 0 14 (dk_at dksX0_bestOf_0 2 rfl rfl)
theorem dX0_bestOf_5 : decode cX0_bestOf 5 = .ok (.aload_n 0, 1) := dk_42 (dk_at dksX0_bestOf_0 5 rfl rfl)
theorem dX0_bestOf_6 : decode cX0_bestOf 6 = .ok (.iload_n 2, 1) := dk_28 (dk_at dksX0_bestOf_0 6 rfl rfl)
theorem dX0_bestOf_7 : decode cX0_bestOf 7 = .ok (.bipush 10, 2) := dk_16 10 (dk_at dksX0_bestOf_0 7 rfl rfl)
theorem dX0_bestOf_9 : decode cX0_bestOf 9 = .ok (.isub, 1) := dk_100 (dk_at dksX0_bestOf_0 9 rfl rfl)
theorem dX0_bestOf_10 : decode cX0_bestOf 10 = .ok (.invokevirtual 184, 3) := dk_182 0 184 (dk_at dksX0_bestOf_0 10 rfl rfl)
theorem dX0_bestOf_13 : decode cX0_bestOf 13 = .ok (.ifCond .eq 7, 3) := dk_153 0 7 (dk_at dksX0_bestOf_0 13 rfl rfl)
theorem dX0_bestOf_16 : decode cX0_bestOf 16 = .ok (.iload_n 2, 1) := dk_28 (dk_at dksX0_bestOf_0 16 rfl rfl)
theorem dX0_bestOf_17 : decode cX0_bestOf 17 = .ok (.ifCond .ge 10, 3) := dk_156 0 10 (dk_at dksX0_bestOf_0 17 rfl rfl)
theorem dX0_bestOf_20 : decode cX0_bestOf 20 = .ok (.aload_n 0, 1) := dk_42 (dk_at dksX0_bestOf_0 20 rfl rfl)
theorem dX0_bestOf_21 : decode cX0_bestOf 21 = .ok (.bipush (-2), 2) := dk_16 254 (dk_at dksX0_bestOf_0 21 rfl rfl)
theorem dX0_bestOf_23 : decode cX0_bestOf 23 = .ok (.invokevirtual 85, 3) := dk_182 0 85 (dk_at dksX0_bestOf_1 0 rfl rfl)
theorem dX0_bestOf_26 : decode cX0_bestOf 26 = .ok (.ireturn, 1) := dk_172 (dk_at dksX0_bestOf_1 3 rfl rfl)
theorem dX0_bestOf_27 : decode cX0_bestOf 27 = .ok (.aload_n 1, 1) := dk_43 (dk_at dksX0_bestOf_1 4 rfl rfl)
theorem dX0_bestOf_28 : decode cX0_bestOf 28 = .ok (.invokevirtual 273, 3) := dk_182 1 17 (dk_at dksX0_bestOf_1 5 rfl rfl)
theorem dX0_bestOf_31 : decode cX0_bestOf 31 = .ok (.ifCond .eq 10, 3) := dk_153 0 10 (dk_at dksX0_bestOf_1 8 rfl rfl)
theorem dX0_bestOf_34 : decode cX0_bestOf 34 = .ok (.aload_n 0, 1) := dk_42 (dk_at dksX0_bestOf_1 11 rfl rfl)
theorem dX0_bestOf_35 : decode cX0_bestOf 35 = .ok (.bipush (-5), 2) := dk_16 251 (dk_at dksX0_bestOf_1 12 rfl rfl)
theorem dX0_bestOf_37 : decode cX0_bestOf 37 = .ok (.invokevirtual 85, 3) := dk_182 0 85 (dk_at dksX0_bestOf_1 14 rfl rfl)
theorem dX0_bestOf_40 : decode cX0_bestOf 40 = .ok (.ireturn, 1) := dk_172 (dk_at dksX0_bestOf_1 17 rfl rfl)
theorem dX0_bestOf_41 : decode cX0_bestOf 41 = .ok (.iload_n 2, 1) := dk_28 (dk_at dksX0_bestOf_1 18 rfl rfl)
theorem dX0_bestOf_42 : decode cX0_bestOf 42 = .ok (.ifCond .ne 10, 3) := dk_154 0 10 (dk_at dksX0_bestOf_1 19 rfl rfl)
theorem dX0_bestOf_45 : decode cX0_bestOf 45 = .ok (.aload_n 1, 1) := dk_43 (dk_at dksX0_bestOf_1 22 rfl rfl)
theorem dX0_bestOf_46 : decode cX0_bestOf 46 = .ok (.invokevirtual 277, 3) := dk_182 1 21 (dk_at dksX0_bestOf_2 0 rfl rfl)
theorem dX0_bestOf_49 : decode cX0_bestOf 49 = .ok (.goto 24, 3) := dk_167 0 24 (dk_at dksX0_bestOf_2 3 rfl rfl)
theorem dX0_bestOf_52 : decode cX0_bestOf 52 = .ok (.iload_n 2, 1) := dk_28 (dk_at dksX0_bestOf_2 6 rfl rfl)
theorem dX0_bestOf_53 : decode cX0_bestOf 53 = .ok (.iconst 1, 1) := dk_4 (dk_at dksX0_bestOf_2 7 rfl rfl)
theorem dX0_bestOf_54 : decode cX0_bestOf 54 = .ok (.if_icmp .ne 10, 3) := dk_160 0 10 (dk_at dksX0_bestOf_2 8 rfl rfl)
theorem dX0_bestOf_57 : decode cX0_bestOf 57 = .ok (.aload_n 1, 1) := dk_43 (dk_at dksX0_bestOf_2 11 rfl rfl)
theorem dX0_bestOf_58 : decode cX0_bestOf 58 = .ok (.invokevirtual 279, 3) := dk_182 1 23 (dk_at dksX0_bestOf_2 12 rfl rfl)
theorem dX0_bestOf_61 : decode cX0_bestOf 61 = .ok (.goto 12, 3) := dk_167 0 12 (dk_at dksX0_bestOf_2 15 rfl rfl)
theorem dX0_bestOf_64 : decode cX0_bestOf 64 = .ok (.aload_n 1, 1) := dk_43 (dk_at dksX0_bestOf_2 18 rfl rfl)
theorem dX0_bestOf_65 : decode cX0_bestOf 65 = .ok (.invokevirtual 282, 3) := dk_182 1 26 (dk_at dksX0_bestOf_2 19 rfl rfl)
theorem dX0_bestOf_68 : decode cX0_bestOf 68 = .ok (.iload_n 2, 1) := dk_28 (dk_at dksX0_bestOf_2 22 rfl rfl)
theorem dX0_bestOf_69 : decode cX0_bestOf 69 = .ok (.bipush 10, 2) := dk_16 10 (dk_at dksX0_bestOf_3 0 rfl rfl)
theorem dX0_bestOf_71 : decode cX0_bestOf 71 = .ok (.isub, 1) := dk_100 (dk_at dksX0_bestOf_3 2 rfl rfl)
theorem dX0_bestOf_72 : decode cX0_bestOf 72 = .ok (.iaload, 1) := dk_46 (dk_at dksX0_bestOf_3 3 rfl rfl)
theorem dX0_bestOf_73 : decode cX0_bestOf 73 = .ok (.ireturn, 1) := dk_172 (dk_at dksX0_bestOf_3 4 rfl rfl)
abbrev cX0_from : ByteArray := prog_1_method_47_code
def yX0_from : MethodName := ⟨RX0, "from", "(II)I"⟩
def dkwX0_from_3 : List UInt8 := [180, 0, 39, 27, 28, 182, 1, 39, 172]
abbrev dktX0_from_3 : List UInt8 := dkwX0_from_3 ++ []
def dkwX0_from_2 : List UInt8 := [87, 42, 180, 0, 39, 27, 28, 182, 1, 37, 153, 0, 12, 42, 16, 251, 182, 0, 85, 167, 0, 12, 42]
abbrev dktX0_from_2 : List UInt8 := dkwX0_from_2 ++ dktX0_from_3
def dkwX0_from_1 : List UInt8 := [154, 0, 10, 42, 16, 254, 182, 0, 85, 172, 42, 180, 0, 39, 42, 180, 0, 30, 3, 16, 100, 182, 1, 29]
abbrev dktX0_from_1 : List UInt8 := dkwX0_from_1 ++ dktX0_from_2
def dkwX0_from_0 : List UInt8 := [27, 3, 42, 180, 0, 30, 180, 0, 61, 184, 0, 57, 153, 0, 14, 28, 3, 17, 0, 200, 184, 0, 57]
abbrev dktX0_from_0 : List UInt8 := dkwX0_from_0 ++ dktX0_from_1
theorem dksX0_from_0 : cX0_from.data.toList.drop 0 = dktX0_from_0 := by decide +kernel
theorem dksX0_from_1 : cX0_from.data.toList.drop 23 = dktX0_from_1 := dk_seg dksX0_from_0 23 rfl rfl
theorem dksX0_from_2 : cX0_from.data.toList.drop 47 = dktX0_from_2 := dk_seg dksX0_from_1 24 rfl rfl
theorem dksX0_from_3 : cX0_from.data.toList.drop 70 = dktX0_from_3 := dk_seg dksX0_from_2 23 rfl rfl
theorem dX0_from_0 : decode cX0_from 0 = .ok (.iload_n 1, 1) := dk_27 (dk_at dksX0_from_0 0 rfl rfl)
theorem dX0_from_1 : decode cX0_from 1 = .ok (.iconst 0, 1) := dk_3 (dk_at dksX0_from_0 1 rfl rfl)
theorem dX0_from_2 : decode cX0_from 2 = .ok (.aload_n 0, 1) := dk_42 (dk_at dksX0_from_0 2 rfl rfl)
theorem dX0_from_3 : decode cX0_from 3 = .ok (.getfield 30, 3) := dk_180 0 30 (dk_at dksX0_from_0 3 rfl rfl)
theorem dX0_from_6 : decode cX0_from 6 = .ok (.getfield 61, 3) := dk_180 0 61 (dk_at dksX0_from_0 6 rfl rfl)
theorem dX0_from_9 : decode cX0_from 9 = .ok (.invokestatic 57, 3) := dk_184 0 57 (dk_at dksX0_from_0 9 rfl rfl)
theorem dX0_from_12 : decode cX0_from 12 = .ok (.ifCond .eq 14, 3) := dk_153 0 14 (dk_at dksX0_from_0 12 rfl rfl)
theorem dX0_from_15 : decode cX0_from 15 = .ok (.iload_n 2, 1) := dk_28 (dk_at dksX0_from_0 15 rfl rfl)
theorem dX0_from_16 : decode cX0_from 16 = .ok (.iconst 0, 1) := dk_3 (dk_at dksX0_from_0 16 rfl rfl)
theorem dX0_from_17 : decode cX0_from 17 = .ok (.sipush 200, 3) := dk_17 0 200 (dk_at dksX0_from_0 17 rfl rfl)
theorem dX0_from_20 : decode cX0_from 20 = .ok (.invokestatic 57, 3) := dk_184 0 57 (dk_at dksX0_from_0 20 rfl rfl)
theorem dX0_from_23 : decode cX0_from 23 = .ok (.ifCond .ne 10, 3) := dk_154 0 10 (dk_at dksX0_from_1 0 rfl rfl)
theorem dX0_from_26 : decode cX0_from 26 = .ok (.aload_n 0, 1) := dk_42 (dk_at dksX0_from_1 3 rfl rfl)
theorem dX0_from_27 : decode cX0_from 27 = .ok (.bipush (-2), 2) := dk_16 254 (dk_at dksX0_from_1 4 rfl rfl)
theorem dX0_from_29 : decode cX0_from 29 = .ok (.invokevirtual 85, 3) := dk_182 0 85 (dk_at dksX0_from_1 6 rfl rfl)
theorem dX0_from_32 : decode cX0_from 32 = .ok (.ireturn, 1) := dk_172 (dk_at dksX0_from_1 9 rfl rfl)
theorem dX0_from_33 : decode cX0_from 33 = .ok (.aload_n 0, 1) := dk_42 (dk_at dksX0_from_1 10 rfl rfl)
theorem dX0_from_34 : decode cX0_from 34 = .ok (.getfield 39, 3) := dk_180 0 39 (dk_at dksX0_from_1 11 rfl rfl)
theorem dX0_from_37 : decode cX0_from 37 = .ok (.aload_n 0, 1) := dk_42 (dk_at dksX0_from_1 14 rfl rfl)
theorem dX0_from_38 : decode cX0_from 38 = .ok (.getfield 30, 3) := dk_180 0 30 (dk_at dksX0_from_1 15 rfl rfl)
theorem dX0_from_41 : decode cX0_from 41 = .ok (.iconst 0, 1) := dk_3 (dk_at dksX0_from_1 18 rfl rfl)
theorem dX0_from_42 : decode cX0_from 42 = .ok (.bipush 100, 2) := dk_16 100 (dk_at dksX0_from_1 19 rfl rfl)
theorem dX0_from_44 : decode cX0_from 44 = .ok (.invokevirtual 285, 3) := dk_182 1 29 (dk_at dksX0_from_1 21 rfl rfl)
theorem dX0_from_47 : decode cX0_from 47 = .ok (.pop, 1) := dk_87 (dk_at dksX0_from_2 0 rfl rfl)
theorem dX0_from_48 : decode cX0_from 48 = .ok (.aload_n 0, 1) := dk_42 (dk_at dksX0_from_2 1 rfl rfl)
theorem dX0_from_49 : decode cX0_from 49 = .ok (.getfield 39, 3) := dk_180 0 39 (dk_at dksX0_from_2 2 rfl rfl)
theorem dX0_from_52 : decode cX0_from 52 = .ok (.iload_n 1, 1) := dk_27 (dk_at dksX0_from_2 5 rfl rfl)
theorem dX0_from_53 : decode cX0_from 53 = .ok (.iload_n 2, 1) := dk_28 (dk_at dksX0_from_2 6 rfl rfl)
theorem dX0_from_54 : decode cX0_from 54 = .ok (.invokevirtual 293, 3) := dk_182 1 37 (dk_at dksX0_from_2 7 rfl rfl)
theorem dX0_from_57 : decode cX0_from 57 = .ok (.ifCond .eq 12, 3) := dk_153 0 12 (dk_at dksX0_from_2 10 rfl rfl)
theorem dX0_from_60 : decode cX0_from 60 = .ok (.aload_n 0, 1) := dk_42 (dk_at dksX0_from_2 13 rfl rfl)
theorem dX0_from_61 : decode cX0_from 61 = .ok (.bipush (-5), 2) := dk_16 251 (dk_at dksX0_from_2 14 rfl rfl)
theorem dX0_from_63 : decode cX0_from 63 = .ok (.invokevirtual 85, 3) := dk_182 0 85 (dk_at dksX0_from_2 16 rfl rfl)
theorem dX0_from_66 : decode cX0_from 66 = .ok (.goto 12, 3) := dk_167 0 12 (dk_at dksX0_from_2 19 rfl rfl)
theorem dX0_from_69 : decode cX0_from 69 = .ok (.aload_n 0, 1) := dk_42 (dk_at dksX0_from_2 22 rfl rfl)
theorem dX0_from_70 : decode cX0_from 70 = .ok (.getfield 39, 3) := dk_180 0 39 (dk_at dksX0_from_3 0 rfl rfl)
theorem dX0_from_73 : decode cX0_from 73 = .ok (.iload_n 1, 1) := dk_27 (dk_at dksX0_from_3 3 rfl rfl)
theorem dX0_from_74 : decode cX0_from 74 = .ok (.iload_n 2, 1) := dk_28 (dk_at dksX0_from_3 4 rfl rfl)
theorem dX0_from_75 : decode cX0_from 75 = .ok (.invokevirtual 295, 3) := dk_182 1 39 (dk_at dksX0_from_3 5 rfl rfl)
theorem dX0_from_78 : decode cX0_from 78 = .ok (.ireturn, 1) := dk_172 (dk_at dksX0_from_3 8 rfl rfl)
abbrev cX0_easiest : ByteArray := prog_1_method_48_code
def yX0_easiest : MethodName := ⟨RX0, "easiest", "(II)I"⟩
def dkwX0_easiest_1 : List UInt8 := [28, 182, 1, 33, 167, 0, 9, 42, 16, 254, 182, 0, 85, 172]
abbrev dktX0_easiest_1 : List UInt8 := dkwX0_easiest_1 ++ []
def dkwX0_easiest_0 : List UInt8 := [27, 3, 16, 100, 184, 0, 57, 153, 0, 24, 42, 42, 180, 0, 39, 42, 180, 0, 30, 4, 27, 182, 1, 29]
abbrev dktX0_easiest_0 : List UInt8 := dkwX0_easiest_0 ++ dktX0_easiest_1
theorem dksX0_easiest_0 : cX0_easiest.data.toList.drop 0 = dktX0_easiest_0 := by decide +kernel
theorem dksX0_easiest_1 : cX0_easiest.data.toList.drop 24 = dktX0_easiest_1 := dk_seg dksX0_easiest_0 24 rfl rfl
theorem dX0_easiest_0 : decode cX0_easiest 0 = .ok (.iload_n 1, 1) := dk_27 (dk_at dksX0_easiest_0 0 rfl rfl)
theorem dX0_easiest_1 : decode cX0_easiest 1 = .ok (.iconst 0, 1) := dk_3 (dk_at dksX0_easiest_0 1 rfl rfl)
theorem dX0_easiest_2 : decode cX0_easiest 2 = .ok (.bipush 100, 2) := dk_16 100 (dk_at dksX0_easiest_0 2 rfl rfl)
theorem dX0_easiest_4 : decode cX0_easiest 4 = .ok (.invokestatic 57, 3) := dk_184 0 57 (dk_at dksX0_easiest_0 4 rfl rfl)
theorem dX0_easiest_7 : decode cX0_easiest 7 = .ok (.ifCond .eq 24, 3) := dk_153 0 24 (dk_at dksX0_easiest_0 7 rfl rfl)
theorem dX0_easiest_10 : decode cX0_easiest 10 = .ok (.aload_n 0, 1) := dk_42 (dk_at dksX0_easiest_0 10 rfl rfl)
theorem dX0_easiest_11 : decode cX0_easiest 11 = .ok (.aload_n 0, 1) := dk_42 (dk_at dksX0_easiest_0 11 rfl rfl)
theorem dX0_easiest_12 : decode cX0_easiest 12 = .ok (.getfield 39, 3) := dk_180 0 39 (dk_at dksX0_easiest_0 12 rfl rfl)
theorem dX0_easiest_15 : decode cX0_easiest 15 = .ok (.aload_n 0, 1) := dk_42 (dk_at dksX0_easiest_0 15 rfl rfl)
theorem dX0_easiest_16 : decode cX0_easiest 16 = .ok (.getfield 30, 3) := dk_180 0 30 (dk_at dksX0_easiest_0 16 rfl rfl)
theorem dX0_easiest_19 : decode cX0_easiest 19 = .ok (.iconst 1, 1) := dk_4 (dk_at dksX0_easiest_0 19 rfl rfl)
theorem dX0_easiest_20 : decode cX0_easiest 20 = .ok (.iload_n 1, 1) := dk_27 (dk_at dksX0_easiest_0 20 rfl rfl)
theorem dX0_easiest_21 : decode cX0_easiest 21 = .ok (.invokevirtual 285, 3) := dk_182 1 29 (dk_at dksX0_easiest_0 21 rfl rfl)
theorem dX0_easiest_24 : decode cX0_easiest 24 = .ok (.iload_n 2, 1) := dk_28 (dk_at dksX0_easiest_1 0 rfl rfl)
theorem dX0_easiest_25 : decode cX0_easiest 25 = .ok (.invokevirtual 289, 3) := dk_182 1 33 (dk_at dksX0_easiest_1 1 rfl rfl)
theorem dX0_easiest_28 : decode cX0_easiest 28 = .ok (.goto 9, 3) := dk_167 0 9 (dk_at dksX0_easiest_1 4 rfl rfl)
theorem dX0_easiest_31 : decode cX0_easiest 31 = .ok (.aload_n 0, 1) := dk_42 (dk_at dksX0_easiest_1 7 rfl rfl)
theorem dX0_easiest_32 : decode cX0_easiest 32 = .ok (.bipush (-2), 2) := dk_16 254 (dk_at dksX0_easiest_1 8 rfl rfl)
theorem dX0_easiest_34 : decode cX0_easiest 34 = .ok (.invokevirtual 85, 3) := dk_182 0 85 (dk_at dksX0_easiest_1 10 rfl rfl)
theorem dX0_easiest_37 : decode cX0_easiest 37 = .ok (.ireturn, 1) := dk_172 (dk_at dksX0_easiest_1 13 rfl rfl)
abbrev cX0_needs : ByteArray := prog_1_method_49_code
def yX0_needs : MethodName := ⟨RX0, "needs", "(I)I"⟩
def dkwX0_needs_4 : List UInt8 := [29, 21, 4, 79, 21, 5, 172]
abbrev dktX0_needs_4 : List UInt8 := dkwX0_needs_4 ++ []
def dkwX0_needs_3 : List UInt8 := [180, 0, 30, 182, 1, 41, 153, 0, 8, 21, 6, 167, 0, 4, 2, 54, 5, 132, 6, 1, 167, 255, 216, 44]
abbrev dktX0_needs_3 : List UInt8 := dkwX0_needs_3 ++ dktX0_needs_4
def dkwX0_needs_2 : List UInt8 := [54, 6, 21, 6, 17, 0, 200, 163, 0, 38, 21, 5, 2, 160, 0, 32, 44, 29, 21, 6, 79, 42]
abbrev dktX0_needs_2 : List UInt8 := dkwX0_needs_2 ++ dktX0_needs_3
def dkwX0_needs_1 : List UInt8 := [180, 0, 181, 77, 27, 154, 0, 7, 5, 167, 0, 4, 4, 62, 44, 29, 46, 54, 4, 2, 54, 5, 3]
abbrev dktX0_needs_1 : List UInt8 := dkwX0_needs_1 ++ dktX0_needs_2
def dkwX0_needs_0 : List UInt8 := [27, 3, 4, 184, 0, 57, 154, 0, 10, 42, 16, 254, 182, 0, 85, 172, 42, 180, 0, 30, 180, 0, 143]
abbrev dktX0_needs_0 : List UInt8 := dkwX0_needs_0 ++ dktX0_needs_1
theorem dksX0_needs_0 : cX0_needs.data.toList.drop 0 = dktX0_needs_0 := by decide +kernel
theorem dksX0_needs_1 : cX0_needs.data.toList.drop 23 = dktX0_needs_1 := dk_seg dksX0_needs_0 23 rfl rfl
theorem dksX0_needs_2 : cX0_needs.data.toList.drop 46 = dktX0_needs_2 := dk_seg dksX0_needs_1 23 rfl rfl
theorem dksX0_needs_3 : cX0_needs.data.toList.drop 68 = dktX0_needs_3 := dk_seg dksX0_needs_2 22 rfl rfl
theorem dksX0_needs_4 : cX0_needs.data.toList.drop 92 = dktX0_needs_4 := dk_seg dksX0_needs_3 24 rfl rfl
theorem dX0_needs_0 : decode cX0_needs 0 = .ok (.iload_n 1, 1) := dk_27 (dk_at dksX0_needs_0 0 rfl rfl)
theorem dX0_needs_1 : decode cX0_needs 1 = .ok (.iconst 0, 1) := dk_3 (dk_at dksX0_needs_0 1 rfl rfl)
theorem dX0_needs_2 : decode cX0_needs 2 = .ok (.iconst 1, 1) := dk_4 (dk_at dksX0_needs_0 2 rfl rfl)
theorem dX0_needs_3 : decode cX0_needs 3 = .ok (.invokestatic 57, 3) := dk_184 0 57 (dk_at dksX0_needs_0 3 rfl rfl)
theorem dX0_needs_6 : decode cX0_needs 6 = .ok (.ifCond .ne 10, 3) := dk_154 0 10 (dk_at dksX0_needs_0 6 rfl rfl)
theorem dX0_needs_9 : decode cX0_needs 9 = .ok (.aload_n 0, 1) := dk_42 (dk_at dksX0_needs_0 9 rfl rfl)
theorem dX0_needs_10 : decode cX0_needs 10 = .ok (.bipush (-2), 2) := dk_16 254 (dk_at dksX0_needs_0 10 rfl rfl)
theorem dX0_needs_12 : decode cX0_needs 12 = .ok (.invokevirtual 85, 3) := dk_182 0 85 (dk_at dksX0_needs_0 12 rfl rfl)
theorem dX0_needs_15 : decode cX0_needs 15 = .ok (.ireturn, 1) := dk_172 (dk_at dksX0_needs_0 15 rfl rfl)
theorem dX0_needs_16 : decode cX0_needs 16 = .ok (.aload_n 0, 1) := dk_42 (dk_at dksX0_needs_0 16 rfl rfl)
theorem dX0_needs_17 : decode cX0_needs 17 = .ok (.getfield 30, 3) := dk_180 0 30 (dk_at dksX0_needs_0 17 rfl rfl)
theorem dX0_needs_20 : decode cX0_needs 20 = .ok (.getfield 143, 3) := dk_180 0 143 (dk_at dksX0_needs_0 20 rfl rfl)
theorem dX0_needs_23 : decode cX0_needs 23 = .ok (.getfield 181, 3) := dk_180 0 181 (dk_at dksX0_needs_1 0 rfl rfl)
theorem dX0_needs_26 : decode cX0_needs 26 = .ok (.astore_n 2, 1) := dk_77 (dk_at dksX0_needs_1 3 rfl rfl)
theorem dX0_needs_27 : decode cX0_needs 27 = .ok (.iload_n 1, 1) := dk_27 (dk_at dksX0_needs_1 4 rfl rfl)
theorem dX0_needs_28 : decode cX0_needs 28 = .ok (.ifCond .ne 7, 3) := dk_154 0 7 (dk_at dksX0_needs_1 5 rfl rfl)
theorem dX0_needs_31 : decode cX0_needs 31 = .ok (.iconst 2, 1) := dk_5 (dk_at dksX0_needs_1 8 rfl rfl)
theorem dX0_needs_32 : decode cX0_needs 32 = .ok (.goto 4, 3) := dk_167 0 4 (dk_at dksX0_needs_1 9 rfl rfl)
theorem dX0_needs_35 : decode cX0_needs 35 = .ok (.iconst 1, 1) := dk_4 (dk_at dksX0_needs_1 12 rfl rfl)
theorem dX0_needs_36 : decode cX0_needs 36 = .ok (.istore_n 3, 1) := dk_62 (dk_at dksX0_needs_1 13 rfl rfl)
theorem dX0_needs_37 : decode cX0_needs 37 = .ok (.aload_n 2, 1) := dk_44 (dk_at dksX0_needs_1 14 rfl rfl)
theorem dX0_needs_38 : decode cX0_needs 38 = .ok (.iload_n 3, 1) := dk_29 (dk_at dksX0_needs_1 15 rfl rfl)
theorem dX0_needs_39 : decode cX0_needs 39 = .ok (.iaload, 1) := dk_46 (dk_at dksX0_needs_1 16 rfl rfl)
theorem dX0_needs_40 : decode cX0_needs 40 = .ok (.istore 4, 2) := dk_54 4 (dk_at dksX0_needs_1 17 rfl rfl)
theorem dX0_needs_42 : decode cX0_needs 42 = .ok (.iconst (-1), 1) := dk_2 (dk_at dksX0_needs_1 19 rfl rfl)
theorem dX0_needs_43 : decode cX0_needs 43 = .ok (.istore 5, 2) := dk_54 5 (dk_at dksX0_needs_1 20 rfl rfl)
theorem dX0_needs_45 : decode cX0_needs 45 = .ok (.iconst 0, 1) := dk_3 (dk_at dksX0_needs_1 22 rfl rfl)
theorem dX0_needs_46 : decode cX0_needs 46 = .ok (.istore 6, 2) := dk_54 6 (dk_at dksX0_needs_2 0 rfl rfl)
theorem dX0_needs_48 : decode cX0_needs 48 = .ok (.iload 6, 2) := dk_21 6 (dk_at dksX0_needs_2 2 rfl rfl)
theorem dX0_needs_50 : decode cX0_needs 50 = .ok (.sipush 200, 3) := dk_17 0 200 (dk_at dksX0_needs_2 4 rfl rfl)
theorem dX0_needs_53 : decode cX0_needs 53 = .ok (.if_icmp .gt 38, 3) := dk_163 0 38 (dk_at dksX0_needs_2 7 rfl rfl)
theorem dX0_needs_56 : decode cX0_needs 56 = .ok (.iload 5, 2) := dk_21 5 (dk_at dksX0_needs_2 10 rfl rfl)
theorem dX0_needs_58 : decode cX0_needs 58 = .ok (.iconst (-1), 1) := dk_2 (dk_at dksX0_needs_2 12 rfl rfl)
theorem dX0_needs_59 : decode cX0_needs 59 = .ok (.if_icmp .ne 32, 3) := dk_160 0 32 (dk_at dksX0_needs_2 13 rfl rfl)
theorem dX0_needs_62 : decode cX0_needs 62 = .ok (.aload_n 2, 1) := dk_44 (dk_at dksX0_needs_2 16 rfl rfl)
theorem dX0_needs_63 : decode cX0_needs 63 = .ok (.iload_n 3, 1) := dk_29 (dk_at dksX0_needs_2 17 rfl rfl)
theorem dX0_needs_64 : decode cX0_needs 64 = .ok (.iload 6, 2) := dk_21 6 (dk_at dksX0_needs_2 18 rfl rfl)
theorem dX0_needs_66 : decode cX0_needs 66 = .ok (.iastore, 1) := dk_79 (dk_at dksX0_needs_2 20 rfl rfl)
theorem dX0_needs_67 : decode cX0_needs 67 = .ok (.aload_n 0, 1) := dk_42 (dk_at dksX0_needs_2 21 rfl rfl)
theorem dX0_needs_68 : decode cX0_needs 68 = .ok (.getfield 30, 3) := dk_180 0 30 (dk_at dksX0_needs_3 0 rfl rfl)
theorem dX0_needs_71 : decode cX0_needs 71 = .ok (.invokevirtual 297, 3) := dk_182 1 41 (dk_at dksX0_needs_3 3 rfl rfl)
theorem dX0_needs_74 : decode cX0_needs 74 = .ok (.ifCond .eq 8, 3) := dk_153 0 8 (dk_at dksX0_needs_3 6 rfl rfl)
theorem dX0_needs_77 : decode cX0_needs 77 = .ok (.iload 6, 2) := dk_21 6 (dk_at dksX0_needs_3 9 rfl rfl)
theorem dX0_needs_79 : decode cX0_needs 79 = .ok (.goto 4, 3) := dk_167 0 4 (dk_at dksX0_needs_3 11 rfl rfl)
theorem dX0_needs_82 : decode cX0_needs 82 = .ok (.iconst (-1), 1) := dk_2 (dk_at dksX0_needs_3 14 rfl rfl)
theorem dX0_needs_83 : decode cX0_needs 83 = .ok (.istore 5, 2) := dk_54 5 (dk_at dksX0_needs_3 15 rfl rfl)
theorem dX0_needs_85 : decode cX0_needs 85 = .ok (.iinc 6 1, 3) := dk_132 6 1 (dk_at dksX0_needs_3 17 rfl rfl)
theorem dX0_needs_88 : decode cX0_needs 88 = .ok (.goto (-40), 3) := dk_167 255 216 (dk_at dksX0_needs_3 20 rfl rfl)
theorem dX0_needs_91 : decode cX0_needs 91 = .ok (.aload_n 2, 1) := dk_44 (dk_at dksX0_needs_3 23 rfl rfl)
theorem dX0_needs_92 : decode cX0_needs 92 = .ok (.iload_n 3, 1) := dk_29 (dk_at dksX0_needs_4 0 rfl rfl)
theorem dX0_needs_93 : decode cX0_needs 93 = .ok (.iload 4, 2) := dk_21 4 (dk_at dksX0_needs_4 1 rfl rfl)
theorem dX0_needs_95 : decode cX0_needs 95 = .ok (.iastore, 1) := dk_79 (dk_at dksX0_needs_4 3 rfl rfl)
theorem dX0_needs_96 : decode cX0_needs 96 = .ok (.iload 5, 2) := dk_21 5 (dk_at dksX0_needs_4 4 rfl rfl)
theorem dX0_needs_98 : decode cX0_needs 98 = .ok (.ireturn, 1) := dk_172 (dk_at dksX0_needs_4 6 rfl rfl)
abbrev cX0_helps : ByteArray := prog_1_method_52_code
def yX0_helps : MethodName := ⟨RX0, "helps", "(II)I"⟩
def dkwX0_helps_2 : List UInt8 := [21, 4, 2, 160, 0, 16, 17, 252, 24, 42, 16, 251, 182, 0, 85, 96, 167, 0, 7, 29, 21, 4, 100, 172]
abbrev dktX0_helps_2 : List UInt8 := dkwX0_helps_2 ++ []
def dkwX0_helps_1 : List UInt8 := [96, 172, 42, 42, 180, 0, 30, 182, 1, 50, 62, 42, 27, 28, 182, 1, 57, 54, 4, 29, 2, 159, 0, 9]
abbrev dktX0_helps_1 : List UInt8 := dkwX0_helps_1 ++ dktX0_helps_2
def dkwX0_helps_0 : List UInt8 := [27, 184, 1, 54, 153, 0, 11, 42, 28, 182, 0, 184, 154, 0, 14, 17, 252, 24, 42, 16, 254, 182, 0, 85]
abbrev dktX0_helps_0 : List UInt8 := dkwX0_helps_0 ++ dktX0_helps_1
theorem dksX0_helps_0 : cX0_helps.data.toList.drop 0 = dktX0_helps_0 := by decide +kernel
theorem dksX0_helps_1 : cX0_helps.data.toList.drop 24 = dktX0_helps_1 := dk_seg dksX0_helps_0 24 rfl rfl
theorem dksX0_helps_2 : cX0_helps.data.toList.drop 48 = dktX0_helps_2 := dk_seg dksX0_helps_1 24 rfl rfl
theorem dX0_helps_0 : decode cX0_helps 0 = .ok (.iload_n 1, 1) := dk_27 (dk_at dksX0_helps_0 0 rfl rfl)
theorem dX0_helps_1 : decode cX0_helps 1 = .ok (.invokestatic 310, 3) := dk_184 1 54 (dk_at dksX0_helps_0 1 rfl rfl)
theorem dX0_helps_4 : decode cX0_helps 4 = .ok (.ifCond .eq 11, 3) := dk_153 0 11 (dk_at dksX0_helps_0 4 rfl rfl)
theorem dX0_helps_7 : decode cX0_helps 7 = .ok (.aload_n 0, 1) := dk_42 (dk_at dksX0_helps_0 7 rfl rfl)
theorem dX0_helps_8 : decode cX0_helps 8 = .ok (.iload_n 2, 1) := dk_28 (dk_at dksX0_helps_0 8 rfl rfl)
theorem dX0_helps_9 : decode cX0_helps 9 = .ok (.invokevirtual 184, 3) := dk_182 0 184 (dk_at dksX0_helps_0 9 rfl rfl)
theorem dX0_helps_12 : decode cX0_helps 12 = .ok (.ifCond .ne 14, 3) := dk_154 0 14 (dk_at dksX0_helps_0 12 rfl rfl)
theorem dX0_helps_15 : decode cX0_helps 15 = .ok (.sipush (-1000), 3) := dk_17 252 24 (dk_at dksX0_helps_0 15 rfl rfl)
theorem dX0_helps_18 : decode cX0_helps 18 = .ok (.aload_n 0, 1) := dk_42 (dk_at dksX0_helps_0 18 rfl rfl)
theorem dX0_helps_19 : decode cX0_helps 19 = .ok (.bipush (-2), 2) := dk_16 254 (dk_at dksX0_helps_0 19 rfl rfl)
theorem dX0_helps_21 : decode cX0_helps 21 = .ok (.invokevirtual 85, 3) := dk_182 0 85 (dk_at dksX0_helps_0 21 rfl rfl)
theorem dX0_helps_24 : decode cX0_helps 24 = .ok (.iadd, 1) := dk_96 (dk_at dksX0_helps_1 0 rfl rfl)
theorem dX0_helps_25 : decode cX0_helps 25 = .ok (.ireturn, 1) := dk_172 (dk_at dksX0_helps_1 1 rfl rfl)
theorem dX0_helps_26 : decode cX0_helps 26 = .ok (.aload_n 0, 1) := dk_42 (dk_at dksX0_helps_1 2 rfl rfl)
theorem dX0_helps_27 : decode cX0_helps 27 = .ok (.aload_n 0, 1) := dk_42 (dk_at dksX0_helps_1 3 rfl rfl)
theorem dX0_helps_28 : decode cX0_helps 28 = .ok (.getfield 30, 3) := dk_180 0 30 (dk_at dksX0_helps_1 4 rfl rfl)
theorem dX0_helps_31 : decode cX0_helps 31 = .ok (.invokevirtual 306, 3) := dk_182 1 50 (dk_at dksX0_helps_1 7 rfl rfl)
theorem dX0_helps_34 : decode cX0_helps 34 = .ok (.istore_n 3, 1) := dk_62 (dk_at dksX0_helps_1 10 rfl rfl)
theorem dX0_helps_35 : decode cX0_helps 35 = .ok (.aload_n 0, 1) := dk_42 (dk_at dksX0_helps_1 11 rfl rfl)
theorem dX0_helps_36 : decode cX0_helps 36 = .ok (.iload_n 1, 1) := dk_27 (dk_at dksX0_helps_1 12 rfl rfl)
theorem dX0_helps_37 : decode cX0_helps 37 = .ok (.iload_n 2, 1) := dk_28 (dk_at dksX0_helps_1 13 rfl rfl)
theorem dX0_helps_38 : decode cX0_helps 38 = .ok (.invokevirtual 313, 3) := dk_182 1 57 (dk_at dksX0_helps_1 14 rfl rfl)
theorem dX0_helps_41 : decode cX0_helps 41 = .ok (.istore 4, 2) := dk_54 4 (dk_at dksX0_helps_1 17 rfl rfl)
theorem dX0_helps_43 : decode cX0_helps 43 = .ok (.iload_n 3, 1) := dk_29 (dk_at dksX0_helps_1 19 rfl rfl)
theorem dX0_helps_44 : decode cX0_helps 44 = .ok (.iconst (-1), 1) := dk_2 (dk_at dksX0_helps_1 20 rfl rfl)
theorem dX0_helps_45 : decode cX0_helps 45 = .ok (.if_icmp .eq 9, 3) := dk_159 0 9 (dk_at dksX0_helps_1 21 rfl rfl)
theorem dX0_helps_48 : decode cX0_helps 48 = .ok (.iload 4, 2) := dk_21 4 (dk_at dksX0_helps_2 0 rfl rfl)
theorem dX0_helps_50 : decode cX0_helps 50 = .ok (.iconst (-1), 1) := dk_2 (dk_at dksX0_helps_2 2 rfl rfl)
theorem dX0_helps_51 : decode cX0_helps 51 = .ok (.if_icmp .ne 16, 3) := dk_160 0 16 (dk_at dksX0_helps_2 3 rfl rfl)
theorem dX0_helps_54 : decode cX0_helps 54 = .ok (.sipush (-1000), 3) := dk_17 252 24 (dk_at dksX0_helps_2 6 rfl rfl)
theorem dX0_helps_57 : decode cX0_helps 57 = .ok (.aload_n 0, 1) := dk_42 (dk_at dksX0_helps_2 9 rfl rfl)
theorem dX0_helps_58 : decode cX0_helps 58 = .ok (.bipush (-5), 2) := dk_16 251 (dk_at dksX0_helps_2 10 rfl rfl)
theorem dX0_helps_60 : decode cX0_helps 60 = .ok (.invokevirtual 85, 3) := dk_182 0 85 (dk_at dksX0_helps_2 12 rfl rfl)
theorem dX0_helps_63 : decode cX0_helps 63 = .ok (.iadd, 1) := dk_96 (dk_at dksX0_helps_2 15 rfl rfl)
theorem dX0_helps_64 : decode cX0_helps 64 = .ok (.goto 7, 3) := dk_167 0 7 (dk_at dksX0_helps_2 16 rfl rfl)
theorem dX0_helps_67 : decode cX0_helps 67 = .ok (.iload_n 3, 1) := dk_29 (dk_at dksX0_helps_2 19 rfl rfl)
theorem dX0_helps_68 : decode cX0_helps 68 = .ok (.iload 4, 2) := dk_21 4 (dk_at dksX0_helps_2 20 rfl rfl)
theorem dX0_helps_70 : decode cX0_helps 70 = .ok (.isub, 1) := dk_100 (dk_at dksX0_helps_2 22 rfl rfl)
theorem dX0_helps_71 : decode cX0_helps 71 = .ok (.ireturn, 1) := dk_172 (dk_at dksX0_helps_2 23 rfl rfl)
abbrev cX0_isWork : ByteArray := prog_1_method_9_code
def yX0_isWork : MethodName := ⟨RX0, "isWork", "(I)Z"⟩
def dkwX0_isWork_0 : List UInt8 := [26, 3, 6, 184, 0, 57, 172]
abbrev dktX0_isWork_0 : List UInt8 := dkwX0_isWork_0 ++ []
theorem dksX0_isWork_0 : cX0_isWork.data.toList.drop 0 = dktX0_isWork_0 := by decide +kernel
theorem dX0_isWork_0 : decode cX0_isWork 0 = .ok (.iload_n 0, 1) := dk_26 (dk_at dksX0_isWork_0 0 rfl rfl)
theorem dX0_isWork_1 : decode cX0_isWork 1 = .ok (.iconst 0, 1) := dk_3 (dk_at dksX0_isWork_0 1 rfl rfl)
theorem dX0_isWork_2 : decode cX0_isWork 2 = .ok (.iconst 3, 1) := dk_6 (dk_at dksX0_isWork_0 2 rfl rfl)
theorem dX0_isWork_3 : decode cX0_isWork 3 = .ok (.invokestatic 57, 3) := dk_184 0 57 (dk_at dksX0_isWork_0 3 rfl rfl)
theorem dX0_isWork_6 : decode cX0_isWork 6 = .ok (.ireturn, 1) := dk_172 (dk_at dksX0_isWork_0 6 rfl rfl)
abbrev cX0_slipsOf : ByteArray := prog_1_method_50_code
def yX0_slipsOf : MethodName := ⟨RX0, "slipsOf", "(LStairOnSticks$Stair;)I"⟩
def dkwX0_slipsOf_1 : List UInt8 := [167, 0, 10, 42, 180, 0, 39, 182, 1, 21, 172]
abbrev dktX0_slipsOf_1 : List UInt8 := dkwX0_slipsOf_1 ++ []
def dkwX0_slipsOf_0 : List UInt8 := [42, 180, 0, 39, 43, 3, 16, 100, 182, 1, 29, 87, 42, 180, 0, 39, 182, 1, 17, 153, 0, 7, 2]
abbrev dktX0_slipsOf_0 : List UInt8 := dkwX0_slipsOf_0 ++ dktX0_slipsOf_1
theorem dksX0_slipsOf_0 : cX0_slipsOf.data.toList.drop 0 = dktX0_slipsOf_0 := by decide +kernel
theorem dksX0_slipsOf_1 : cX0_slipsOf.data.toList.drop 23 = dktX0_slipsOf_1 := dk_seg dksX0_slipsOf_0 23 rfl rfl
theorem dX0_slipsOf_0 : decode cX0_slipsOf 0 = .ok (.aload_n 0, 1) := dk_42 (dk_at dksX0_slipsOf_0 0 rfl rfl)
theorem dX0_slipsOf_1 : decode cX0_slipsOf 1 = .ok (.getfield 39, 3) := dk_180 0 39 (dk_at dksX0_slipsOf_0 1 rfl rfl)
theorem dX0_slipsOf_4 : decode cX0_slipsOf 4 = .ok (.aload_n 1, 1) := dk_43 (dk_at dksX0_slipsOf_0 4 rfl rfl)
theorem dX0_slipsOf_5 : decode cX0_slipsOf 5 = .ok (.iconst 0, 1) := dk_3 (dk_at dksX0_slipsOf_0 5 rfl rfl)
theorem dX0_slipsOf_6 : decode cX0_slipsOf 6 = .ok (.bipush 100, 2) := dk_16 100 (dk_at dksX0_slipsOf_0 6 rfl rfl)
theorem dX0_slipsOf_8 : decode cX0_slipsOf 8 = .ok (.invokevirtual 285, 3) := dk_182 1 29 (dk_at dksX0_slipsOf_0 8 rfl rfl)
theorem dX0_slipsOf_11 : decode cX0_slipsOf 11 = .ok (.pop, 1) := dk_87 (dk_at dksX0_slipsOf_0 11 rfl rfl)
theorem dX0_slipsOf_12 : decode cX0_slipsOf 12 = .ok (.aload_n 0, 1) := dk_42 (dk_at dksX0_slipsOf_0 12 rfl rfl)
theorem dX0_slipsOf_13 : decode cX0_slipsOf 13 = .ok (.getfield 39, 3) := dk_180 0 39 (dk_at dksX0_slipsOf_0 13 rfl rfl)
theorem dX0_slipsOf_16 : decode cX0_slipsOf 16 = .ok (.invokevirtual 273, 3) := dk_182 1 17 (dk_at dksX0_slipsOf_0 16 rfl rfl)
theorem dX0_slipsOf_19 : decode cX0_slipsOf 19 = .ok (.ifCond .eq 7, 3) := dk_153 0 7 (dk_at dksX0_slipsOf_0 19 rfl rfl)
theorem dX0_slipsOf_22 : decode cX0_slipsOf 22 = .ok (.iconst (-1), 1) := dk_2 (dk_at dksX0_slipsOf_0 22 rfl rfl)
theorem dX0_slipsOf_23 : decode cX0_slipsOf 23 = .ok (.goto 10, 3) := dk_167 0 10 (dk_at dksX0_slipsOf_1 0 rfl rfl)
theorem dX0_slipsOf_26 : decode cX0_slipsOf 26 = .ok (.aload_n 0, 1) := dk_42 (dk_at dksX0_slipsOf_1 3 rfl rfl)
theorem dX0_slipsOf_27 : decode cX0_slipsOf 27 = .ok (.getfield 39, 3) := dk_180 0 39 (dk_at dksX0_slipsOf_1 4 rfl rfl)
theorem dX0_slipsOf_30 : decode cX0_slipsOf 30 = .ok (.invokevirtual 277, 3) := dk_182 1 21 (dk_at dksX0_slipsOf_1 7 rfl rfl)
theorem dX0_slipsOf_33 : decode cX0_slipsOf 33 = .ok (.ireturn, 1) := dk_172 (dk_at dksX0_slipsOf_1 10 rfl rfl)
abbrev cX0_slipsWith : ByteArray := prog_1_method_51_code
def yX0_slipsWith : MethodName := ⟨RX0, "slipsWith", "(II)I"⟩
def dkwX0_slipsWith_2 : List UInt8 := [180, 0, 30, 180, 0, 147, 28, 45, 83, 21, 4, 172]
abbrev dktX0_slipsWith_2 : List UInt8 := dkwX0_slipsWith_2 ++ []
def dkwX0_slipsWith_1 : List UInt8 := [180, 0, 30, 180, 0, 147, 28, 50, 27, 182, 1, 47, 42, 42, 180, 0, 30, 182, 1, 50, 54, 4, 42]
abbrev dktX0_slipsWith_1 : List UInt8 := dkwX0_slipsWith_1 ++ dktX0_slipsWith_2
def dkwX0_slipsWith_0 : List UInt8 := [42, 180, 0, 30, 180, 0, 147, 28, 50, 78, 42, 180, 0, 30, 180, 0, 147, 28, 45, 182, 1, 44, 83, 42]
abbrev dktX0_slipsWith_0 : List UInt8 := dkwX0_slipsWith_0 ++ dktX0_slipsWith_1
theorem dksX0_slipsWith_0 : cX0_slipsWith.data.toList.drop 0 = dktX0_slipsWith_0 := by decide +kernel
theorem dksX0_slipsWith_1 : cX0_slipsWith.data.toList.drop 24 = dktX0_slipsWith_1 := dk_seg dksX0_slipsWith_0 24 rfl rfl
theorem dksX0_slipsWith_2 : cX0_slipsWith.data.toList.drop 47 = dktX0_slipsWith_2 := dk_seg dksX0_slipsWith_1 23 rfl rfl
theorem dX0_slipsWith_0 : decode cX0_slipsWith 0 = .ok (.aload_n 0, 1) := dk_42 (dk_at dksX0_slipsWith_0 0 rfl rfl)
theorem dX0_slipsWith_1 : decode cX0_slipsWith 1 = .ok (.getfield 30, 3) := dk_180 0 30 (dk_at dksX0_slipsWith_0 1 rfl rfl)
theorem dX0_slipsWith_4 : decode cX0_slipsWith 4 = .ok (.getfield 147, 3) := dk_180 0 147 (dk_at dksX0_slipsWith_0 4 rfl rfl)
theorem dX0_slipsWith_7 : decode cX0_slipsWith 7 = .ok (.iload_n 2, 1) := dk_28 (dk_at dksX0_slipsWith_0 7 rfl rfl)
theorem dX0_slipsWith_8 : decode cX0_slipsWith 8 = .ok (.aaload, 1) := dk_50 (dk_at dksX0_slipsWith_0 8 rfl rfl)
theorem dX0_slipsWith_9 : decode cX0_slipsWith 9 = .ok (.astore_n 3, 1) := dk_78 (dk_at dksX0_slipsWith_0 9 rfl rfl)
theorem dX0_slipsWith_10 : decode cX0_slipsWith 10 = .ok (.aload_n 0, 1) := dk_42 (dk_at dksX0_slipsWith_0 10 rfl rfl)
theorem dX0_slipsWith_11 : decode cX0_slipsWith 11 = .ok (.getfield 30, 3) := dk_180 0 30 (dk_at dksX0_slipsWith_0 11 rfl rfl)
theorem dX0_slipsWith_14 : decode cX0_slipsWith 14 = .ok (.getfield 147, 3) := dk_180 0 147 (dk_at dksX0_slipsWith_0 14 rfl rfl)
theorem dX0_slipsWith_17 : decode cX0_slipsWith 17 = .ok (.iload_n 2, 1) := dk_28 (dk_at dksX0_slipsWith_0 17 rfl rfl)
theorem dX0_slipsWith_18 : decode cX0_slipsWith 18 = .ok (.aload_n 3, 1) := dk_45 (dk_at dksX0_slipsWith_0 18 rfl rfl)
theorem dX0_slipsWith_19 : decode cX0_slipsWith 19 = .ok (.invokevirtual 300, 3) := dk_182 1 44 (dk_at dksX0_slipsWith_0 19 rfl rfl)
theorem dX0_slipsWith_22 : decode cX0_slipsWith 22 = .ok (.aastore, 1) := dk_83 (dk_at dksX0_slipsWith_0 22 rfl rfl)
theorem dX0_slipsWith_23 : decode cX0_slipsWith 23 = .ok (.aload_n 0, 1) := dk_42 (dk_at dksX0_slipsWith_0 23 rfl rfl)
theorem dX0_slipsWith_24 : decode cX0_slipsWith 24 = .ok (.getfield 30, 3) := dk_180 0 30 (dk_at dksX0_slipsWith_1 0 rfl rfl)
theorem dX0_slipsWith_27 : decode cX0_slipsWith 27 = .ok (.getfield 147, 3) := dk_180 0 147 (dk_at dksX0_slipsWith_1 3 rfl rfl)
theorem dX0_slipsWith_30 : decode cX0_slipsWith 30 = .ok (.iload_n 2, 1) := dk_28 (dk_at dksX0_slipsWith_1 6 rfl rfl)
theorem dX0_slipsWith_31 : decode cX0_slipsWith 31 = .ok (.aaload, 1) := dk_50 (dk_at dksX0_slipsWith_1 7 rfl rfl)
theorem dX0_slipsWith_32 : decode cX0_slipsWith 32 = .ok (.iload_n 1, 1) := dk_27 (dk_at dksX0_slipsWith_1 8 rfl rfl)
theorem dX0_slipsWith_33 : decode cX0_slipsWith 33 = .ok (.invokevirtual 303, 3) := dk_182 1 47 (dk_at dksX0_slipsWith_1 9 rfl rfl)
theorem dX0_slipsWith_36 : decode cX0_slipsWith 36 = .ok (.aload_n 0, 1) := dk_42 (dk_at dksX0_slipsWith_1 12 rfl rfl)
theorem dX0_slipsWith_37 : decode cX0_slipsWith 37 = .ok (.aload_n 0, 1) := dk_42 (dk_at dksX0_slipsWith_1 13 rfl rfl)
theorem dX0_slipsWith_38 : decode cX0_slipsWith 38 = .ok (.getfield 30, 3) := dk_180 0 30 (dk_at dksX0_slipsWith_1 14 rfl rfl)
theorem dX0_slipsWith_41 : decode cX0_slipsWith 41 = .ok (.invokevirtual 306, 3) := dk_182 1 50 (dk_at dksX0_slipsWith_1 17 rfl rfl)
theorem dX0_slipsWith_44 : decode cX0_slipsWith 44 = .ok (.istore 4, 2) := dk_54 4 (dk_at dksX0_slipsWith_1 20 rfl rfl)
theorem dX0_slipsWith_46 : decode cX0_slipsWith 46 = .ok (.aload_n 0, 1) := dk_42 (dk_at dksX0_slipsWith_1 22 rfl rfl)
theorem dX0_slipsWith_47 : decode cX0_slipsWith 47 = .ok (.getfield 30, 3) := dk_180 0 30 (dk_at dksX0_slipsWith_2 0 rfl rfl)
theorem dX0_slipsWith_50 : decode cX0_slipsWith 50 = .ok (.getfield 147, 3) := dk_180 0 147 (dk_at dksX0_slipsWith_2 3 rfl rfl)
theorem dX0_slipsWith_53 : decode cX0_slipsWith 53 = .ok (.iload_n 2, 1) := dk_28 (dk_at dksX0_slipsWith_2 6 rfl rfl)
theorem dX0_slipsWith_54 : decode cX0_slipsWith 54 = .ok (.aload_n 3, 1) := dk_45 (dk_at dksX0_slipsWith_2 7 rfl rfl)
theorem dX0_slipsWith_55 : decode cX0_slipsWith 55 = .ok (.aastore, 1) := dk_83 (dk_at dksX0_slipsWith_2 8 rfl rfl)
theorem dX0_slipsWith_56 : decode cX0_slipsWith 56 = .ok (.iload 4, 2) := dk_21 4 (dk_at dksX0_slipsWith_2 9 rfl rfl)
theorem dX0_slipsWith_58 : decode cX0_slipsWith 58 = .ok (.ireturn, 1) := dk_172 (dk_at dksX0_slipsWith_2 11 rfl rfl)
abbrev cX0_where : ByteArray := prog_1_method_54_code
def yX0_where : MethodName := ⟨RX0, "where", "(I)I"⟩
def dkwX0_where_0 : List UInt8 := [27, 184, 1, 54, 153, 0, 11, 42, 27, 182, 1, 60, 167, 0, 9, 42, 16, 254, 182, 0, 85, 172]
abbrev dktX0_where_0 : List UInt8 := dkwX0_where_0 ++ []
theorem dksX0_where_0 : cX0_where.data.toList.drop 0 = dktX0_where_0 := by decide +kernel
theorem dX0_where_0 : decode cX0_where 0 = .ok (.iload_n 1, 1) := dk_27 (dk_at dksX0_where_0 0 rfl rfl)
theorem dX0_where_1 : decode cX0_where 1 = .ok (.invokestatic 310, 3) := dk_184 1 54 (dk_at dksX0_where_0 1 rfl rfl)
theorem dX0_where_4 : decode cX0_where 4 = .ok (.ifCond .eq 11, 3) := dk_153 0 11 (dk_at dksX0_where_0 4 rfl rfl)
theorem dX0_where_7 : decode cX0_where 7 = .ok (.aload_n 0, 1) := dk_42 (dk_at dksX0_where_0 7 rfl rfl)
theorem dX0_where_8 : decode cX0_where 8 = .ok (.iload_n 1, 1) := dk_27 (dk_at dksX0_where_0 8 rfl rfl)
theorem dX0_where_9 : decode cX0_where 9 = .ok (.invokevirtual 316, 3) := dk_182 1 60 (dk_at dksX0_where_0 9 rfl rfl)
theorem dX0_where_12 : decode cX0_where 12 = .ok (.goto 9, 3) := dk_167 0 9 (dk_at dksX0_where_0 12 rfl rfl)
theorem dX0_where_15 : decode cX0_where 15 = .ok (.aload_n 0, 1) := dk_42 (dk_at dksX0_where_0 15 rfl rfl)
theorem dX0_where_16 : decode cX0_where 16 = .ok (.bipush (-2), 2) := dk_16 254 (dk_at dksX0_where_0 16 rfl rfl)
theorem dX0_where_18 : decode cX0_where 18 = .ok (.invokevirtual 85, 3) := dk_182 0 85 (dk_at dksX0_where_0 18 rfl rfl)
theorem dX0_where_21 : decode cX0_where 21 = .ok (.ireturn, 1) := dk_172 (dk_at dksX0_where_0 21 rfl rfl)
abbrev cX0_whereOf : ByteArray := prog_1_method_53_code
def yX0_whereOf : MethodName := ⟨RX0, "whereOf", "(I)I"⟩
def dkwX0_whereOf_3 : List UInt8 := [167, 255, 203, 29, 172]
abbrev dktX0_whereOf_3 : List UInt8 := dkwX0_whereOf_3 ++ []
def dkwX0_whereOf_2 : List UInt8 := [159, 0, 21, 28, 21, 6, 100, 21, 4, 164, 0, 12, 21, 5, 62, 28, 21, 6, 100, 54, 4, 132, 5, 1]
abbrev dktX0_whereOf_2 : List UInt8 := dkwX0_whereOf_2 ++ dktX0_whereOf_3
def dkwX0_whereOf_1 : List UInt8 := [180, 0, 61, 162, 0, 47, 28, 2, 159, 0, 42, 42, 27, 21, 5, 182, 1, 57, 54, 6, 21, 6, 2]
abbrev dktX0_whereOf_1 : List UInt8 := dkwX0_whereOf_1 ++ dktX0_whereOf_2
def dkwX0_whereOf_0 : List UInt8 := [42, 42, 180, 0, 30, 182, 1, 50, 61, 2, 62, 3, 54, 4, 3, 54, 5, 21, 5, 42, 180, 0, 30]
abbrev dktX0_whereOf_0 : List UInt8 := dkwX0_whereOf_0 ++ dktX0_whereOf_1
theorem dksX0_whereOf_0 : cX0_whereOf.data.toList.drop 0 = dktX0_whereOf_0 := by decide +kernel
theorem dksX0_whereOf_1 : cX0_whereOf.data.toList.drop 23 = dktX0_whereOf_1 := dk_seg dksX0_whereOf_0 23 rfl rfl
theorem dksX0_whereOf_2 : cX0_whereOf.data.toList.drop 46 = dktX0_whereOf_2 := dk_seg dksX0_whereOf_1 23 rfl rfl
theorem dksX0_whereOf_3 : cX0_whereOf.data.toList.drop 70 = dktX0_whereOf_3 := dk_seg dksX0_whereOf_2 24 rfl rfl
theorem dX0_whereOf_0 : decode cX0_whereOf 0 = .ok (.aload_n 0, 1) := dk_42 (dk_at dksX0_whereOf_0 0 rfl rfl)
theorem dX0_whereOf_1 : decode cX0_whereOf 1 = .ok (.aload_n 0, 1) := dk_42 (dk_at dksX0_whereOf_0 1 rfl rfl)
theorem dX0_whereOf_2 : decode cX0_whereOf 2 = .ok (.getfield 30, 3) := dk_180 0 30 (dk_at dksX0_whereOf_0 2 rfl rfl)
theorem dX0_whereOf_5 : decode cX0_whereOf 5 = .ok (.invokevirtual 306, 3) := dk_182 1 50 (dk_at dksX0_whereOf_0 5 rfl rfl)
theorem dX0_whereOf_8 : decode cX0_whereOf 8 = .ok (.istore_n 2, 1) := dk_61 (dk_at dksX0_whereOf_0 8 rfl rfl)
theorem dX0_whereOf_9 : decode cX0_whereOf 9 = .ok (.iconst (-1), 1) := dk_2 (dk_at dksX0_whereOf_0 9 rfl rfl)
theorem dX0_whereOf_10 : decode cX0_whereOf 10 = .ok (.istore_n 3, 1) := dk_62 (dk_at dksX0_whereOf_0 10 rfl rfl)
theorem dX0_whereOf_11 : decode cX0_whereOf 11 = .ok (.iconst 0, 1) := dk_3 (dk_at dksX0_whereOf_0 11 rfl rfl)
theorem dX0_whereOf_12 : decode cX0_whereOf 12 = .ok (.istore 4, 2) := dk_54 4 (dk_at dksX0_whereOf_0 12 rfl rfl)
theorem dX0_whereOf_14 : decode cX0_whereOf 14 = .ok (.iconst 0, 1) := dk_3 (dk_at dksX0_whereOf_0 14 rfl rfl)
theorem dX0_whereOf_15 : decode cX0_whereOf 15 = .ok (.istore 5, 2) := dk_54 5 (dk_at dksX0_whereOf_0 15 rfl rfl)
theorem dX0_whereOf_17 : decode cX0_whereOf 17 = .ok (.iload 5, 2) := dk_21 5 (dk_at dksX0_whereOf_0 17 rfl rfl)
theorem dX0_whereOf_19 : decode cX0_whereOf 19 = .ok (.aload_n 0, 1) := dk_42 (dk_at dksX0_whereOf_0 19 rfl rfl)
theorem dX0_whereOf_20 : decode cX0_whereOf 20 = .ok (.getfield 30, 3) := dk_180 0 30 (dk_at dksX0_whereOf_0 20 rfl rfl)
theorem dX0_whereOf_23 : decode cX0_whereOf 23 = .ok (.getfield 61, 3) := dk_180 0 61 (dk_at dksX0_whereOf_1 0 rfl rfl)
theorem dX0_whereOf_26 : decode cX0_whereOf 26 = .ok (.if_icmp .ge 47, 3) := dk_162 0 47 (dk_at dksX0_whereOf_1 3 rfl rfl)
theorem dX0_whereOf_29 : decode cX0_whereOf 29 = .ok (.iload_n 2, 1) := dk_28 (dk_at dksX0_whereOf_1 6 rfl rfl)
theorem dX0_whereOf_30 : decode cX0_whereOf 30 = .ok (.iconst (-1), 1) := dk_2 (dk_at dksX0_whereOf_1 7 rfl rfl)
theorem dX0_whereOf_31 : decode cX0_whereOf 31 = .ok (.if_icmp .eq 42, 3) := dk_159 0 42 (dk_at dksX0_whereOf_1 8 rfl rfl)
theorem dX0_whereOf_34 : decode cX0_whereOf 34 = .ok (.aload_n 0, 1) := dk_42 (dk_at dksX0_whereOf_1 11 rfl rfl)
theorem dX0_whereOf_35 : decode cX0_whereOf 35 = .ok (.iload_n 1, 1) := dk_27 (dk_at dksX0_whereOf_1 12 rfl rfl)
theorem dX0_whereOf_36 : decode cX0_whereOf 36 = .ok (.iload 5, 2) := dk_21 5 (dk_at dksX0_whereOf_1 13 rfl rfl)
theorem dX0_whereOf_38 : decode cX0_whereOf 38 = .ok (.invokevirtual 313, 3) := dk_182 1 57 (dk_at dksX0_whereOf_1 15 rfl rfl)
theorem dX0_whereOf_41 : decode cX0_whereOf 41 = .ok (.istore 6, 2) := dk_54 6 (dk_at dksX0_whereOf_1 18 rfl rfl)
theorem dX0_whereOf_43 : decode cX0_whereOf 43 = .ok (.iload 6, 2) := dk_21 6 (dk_at dksX0_whereOf_1 20 rfl rfl)
theorem dX0_whereOf_45 : decode cX0_whereOf 45 = .ok (.iconst (-1), 1) := dk_2 (dk_at dksX0_whereOf_1 22 rfl rfl)
theorem dX0_whereOf_46 : decode cX0_whereOf 46 = .ok (.if_icmp .eq 21, 3) := dk_159 0 21 (dk_at dksX0_whereOf_2 0 rfl rfl)
theorem dX0_whereOf_49 : decode cX0_whereOf 49 = .ok (.iload_n 2, 1) := dk_28 (dk_at dksX0_whereOf_2 3 rfl rfl)
theorem dX0_whereOf_50 : decode cX0_whereOf 50 = .ok (.iload 6, 2) := dk_21 6 (dk_at dksX0_whereOf_2 4 rfl rfl)
theorem dX0_whereOf_52 : decode cX0_whereOf 52 = .ok (.isub, 1) := dk_100 (dk_at dksX0_whereOf_2 6 rfl rfl)
theorem dX0_whereOf_53 : decode cX0_whereOf 53 = .ok (.iload 4, 2) := dk_21 4 (dk_at dksX0_whereOf_2 7 rfl rfl)
theorem dX0_whereOf_55 : decode cX0_whereOf 55 = .ok (.if_icmp .le 12, 3) := dk_164 0 12 (dk_at dksX0_whereOf_2 9 rfl rfl)
theorem dX0_whereOf_58 : decode cX0_whereOf 58 = .ok (.iload 5, 2) := dk_21 5 (dk_at dksX0_whereOf_2 12 rfl rfl)
theorem dX0_whereOf_60 : decode cX0_whereOf 60 = .ok (.istore_n 3, 1) := dk_62 (dk_at dksX0_whereOf_2 14 rfl rfl)
theorem dX0_whereOf_61 : decode cX0_whereOf 61 = .ok (.iload_n 2, 1) := dk_28 (dk_at dksX0_whereOf_2 15 rfl rfl)
theorem dX0_whereOf_62 : decode cX0_whereOf 62 = .ok (.iload 6, 2) := dk_21 6 (dk_at dksX0_whereOf_2 16 rfl rfl)
theorem dX0_whereOf_64 : decode cX0_whereOf 64 = .ok (.isub, 1) := dk_100 (dk_at dksX0_whereOf_2 18 rfl rfl)
theorem dX0_whereOf_65 : decode cX0_whereOf 65 = .ok (.istore 4, 2) := dk_54 4 (dk_at dksX0_whereOf_2 19 rfl rfl)
theorem dX0_whereOf_67 : decode cX0_whereOf 67 = .ok (.iinc 5 1, 3) := dk_132 5 1 (dk_at dksX0_whereOf_2 21 rfl rfl)
theorem dX0_whereOf_70 : decode cX0_whereOf 70 = .ok (.goto (-53), 3) := dk_167 255 203 (dk_at dksX0_whereOf_3 0 rfl rfl)
theorem dX0_whereOf_73 : decode cX0_whereOf 73 = .ok (.iload_n 3, 1) := dk_29 (dk_at dksX0_whereOf_3 3 rfl rfl)
theorem dX0_whereOf_74 : decode cX0_whereOf 74 = .ok (.ireturn, 1) := dk_172 (dk_at dksX0_whereOf_3 4 rfl rfl)
abbrev cX0_works : ByteArray := prog_1_method_57_code
def yX0_works : MethodName := ⟨RX0, "works", "(II)I"⟩
def dkwX0_works_8 : List UInt8 := [182, 1, 72, 132, 7, 1, 167, 255, 232, 25, 6, 28, 46, 172]
abbrev dktX0_works_8 : List UInt8 := dkwX0_works_8 ++ []
def dkwX0_works_7 : List UInt8 := [58, 6, 3, 54, 7, 21, 7, 16, 16, 162, 0, 23, 42, 21, 7, 21, 5, 27, 45, 25, 4, 25, 6]
abbrev dktX0_works_7 : List UInt8 := dkwX0_works_7 ++ dktX0_works_8
def dkwX0_works_6 : List UInt8 := [4, 104, 79, 132, 6, 1, 167, 255, 170, 6, 188, 10, 89, 3, 3, 79, 89, 4, 3, 79, 89, 5, 2, 79]
abbrev dktX0_works_6 : List UInt8 := dkwX0_works_6 ++ dktX0_works_7
def dkwX0_works_5 : List UInt8 := [180, 0, 30, 180, 0, 143, 21, 6, 182, 1, 69, 21, 6, 6, 160, 0, 10, 42, 182, 1, 66, 167, 0, 4]
abbrev dktX0_works_5 : List UInt8 := dkwX0_works_5 ++ dktX0_works_6
def dkwX0_works_4 : List UInt8 := [45, 21, 6, 46, 155, 0, 10, 4, 21, 6, 120, 167, 0, 4, 3, 128, 54, 5, 25, 4, 21, 6, 42]
abbrev dktX0_works_4 : List UInt8 := dkwX0_works_4 ++ dktX0_works_5
def dkwX0_works_3 : List UInt8 := [21, 6, 6, 160, 0, 12, 42, 182, 1, 66, 4, 100, 167, 0, 9, 42, 21, 6, 182, 1, 60, 79, 21, 5]
abbrev dktX0_works_3 : List UInt8 := dkwX0_works_3 ++ dktX0_works_4
def dkwX0_works_2 : List UInt8 := [188, 10, 78, 7, 188, 10, 58, 4, 3, 54, 5, 3, 54, 6, 21, 6, 7, 162, 0, 86, 45, 21, 6]
abbrev dktX0_works_2 : List UInt8 := dkwX0_works_2 ++ dktX0_works_3
def dkwX0_works_1 : List UInt8 := [182, 0, 85, 172, 42, 42, 180, 0, 30, 182, 1, 50, 2, 160, 0, 10, 42, 16, 251, 182, 0, 85, 172, 7]
abbrev dktX0_works_1 : List UInt8 := dkwX0_works_1 ++ dktX0_works_2
def dkwX0_works_0 : List UInt8 := [27, 3, 17, 3, 231, 184, 0, 57, 153, 0, 12, 28, 3, 5, 184, 0, 57, 154, 0, 10, 42, 16, 254]
abbrev dktX0_works_0 : List UInt8 := dkwX0_works_0 ++ dktX0_works_1
theorem dksX0_works_0 : cX0_works.data.toList.drop 0 = dktX0_works_0 := by decide +kernel
theorem dksX0_works_1 : cX0_works.data.toList.drop 23 = dktX0_works_1 := dk_seg dksX0_works_0 23 rfl rfl
theorem dksX0_works_2 : cX0_works.data.toList.drop 47 = dktX0_works_2 := dk_seg dksX0_works_1 24 rfl rfl
theorem dksX0_works_3 : cX0_works.data.toList.drop 70 = dktX0_works_3 := dk_seg dksX0_works_2 23 rfl rfl
theorem dksX0_works_4 : cX0_works.data.toList.drop 94 = dktX0_works_4 := dk_seg dksX0_works_3 24 rfl rfl
theorem dksX0_works_5 : cX0_works.data.toList.drop 117 = dktX0_works_5 := dk_seg dksX0_works_4 23 rfl rfl
theorem dksX0_works_6 : cX0_works.data.toList.drop 141 = dktX0_works_6 := dk_seg dksX0_works_5 24 rfl rfl
theorem dksX0_works_7 : cX0_works.data.toList.drop 165 = dktX0_works_7 := dk_seg dksX0_works_6 24 rfl rfl
theorem dksX0_works_8 : cX0_works.data.toList.drop 188 = dktX0_works_8 := dk_seg dksX0_works_7 23 rfl rfl
theorem dX0_works_0 : decode cX0_works 0 = .ok (.iload_n 1, 1) := dk_27 (dk_at dksX0_works_0 0 rfl rfl)
theorem dX0_works_1 : decode cX0_works 1 = .ok (.iconst 0, 1) := dk_3 (dk_at dksX0_works_0 1 rfl rfl)
theorem dX0_works_2 : decode cX0_works 2 = .ok (.sipush 999, 3) := dk_17 3 231 (dk_at dksX0_works_0 2 rfl rfl)
theorem dX0_works_5 : decode cX0_works 5 = .ok (.invokestatic 57, 3) := dk_184 0 57 (dk_at dksX0_works_0 5 rfl rfl)
theorem dX0_works_8 : decode cX0_works 8 = .ok (.ifCond .eq 12, 3) := dk_153 0 12 (dk_at dksX0_works_0 8 rfl rfl)
theorem dX0_works_11 : decode cX0_works 11 = .ok (.iload_n 2, 1) := dk_28 (dk_at dksX0_works_0 11 rfl rfl)
theorem dX0_works_12 : decode cX0_works 12 = .ok (.iconst 0, 1) := dk_3 (dk_at dksX0_works_0 12 rfl rfl)
theorem dX0_works_13 : decode cX0_works 13 = .ok (.iconst 2, 1) := dk_5 (dk_at dksX0_works_0 13 rfl rfl)
theorem dX0_works_14 : decode cX0_works 14 = .ok (.invokestatic 57, 3) := dk_184 0 57 (dk_at dksX0_works_0 14 rfl rfl)
theorem dX0_works_17 : decode cX0_works 17 = .ok (.ifCond .ne 10, 3) := dk_154 0 10 (dk_at dksX0_works_0 17 rfl rfl)
theorem dX0_works_20 : decode cX0_works 20 = .ok (.aload_n 0, 1) := dk_42 (dk_at dksX0_works_0 20 rfl rfl)
theorem dX0_works_21 : decode cX0_works 21 = .ok (.bipush (-2), 2) := dk_16 254 (dk_at dksX0_works_0 21 rfl rfl)
theorem dX0_works_23 : decode cX0_works 23 = .ok (.invokevirtual 85, 3) := dk_182 0 85 (dk_at dksX0_works_1 0 rfl rfl)
theorem dX0_works_26 : decode cX0_works 26 = .ok (.ireturn, 1) := dk_172 (dk_at dksX0_works_1 3 rfl rfl)
theorem dX0_works_27 : decode cX0_works 27 = .ok (.aload_n 0, 1) := dk_42 (dk_at dksX0_works_1 4 rfl rfl)
theorem dX0_works_28 : decode cX0_works 28 = .ok (.aload_n 0, 1) := dk_42 (dk_at dksX0_works_1 5 rfl rfl)
theorem dX0_works_29 : decode cX0_works 29 = .ok (.getfield 30, 3) := dk_180 0 30 (dk_at dksX0_works_1 6 rfl rfl)
theorem dX0_works_32 : decode cX0_works 32 = .ok (.invokevirtual 306, 3) := dk_182 1 50 (dk_at dksX0_works_1 9 rfl rfl)
theorem dX0_works_35 : decode cX0_works 35 = .ok (.iconst (-1), 1) := dk_2 (dk_at dksX0_works_1 12 rfl rfl)
theorem dX0_works_36 : decode cX0_works 36 = .ok (.if_icmp .ne 10, 3) := dk_160 0 10 (dk_at dksX0_works_1 13 rfl rfl)
theorem dX0_works_39 : decode cX0_works 39 = .ok (.aload_n 0, 1) := dk_42 (dk_at dksX0_works_1 16 rfl rfl)
theorem dX0_works_40 : decode cX0_works 40 = .ok (.bipush (-5), 2) := dk_16 251 (dk_at dksX0_works_1 17 rfl rfl)
theorem dX0_works_42 : decode cX0_works 42 = .ok (.invokevirtual 85, 3) := dk_182 0 85 (dk_at dksX0_works_1 19 rfl rfl)
theorem dX0_works_45 : decode cX0_works 45 = .ok (.ireturn, 1) := dk_172 (dk_at dksX0_works_1 22 rfl rfl)
theorem dX0_works_46 : decode cX0_works 46 = .ok (.iconst 4, 1) := dk_7 (dk_at dksX0_works_1 23 rfl rfl)
theorem dX0_works_47 : decode cX0_works 47 = .ok (.newarray .int, 2) := dk_188_10 (dk_at dksX0_works_2 0 rfl rfl)
theorem dX0_works_49 : decode cX0_works 49 = .ok (.astore_n 3, 1) := dk_78 (dk_at dksX0_works_2 2 rfl rfl)
theorem dX0_works_50 : decode cX0_works 50 = .ok (.iconst 4, 1) := dk_7 (dk_at dksX0_works_2 3 rfl rfl)
theorem dX0_works_51 : decode cX0_works 51 = .ok (.newarray .int, 2) := dk_188_10 (dk_at dksX0_works_2 4 rfl rfl)
theorem dX0_works_53 : decode cX0_works 53 = .ok (.astore 4, 2) := dk_58 4 (dk_at dksX0_works_2 6 rfl rfl)
theorem dX0_works_55 : decode cX0_works 55 = .ok (.iconst 0, 1) := dk_3 (dk_at dksX0_works_2 8 rfl rfl)
theorem dX0_works_56 : decode cX0_works 56 = .ok (.istore 5, 2) := dk_54 5 (dk_at dksX0_works_2 9 rfl rfl)
theorem dX0_works_58 : decode cX0_works 58 = .ok (.iconst 0, 1) := dk_3 (dk_at dksX0_works_2 11 rfl rfl)
theorem dX0_works_59 : decode cX0_works 59 = .ok (.istore 6, 2) := dk_54 6 (dk_at dksX0_works_2 12 rfl rfl)
theorem dX0_works_61 : decode cX0_works 61 = .ok (.iload 6, 2) := dk_21 6 (dk_at dksX0_works_2 14 rfl rfl)
theorem dX0_works_63 : decode cX0_works 63 = .ok (.iconst 4, 1) := dk_7 (dk_at dksX0_works_2 16 rfl rfl)
theorem dX0_works_64 : decode cX0_works 64 = .ok (.if_icmp .ge 86, 3) := dk_162 0 86 (dk_at dksX0_works_2 17 rfl rfl)
theorem dX0_works_67 : decode cX0_works 67 = .ok (.aload_n 3, 1) := dk_45 (dk_at dksX0_works_2 20 rfl rfl)
theorem dX0_works_68 : decode cX0_works 68 = .ok (.iload 6, 2) := dk_21 6 (dk_at dksX0_works_2 21 rfl rfl)
theorem dX0_works_70 : decode cX0_works 70 = .ok (.iload 6, 2) := dk_21 6 (dk_at dksX0_works_3 0 rfl rfl)
theorem dX0_works_72 : decode cX0_works 72 = .ok (.iconst 3, 1) := dk_6 (dk_at dksX0_works_3 2 rfl rfl)
theorem dX0_works_73 : decode cX0_works 73 = .ok (.if_icmp .ne 12, 3) := dk_160 0 12 (dk_at dksX0_works_3 3 rfl rfl)
theorem dX0_works_76 : decode cX0_works 76 = .ok (.aload_n 0, 1) := dk_42 (dk_at dksX0_works_3 6 rfl rfl)
theorem dX0_works_77 : decode cX0_works 77 = .ok (.invokevirtual 322, 3) := dk_182 1 66 (dk_at dksX0_works_3 7 rfl rfl)
theorem dX0_works_80 : decode cX0_works 80 = .ok (.iconst 1, 1) := dk_4 (dk_at dksX0_works_3 10 rfl rfl)
theorem dX0_works_81 : decode cX0_works 81 = .ok (.isub, 1) := dk_100 (dk_at dksX0_works_3 11 rfl rfl)
theorem dX0_works_82 : decode cX0_works 82 = .ok (.goto 9, 3) := dk_167 0 9 (dk_at dksX0_works_3 12 rfl rfl)
theorem dX0_works_85 : decode cX0_works 85 = .ok (.aload_n 0, 1) := dk_42 (dk_at dksX0_works_3 15 rfl rfl)
theorem dX0_works_86 : decode cX0_works 86 = .ok (.iload 6, 2) := dk_21 6 (dk_at dksX0_works_3 16 rfl rfl)
theorem dX0_works_88 : decode cX0_works 88 = .ok (.invokevirtual 316, 3) := dk_182 1 60 (dk_at dksX0_works_3 18 rfl rfl)
theorem dX0_works_91 : decode cX0_works 91 = .ok (.iastore, 1) := dk_79 (dk_at dksX0_works_3 21 rfl rfl)
theorem dX0_works_92 : decode cX0_works 92 = .ok (.iload 5, 2) := dk_21 5 (dk_at dksX0_works_3 22 rfl rfl)
theorem dX0_works_94 : decode cX0_works 94 = .ok (.aload_n 3, 1) := dk_45 (dk_at dksX0_works_4 0 rfl rfl)
theorem dX0_works_95 : decode cX0_works 95 = .ok (.iload 6, 2) := dk_21 6 (dk_at dksX0_works_4 1 rfl rfl)
theorem dX0_works_97 : decode cX0_works 97 = .ok (.iaload, 1) := dk_46 (dk_at dksX0_works_4 3 rfl rfl)
theorem dX0_works_98 : decode cX0_works 98 = .ok (.ifCond .lt 10, 3) := dk_155 0 10 (dk_at dksX0_works_4 4 rfl rfl)
theorem dX0_works_101 : decode cX0_works 101 = .ok (.iconst 1, 1) := dk_4 (dk_at dksX0_works_4 7 rfl rfl)
theorem dX0_works_102 : decode cX0_works 102 = .ok (.iload 6, 2) := dk_21 6 (dk_at dksX0_works_4 8 rfl rfl)
theorem dX0_works_104 : decode cX0_works 104 = .ok (.ishl, 1) := dk_120 (dk_at dksX0_works_4 10 rfl rfl)
theorem dX0_works_105 : decode cX0_works 105 = .ok (.goto 4, 3) := dk_167 0 4 (dk_at dksX0_works_4 11 rfl rfl)
theorem dX0_works_108 : decode cX0_works 108 = .ok (.iconst 0, 1) := dk_3 (dk_at dksX0_works_4 14 rfl rfl)
theorem dX0_works_109 : decode cX0_works 109 = .ok (.ior, 1) := dk_128 (dk_at dksX0_works_4 15 rfl rfl)
theorem dX0_works_110 : decode cX0_works 110 = .ok (.istore 5, 2) := dk_54 5 (dk_at dksX0_works_4 16 rfl rfl)
theorem dX0_works_112 : decode cX0_works 112 = .ok (.aload 4, 2) := dk_25 4 (dk_at dksX0_works_4 18 rfl rfl)
theorem dX0_works_114 : decode cX0_works 114 = .ok (.iload 6, 2) := dk_21 6 (dk_at dksX0_works_4 20 rfl rfl)
theorem dX0_works_116 : decode cX0_works 116 = .ok (.aload_n 0, 1) := dk_42 (dk_at dksX0_works_4 22 rfl rfl)
theorem dX0_works_117 : decode cX0_works 117 = .ok (.getfield 30, 3) := dk_180 0 30 (dk_at dksX0_works_5 0 rfl rfl)
theorem dX0_works_120 : decode cX0_works 120 = .ok (.getfield 143, 3) := dk_180 0 143 (dk_at dksX0_works_5 3 rfl rfl)
theorem dX0_works_123 : decode cX0_works 123 = .ok (.iload 6, 2) := dk_21 6 (dk_at dksX0_works_5 6 rfl rfl)
theorem dX0_works_125 : decode cX0_works 125 = .ok (.invokevirtual 325, 3) := dk_182 1 69 (dk_at dksX0_works_5 8 rfl rfl)
theorem dX0_works_128 : decode cX0_works 128 = .ok (.iload 6, 2) := dk_21 6 (dk_at dksX0_works_5 11 rfl rfl)
theorem dX0_works_130 : decode cX0_works 130 = .ok (.iconst 3, 1) := dk_6 (dk_at dksX0_works_5 13 rfl rfl)
theorem dX0_works_131 : decode cX0_works 131 = .ok (.if_icmp .ne 10, 3) := dk_160 0 10 (dk_at dksX0_works_5 14 rfl rfl)
theorem dX0_works_134 : decode cX0_works 134 = .ok (.aload_n 0, 1) := dk_42 (dk_at dksX0_works_5 17 rfl rfl)
theorem dX0_works_135 : decode cX0_works 135 = .ok (.invokevirtual 322, 3) := dk_182 1 66 (dk_at dksX0_works_5 18 rfl rfl)
theorem dX0_works_138 : decode cX0_works 138 = .ok (.goto 4, 3) := dk_167 0 4 (dk_at dksX0_works_5 21 rfl rfl)
theorem dX0_works_141 : decode cX0_works 141 = .ok (.iconst 1, 1) := dk_4 (dk_at dksX0_works_6 0 rfl rfl)
theorem dX0_works_142 : decode cX0_works 142 = .ok (.imul, 1) := dk_104 (dk_at dksX0_works_6 1 rfl rfl)
theorem dX0_works_143 : decode cX0_works 143 = .ok (.iastore, 1) := dk_79 (dk_at dksX0_works_6 2 rfl rfl)
theorem dX0_works_144 : decode cX0_works 144 = .ok (.iinc 6 1, 3) := dk_132 6 1 (dk_at dksX0_works_6 3 rfl rfl)
theorem dX0_works_147 : decode cX0_works 147 = .ok (.goto (-86), 3) := dk_167 255 170 (dk_at dksX0_works_6 6 rfl rfl)
theorem dX0_works_150 : decode cX0_works 150 = .ok (.iconst 3, 1) := dk_6 (dk_at dksX0_works_6 9 rfl rfl)
theorem dX0_works_151 : decode cX0_works 151 = .ok (.newarray .int, 2) := dk_188_10 (dk_at dksX0_works_6 10 rfl rfl)
theorem dX0_works_153 : decode cX0_works 153 = .ok (.dup, 1) := dk_89 (dk_at dksX0_works_6 12 rfl rfl)
theorem dX0_works_154 : decode cX0_works 154 = .ok (.iconst 0, 1) := dk_3 (dk_at dksX0_works_6 13 rfl rfl)
theorem dX0_works_155 : decode cX0_works 155 = .ok (.iconst 0, 1) := dk_3 (dk_at dksX0_works_6 14 rfl rfl)
theorem dX0_works_156 : decode cX0_works 156 = .ok (.iastore, 1) := dk_79 (dk_at dksX0_works_6 15 rfl rfl)
theorem dX0_works_157 : decode cX0_works 157 = .ok (.dup, 1) := dk_89 (dk_at dksX0_works_6 16 rfl rfl)
theorem dX0_works_158 : decode cX0_works 158 = .ok (.iconst 1, 1) := dk_4 (dk_at dksX0_works_6 17 rfl rfl)
theorem dX0_works_159 : decode cX0_works 159 = .ok (.iconst 0, 1) := dk_3 (dk_at dksX0_works_6 18 rfl rfl)
theorem dX0_works_160 : decode cX0_works 160 = .ok (.iastore, 1) := dk_79 (dk_at dksX0_works_6 19 rfl rfl)
theorem dX0_works_161 : decode cX0_works 161 = .ok (.dup, 1) := dk_89 (dk_at dksX0_works_6 20 rfl rfl)
theorem dX0_works_162 : decode cX0_works 162 = .ok (.iconst 2, 1) := dk_5 (dk_at dksX0_works_6 21 rfl rfl)
theorem dX0_works_163 : decode cX0_works 163 = .ok (.iconst (-1), 1) := dk_2 (dk_at dksX0_works_6 22 rfl rfl)
theorem dX0_works_164 : decode cX0_works 164 = .ok (.iastore, 1) := dk_79 (dk_at dksX0_works_6 23 rfl rfl)
theorem dX0_works_165 : decode cX0_works 165 = .ok (.astore 6, 2) := dk_58 6 (dk_at dksX0_works_7 0 rfl rfl)
theorem dX0_works_167 : decode cX0_works 167 = .ok (.iconst 0, 1) := dk_3 (dk_at dksX0_works_7 2 rfl rfl)
theorem dX0_works_168 : decode cX0_works 168 = .ok (.istore 7, 2) := dk_54 7 (dk_at dksX0_works_7 3 rfl rfl)
theorem dX0_works_170 : decode cX0_works 170 = .ok (.iload 7, 2) := dk_21 7 (dk_at dksX0_works_7 5 rfl rfl)
theorem dX0_works_172 : decode cX0_works 172 = .ok (.bipush 16, 2) := dk_16 16 (dk_at dksX0_works_7 7 rfl rfl)
theorem dX0_works_174 : decode cX0_works 174 = .ok (.if_icmp .ge 23, 3) := dk_162 0 23 (dk_at dksX0_works_7 9 rfl rfl)
theorem dX0_works_177 : decode cX0_works 177 = .ok (.aload_n 0, 1) := dk_42 (dk_at dksX0_works_7 12 rfl rfl)
theorem dX0_works_178 : decode cX0_works 178 = .ok (.iload 7, 2) := dk_21 7 (dk_at dksX0_works_7 13 rfl rfl)
theorem dX0_works_180 : decode cX0_works 180 = .ok (.iload 5, 2) := dk_21 5 (dk_at dksX0_works_7 15 rfl rfl)
theorem dX0_works_182 : decode cX0_works 182 = .ok (.iload_n 1, 1) := dk_27 (dk_at dksX0_works_7 17 rfl rfl)
theorem dX0_works_183 : decode cX0_works 183 = .ok (.aload_n 3, 1) := dk_45 (dk_at dksX0_works_7 18 rfl rfl)
theorem dX0_works_184 : decode cX0_works 184 = .ok (.aload 4, 2) := dk_25 4 (dk_at dksX0_works_7 19 rfl rfl)
theorem dX0_works_186 : decode cX0_works 186 = .ok (.aload 6, 2) := dk_25 6 (dk_at dksX0_works_7 21 rfl rfl)
theorem dX0_works_188 : decode cX0_works 188 = .ok (.invokevirtual 328, 3) := dk_182 1 72 (dk_at dksX0_works_8 0 rfl rfl)
theorem dX0_works_191 : decode cX0_works 191 = .ok (.iinc 7 1, 3) := dk_132 7 1 (dk_at dksX0_works_8 3 rfl rfl)
theorem dX0_works_194 : decode cX0_works 194 = .ok (.goto (-24), 3) := dk_167 255 232 (dk_at dksX0_works_8 6 rfl rfl)
theorem dX0_works_197 : decode cX0_works 197 = .ok (.aload 6, 2) := dk_25 6 (dk_at dksX0_works_8 9 rfl rfl)
theorem dX0_works_199 : decode cX0_works 199 = .ok (.iload_n 2, 1) := dk_28 (dk_at dksX0_works_8 11 rfl rfl)
theorem dX0_works_200 : decode cX0_works 200 = .ok (.iaload, 1) := dk_46 (dk_at dksX0_works_8 12 rfl rfl)
theorem dX0_works_201 : decode cX0_works 201 = .ok (.ireturn, 1) := dk_172 (dk_at dksX0_works_8 13 rfl rfl)
abbrev cX0_wetSteps : ByteArray := prog_1_method_56_code
def yX0_wetSteps : MethodName := ⟨RX0, "wetSteps", "()I"⟩
def dkwX0_wetSteps_1 : List UInt8 := [50, 180, 0, 221, 153, 0, 7, 4, 167, 0, 4, 3, 96, 60, 132, 2, 1, 167, 255, 219, 27, 172]
abbrev dktX0_wetSteps_1 : List UInt8 := dkwX0_wetSteps_1 ++ []
def dkwX0_wetSteps_0 : List UInt8 := [3, 60, 3, 61, 28, 42, 180, 0, 30, 180, 0, 61, 162, 0, 32, 27, 42, 180, 0, 30, 180, 0, 147, 28]
abbrev dktX0_wetSteps_0 : List UInt8 := dkwX0_wetSteps_0 ++ dktX0_wetSteps_1
theorem dksX0_wetSteps_0 : cX0_wetSteps.data.toList.drop 0 = dktX0_wetSteps_0 := by decide +kernel
theorem dksX0_wetSteps_1 : cX0_wetSteps.data.toList.drop 24 = dktX0_wetSteps_1 := dk_seg dksX0_wetSteps_0 24 rfl rfl
theorem dX0_wetSteps_0 : decode cX0_wetSteps 0 = .ok (.iconst 0, 1) := dk_3 (dk_at dksX0_wetSteps_0 0 rfl rfl)
theorem dX0_wetSteps_1 : decode cX0_wetSteps 1 = .ok (.istore_n 1, 1) := dk_60 (dk_at dksX0_wetSteps_0 1 rfl rfl)
theorem dX0_wetSteps_2 : decode cX0_wetSteps 2 = .ok (.iconst 0, 1) := dk_3 (dk_at dksX0_wetSteps_0 2 rfl rfl)
theorem dX0_wetSteps_3 : decode cX0_wetSteps 3 = .ok (.istore_n 2, 1) := dk_61 (dk_at dksX0_wetSteps_0 3 rfl rfl)
theorem dX0_wetSteps_4 : decode cX0_wetSteps 4 = .ok (.iload_n 2, 1) := dk_28 (dk_at dksX0_wetSteps_0 4 rfl rfl)
theorem dX0_wetSteps_5 : decode cX0_wetSteps 5 = .ok (.aload_n 0, 1) := dk_42 (dk_at dksX0_wetSteps_0 5 rfl rfl)
theorem dX0_wetSteps_6 : decode cX0_wetSteps 6 = .ok (.getfield 30, 3) := dk_180 0 30 (dk_at dksX0_wetSteps_0 6 rfl rfl)
theorem dX0_wetSteps_9 : decode cX0_wetSteps 9 = .ok (.getfield 61, 3) := dk_180 0 61 (dk_at dksX0_wetSteps_0 9 rfl rfl)
theorem dX0_wetSteps_12 : decode cX0_wetSteps 12 = .ok (.if_icmp .ge 32, 3) := dk_162 0 32 (dk_at dksX0_wetSteps_0 12 rfl rfl)
theorem dX0_wetSteps_15 : decode cX0_wetSteps 15 = .ok (.iload_n 1, 1) := dk_27 (dk_at dksX0_wetSteps_0 15 rfl rfl)
theorem dX0_wetSteps_16 : decode cX0_wetSteps 16 = .ok (.aload_n 0, 1) := dk_42 (dk_at dksX0_wetSteps_0 16 rfl rfl)
theorem dX0_wetSteps_17 : decode cX0_wetSteps 17 = .ok (.getfield 30, 3) := dk_180 0 30 (dk_at dksX0_wetSteps_0 17 rfl rfl)
theorem dX0_wetSteps_20 : decode cX0_wetSteps 20 = .ok (.getfield 147, 3) := dk_180 0 147 (dk_at dksX0_wetSteps_0 20 rfl rfl)
theorem dX0_wetSteps_23 : decode cX0_wetSteps 23 = .ok (.iload_n 2, 1) := dk_28 (dk_at dksX0_wetSteps_0 23 rfl rfl)
theorem dX0_wetSteps_24 : decode cX0_wetSteps 24 = .ok (.aaload, 1) := dk_50 (dk_at dksX0_wetSteps_1 0 rfl rfl)
theorem dX0_wetSteps_25 : decode cX0_wetSteps 25 = .ok (.getfield 221, 3) := dk_180 0 221 (dk_at dksX0_wetSteps_1 1 rfl rfl)
theorem dX0_wetSteps_28 : decode cX0_wetSteps 28 = .ok (.ifCond .eq 7, 3) := dk_153 0 7 (dk_at dksX0_wetSteps_1 4 rfl rfl)
theorem dX0_wetSteps_31 : decode cX0_wetSteps 31 = .ok (.iconst 1, 1) := dk_4 (dk_at dksX0_wetSteps_1 7 rfl rfl)
theorem dX0_wetSteps_32 : decode cX0_wetSteps 32 = .ok (.goto 4, 3) := dk_167 0 4 (dk_at dksX0_wetSteps_1 8 rfl rfl)
theorem dX0_wetSteps_35 : decode cX0_wetSteps 35 = .ok (.iconst 0, 1) := dk_3 (dk_at dksX0_wetSteps_1 11 rfl rfl)
theorem dX0_wetSteps_36 : decode cX0_wetSteps 36 = .ok (.iadd, 1) := dk_96 (dk_at dksX0_wetSteps_1 12 rfl rfl)
theorem dX0_wetSteps_37 : decode cX0_wetSteps 37 = .ok (.istore_n 1, 1) := dk_60 (dk_at dksX0_wetSteps_1 13 rfl rfl)
theorem dX0_wetSteps_38 : decode cX0_wetSteps 38 = .ok (.iinc 2 1, 3) := dk_132 2 1 (dk_at dksX0_wetSteps_1 14 rfl rfl)
theorem dX0_wetSteps_41 : decode cX0_wetSteps 41 = .ok (.goto (-37), 3) := dk_167 255 219 (dk_at dksX0_wetSteps_1 17 rfl rfl)
theorem dX0_wetSteps_44 : decode cX0_wetSteps 44 = .ok (.iload_n 1, 1) := dk_27 (dk_at dksX0_wetSteps_1 20 rfl rfl)
theorem dX0_wetSteps_45 : decode cX0_wetSteps 45 = .ok (.ireturn, 1) := dk_172 (dk_at dksX0_wetSteps_1 21 rfl rfl)
abbrev cX0_tries : ByteArray := prog_1_method_58_code
def yX0_tries : MethodName := ⟨RX0, "tries", "(III[I[I[I)V"⟩
def dkwX0_tries_6 : List UInt8 := [27, 79, 25, 6, 4, 21, 7, 79, 25, 6, 5, 21, 9, 79, 177]
abbrev dktX0_tries_6 : List UInt8 := dkwX0_tries_6 ++ []
def dkwX0_tries_5 : List UInt8 := [162, 0, 7, 4, 167, 0, 4, 3, 54, 10, 21, 9, 2, 159, 0, 25, 21, 10, 153, 0, 20, 25, 6, 3]
abbrev dktX0_tries_5 : List UInt8 := dkwX0_tries_5 ++ dktX0_tries_6
def dkwX0_tries_4 : List UInt8 := [25, 6, 5, 46, 161, 0, 21, 21, 9, 25, 6, 5, 46, 160, 0, 16, 21, 7, 25, 6, 4, 46]
abbrev dktX0_tries_4 : List UInt8 := dkwX0_tries_4 ++ dktX0_tries_5
def dkwX0_tries_3 : List UInt8 := [25, 4, 182, 1, 76, 42, 25, 8, 182, 1, 50, 54, 9, 25, 6, 5, 46, 2, 159, 0, 30, 21, 9]
abbrev dktX0_tries_3 : List UInt8 := dkwX0_tries_3 ++ dktX0_tries_4
def dkwX0_tries_2 : List UInt8 := [154, 0, 9, 21, 7, 29, 164, 0, 4, 177, 42, 180, 0, 30, 182, 0, 202, 58, 8, 42, 25, 8, 27]
abbrev dktX0_tries_2 : List UInt8 := dkwX0_tries_2 ++ dktX0_tries_3
def dkwX0_tries_1 : List UInt8 := [25, 5, 21, 8, 46, 167, 0, 4, 3, 96, 54, 7, 132, 8, 1, 167, 255, 224, 27, 28, 2, 130, 126]
abbrev dktX0_tries_1 : List UInt8 := dkwX0_tries_1 ++ dktX0_tries_2
def dkwX0_tries_0 : List UInt8 := [3, 54, 7, 3, 54, 8, 21, 8, 7, 162, 0, 32, 21, 7, 27, 21, 8, 184, 1, 63, 153, 0, 11]
abbrev dktX0_tries_0 : List UInt8 := dkwX0_tries_0 ++ dktX0_tries_1
theorem dksX0_tries_0 : cX0_tries.data.toList.drop 0 = dktX0_tries_0 := by decide +kernel
theorem dksX0_tries_1 : cX0_tries.data.toList.drop 23 = dktX0_tries_1 := dk_seg dksX0_tries_0 23 rfl rfl
theorem dksX0_tries_2 : cX0_tries.data.toList.drop 46 = dktX0_tries_2 := dk_seg dksX0_tries_1 23 rfl rfl
theorem dksX0_tries_3 : cX0_tries.data.toList.drop 69 = dktX0_tries_3 := dk_seg dksX0_tries_2 23 rfl rfl
theorem dksX0_tries_4 : cX0_tries.data.toList.drop 92 = dktX0_tries_4 := dk_seg dksX0_tries_3 23 rfl rfl
theorem dksX0_tries_5 : cX0_tries.data.toList.drop 114 = dktX0_tries_5 := dk_seg dksX0_tries_4 22 rfl rfl
theorem dksX0_tries_6 : cX0_tries.data.toList.drop 138 = dktX0_tries_6 := dk_seg dksX0_tries_5 24 rfl rfl
theorem dX0_tries_0 : decode cX0_tries 0 = .ok (.iconst 0, 1) := dk_3 (dk_at dksX0_tries_0 0 rfl rfl)
theorem dX0_tries_1 : decode cX0_tries 1 = .ok (.istore 7, 2) := dk_54 7 (dk_at dksX0_tries_0 1 rfl rfl)
theorem dX0_tries_3 : decode cX0_tries 3 = .ok (.iconst 0, 1) := dk_3 (dk_at dksX0_tries_0 3 rfl rfl)
theorem dX0_tries_4 : decode cX0_tries 4 = .ok (.istore 8, 2) := dk_54 8 (dk_at dksX0_tries_0 4 rfl rfl)
theorem dX0_tries_6 : decode cX0_tries 6 = .ok (.iload 8, 2) := dk_21 8 (dk_at dksX0_tries_0 6 rfl rfl)
theorem dX0_tries_8 : decode cX0_tries 8 = .ok (.iconst 4, 1) := dk_7 (dk_at dksX0_tries_0 8 rfl rfl)
theorem dX0_tries_9 : decode cX0_tries 9 = .ok (.if_icmp .ge 32, 3) := dk_162 0 32 (dk_at dksX0_tries_0 9 rfl rfl)
theorem dX0_tries_12 : decode cX0_tries 12 = .ok (.iload 7, 2) := dk_21 7 (dk_at dksX0_tries_0 12 rfl rfl)
theorem dX0_tries_14 : decode cX0_tries 14 = .ok (.iload_n 1, 1) := dk_27 (dk_at dksX0_tries_0 14 rfl rfl)
theorem dX0_tries_15 : decode cX0_tries 15 = .ok (.iload 8, 2) := dk_21 8 (dk_at dksX0_tries_0 15 rfl rfl)
theorem dX0_tries_17 : decode cX0_tries 17 = .ok (.invokestatic 319, 3) := dk_184 1 63 (dk_at dksX0_tries_0 17 rfl rfl)
theorem dX0_tries_20 : decode cX0_tries 20 = .ok (.ifCond .eq 11, 3) := dk_153 0 11 (dk_at dksX0_tries_0 20 rfl rfl)
theorem dX0_tries_23 : decode cX0_tries 23 = .ok (.aload 5, 2) := dk_25 5 (dk_at dksX0_tries_1 0 rfl rfl)
theorem dX0_tries_25 : decode cX0_tries 25 = .ok (.iload 8, 2) := dk_21 8 (dk_at dksX0_tries_1 2 rfl rfl)
theorem dX0_tries_27 : decode cX0_tries 27 = .ok (.iaload, 1) := dk_46 (dk_at dksX0_tries_1 4 rfl rfl)
theorem dX0_tries_28 : decode cX0_tries 28 = .ok (.goto 4, 3) := dk_167 0 4 (dk_at dksX0_tries_1 5 rfl rfl)
theorem dX0_tries_31 : decode cX0_tries 31 = .ok (.iconst 0, 1) := dk_3 (dk_at dksX0_tries_1 8 rfl rfl)
theorem dX0_tries_32 : decode cX0_tries 32 = .ok (.iadd, 1) := dk_96 (dk_at dksX0_tries_1 9 rfl rfl)
theorem dX0_tries_33 : decode cX0_tries 33 = .ok (.istore 7, 2) := dk_54 7 (dk_at dksX0_tries_1 10 rfl rfl)
theorem dX0_tries_35 : decode cX0_tries 35 = .ok (.iinc 8 1, 3) := dk_132 8 1 (dk_at dksX0_tries_1 12 rfl rfl)
theorem dX0_tries_38 : decode cX0_tries 38 = .ok (.goto (-32), 3) := dk_167 255 224 (dk_at dksX0_tries_1 15 rfl rfl)
theorem dX0_tries_41 : decode cX0_tries 41 = .ok (.iload_n 1, 1) := dk_27 (dk_at dksX0_tries_1 18 rfl rfl)
theorem dX0_tries_42 : decode cX0_tries 42 = .ok (.iload_n 2, 1) := dk_28 (dk_at dksX0_tries_1 19 rfl rfl)
theorem dX0_tries_43 : decode cX0_tries 43 = .ok (.iconst (-1), 1) := dk_2 (dk_at dksX0_tries_1 20 rfl rfl)
theorem dX0_tries_44 : decode cX0_tries 44 = .ok (.ixor, 1) := dk_130 (dk_at dksX0_tries_1 21 rfl rfl)
theorem dX0_tries_45 : decode cX0_tries 45 = .ok (.iand, 1) := dk_126 (dk_at dksX0_tries_1 22 rfl rfl)
theorem dX0_tries_46 : decode cX0_tries 46 = .ok (.ifCond .ne 9, 3) := dk_154 0 9 (dk_at dksX0_tries_2 0 rfl rfl)
theorem dX0_tries_49 : decode cX0_tries 49 = .ok (.iload 7, 2) := dk_21 7 (dk_at dksX0_tries_2 3 rfl rfl)
theorem dX0_tries_51 : decode cX0_tries 51 = .ok (.iload_n 3, 1) := dk_29 (dk_at dksX0_tries_2 5 rfl rfl)
theorem dX0_tries_52 : decode cX0_tries 52 = .ok (.if_icmp .le 4, 3) := dk_164 0 4 (dk_at dksX0_tries_2 6 rfl rfl)
theorem dX0_tries_55 : decode cX0_tries 55 = .ok (.return_, 1) := dk_177 (dk_at dksX0_tries_2 9 rfl rfl)
theorem dX0_tries_56 : decode cX0_tries 56 = .ok (.aload_n 0, 1) := dk_42 (dk_at dksX0_tries_2 10 rfl rfl)
theorem dX0_tries_57 : decode cX0_tries 57 = .ok (.getfield 30, 3) := dk_180 0 30 (dk_at dksX0_tries_2 11 rfl rfl)
theorem dX0_tries_60 : decode cX0_tries 60 = .ok (.invokevirtual 202, 3) := dk_182 0 202 (dk_at dksX0_tries_2 14 rfl rfl)
theorem dX0_tries_63 : decode cX0_tries 63 = .ok (.astore 8, 2) := dk_58 8 (dk_at dksX0_tries_2 17 rfl rfl)
theorem dX0_tries_65 : decode cX0_tries 65 = .ok (.aload_n 0, 1) := dk_42 (dk_at dksX0_tries_2 19 rfl rfl)
theorem dX0_tries_66 : decode cX0_tries 66 = .ok (.aload 8, 2) := dk_25 8 (dk_at dksX0_tries_2 20 rfl rfl)
theorem dX0_tries_68 : decode cX0_tries 68 = .ok (.iload_n 1, 1) := dk_27 (dk_at dksX0_tries_2 22 rfl rfl)
theorem dX0_tries_69 : decode cX0_tries 69 = .ok (.aload 4, 2) := dk_25 4 (dk_at dksX0_tries_3 0 rfl rfl)
theorem dX0_tries_71 : decode cX0_tries 71 = .ok (.invokevirtual 332, 3) := dk_182 1 76 (dk_at dksX0_tries_3 2 rfl rfl)
theorem dX0_tries_74 : decode cX0_tries 74 = .ok (.aload_n 0, 1) := dk_42 (dk_at dksX0_tries_3 5 rfl rfl)
theorem dX0_tries_75 : decode cX0_tries 75 = .ok (.aload 8, 2) := dk_25 8 (dk_at dksX0_tries_3 6 rfl rfl)
theorem dX0_tries_77 : decode cX0_tries 77 = .ok (.invokevirtual 306, 3) := dk_182 1 50 (dk_at dksX0_tries_3 8 rfl rfl)
theorem dX0_tries_80 : decode cX0_tries 80 = .ok (.istore 9, 2) := dk_54 9 (dk_at dksX0_tries_3 11 rfl rfl)
theorem dX0_tries_82 : decode cX0_tries 82 = .ok (.aload 6, 2) := dk_25 6 (dk_at dksX0_tries_3 13 rfl rfl)
theorem dX0_tries_84 : decode cX0_tries 84 = .ok (.iconst 2, 1) := dk_5 (dk_at dksX0_tries_3 15 rfl rfl)
theorem dX0_tries_85 : decode cX0_tries 85 = .ok (.iaload, 1) := dk_46 (dk_at dksX0_tries_3 16 rfl rfl)
theorem dX0_tries_86 : decode cX0_tries 86 = .ok (.iconst (-1), 1) := dk_2 (dk_at dksX0_tries_3 17 rfl rfl)
theorem dX0_tries_87 : decode cX0_tries 87 = .ok (.if_icmp .eq 30, 3) := dk_159 0 30 (dk_at dksX0_tries_3 18 rfl rfl)
theorem dX0_tries_90 : decode cX0_tries 90 = .ok (.iload 9, 2) := dk_21 9 (dk_at dksX0_tries_3 21 rfl rfl)
theorem dX0_tries_92 : decode cX0_tries 92 = .ok (.aload 6, 2) := dk_25 6 (dk_at dksX0_tries_4 0 rfl rfl)
theorem dX0_tries_94 : decode cX0_tries 94 = .ok (.iconst 2, 1) := dk_5 (dk_at dksX0_tries_4 2 rfl rfl)
theorem dX0_tries_95 : decode cX0_tries 95 = .ok (.iaload, 1) := dk_46 (dk_at dksX0_tries_4 3 rfl rfl)
theorem dX0_tries_96 : decode cX0_tries 96 = .ok (.if_icmp .lt 21, 3) := dk_161 0 21 (dk_at dksX0_tries_4 4 rfl rfl)
theorem dX0_tries_99 : decode cX0_tries 99 = .ok (.iload 9, 2) := dk_21 9 (dk_at dksX0_tries_4 7 rfl rfl)
theorem dX0_tries_101 : decode cX0_tries 101 = .ok (.aload 6, 2) := dk_25 6 (dk_at dksX0_tries_4 9 rfl rfl)
theorem dX0_tries_103 : decode cX0_tries 103 = .ok (.iconst 2, 1) := dk_5 (dk_at dksX0_tries_4 11 rfl rfl)
theorem dX0_tries_104 : decode cX0_tries 104 = .ok (.iaload, 1) := dk_46 (dk_at dksX0_tries_4 12 rfl rfl)
theorem dX0_tries_105 : decode cX0_tries 105 = .ok (.if_icmp .ne 16, 3) := dk_160 0 16 (dk_at dksX0_tries_4 13 rfl rfl)
theorem dX0_tries_108 : decode cX0_tries 108 = .ok (.iload 7, 2) := dk_21 7 (dk_at dksX0_tries_4 16 rfl rfl)
theorem dX0_tries_110 : decode cX0_tries 110 = .ok (.aload 6, 2) := dk_25 6 (dk_at dksX0_tries_4 18 rfl rfl)
theorem dX0_tries_112 : decode cX0_tries 112 = .ok (.iconst 1, 1) := dk_4 (dk_at dksX0_tries_4 20 rfl rfl)
theorem dX0_tries_113 : decode cX0_tries 113 = .ok (.iaload, 1) := dk_46 (dk_at dksX0_tries_4 21 rfl rfl)
theorem dX0_tries_114 : decode cX0_tries 114 = .ok (.if_icmp .ge 7, 3) := dk_162 0 7 (dk_at dksX0_tries_5 0 rfl rfl)
theorem dX0_tries_117 : decode cX0_tries 117 = .ok (.iconst 1, 1) := dk_4 (dk_at dksX0_tries_5 3 rfl rfl)
theorem dX0_tries_118 : decode cX0_tries 118 = .ok (.goto 4, 3) := dk_167 0 4 (dk_at dksX0_tries_5 4 rfl rfl)
theorem dX0_tries_121 : decode cX0_tries 121 = .ok (.iconst 0, 1) := dk_3 (dk_at dksX0_tries_5 7 rfl rfl)
theorem dX0_tries_122 : decode cX0_tries 122 = .ok (.istore 10, 2) := dk_54 10 (dk_at dksX0_tries_5 8 rfl rfl)
theorem dX0_tries_124 : decode cX0_tries 124 = .ok (.iload 9, 2) := dk_21 9 (dk_at dksX0_tries_5 10 rfl rfl)
theorem dX0_tries_126 : decode cX0_tries 126 = .ok (.iconst (-1), 1) := dk_2 (dk_at dksX0_tries_5 12 rfl rfl)
theorem dX0_tries_127 : decode cX0_tries 127 = .ok (.if_icmp .eq 25, 3) := dk_159 0 25 (dk_at dksX0_tries_5 13 rfl rfl)
theorem dX0_tries_130 : decode cX0_tries 130 = .ok (.iload 10, 2) := dk_21 10 (dk_at dksX0_tries_5 16 rfl rfl)
theorem dX0_tries_132 : decode cX0_tries 132 = .ok (.ifCond .eq 20, 3) := dk_153 0 20 (dk_at dksX0_tries_5 18 rfl rfl)
theorem dX0_tries_135 : decode cX0_tries 135 = .ok (.aload 6, 2) := dk_25 6 (dk_at dksX0_tries_5 21 rfl rfl)
theorem dX0_tries_137 : decode cX0_tries 137 = .ok (.iconst 0, 1) := dk_3 (dk_at dksX0_tries_5 23 rfl rfl)
theorem dX0_tries_138 : decode cX0_tries 138 = .ok (.iload_n 1, 1) := dk_27 (dk_at dksX0_tries_6 0 rfl rfl)
theorem dX0_tries_139 : decode cX0_tries 139 = .ok (.iastore, 1) := dk_79 (dk_at dksX0_tries_6 1 rfl rfl)
theorem dX0_tries_140 : decode cX0_tries 140 = .ok (.aload 6, 2) := dk_25 6 (dk_at dksX0_tries_6 2 rfl rfl)
theorem dX0_tries_142 : decode cX0_tries 142 = .ok (.iconst 1, 1) := dk_4 (dk_at dksX0_tries_6 4 rfl rfl)
theorem dX0_tries_143 : decode cX0_tries 143 = .ok (.iload 7, 2) := dk_21 7 (dk_at dksX0_tries_6 5 rfl rfl)
theorem dX0_tries_145 : decode cX0_tries 145 = .ok (.iastore, 1) := dk_79 (dk_at dksX0_tries_6 7 rfl rfl)
theorem dX0_tries_146 : decode cX0_tries 146 = .ok (.aload 6, 2) := dk_25 6 (dk_at dksX0_tries_6 8 rfl rfl)
theorem dX0_tries_148 : decode cX0_tries 148 = .ok (.iconst 2, 1) := dk_5 (dk_at dksX0_tries_6 10 rfl rfl)
theorem dX0_tries_149 : decode cX0_tries 149 = .ok (.iload 9, 2) := dk_21 9 (dk_at dksX0_tries_6 11 rfl rfl)
theorem dX0_tries_151 : decode cX0_tries 151 = .ok (.iastore, 1) := dk_79 (dk_at dksX0_tries_6 13 rfl rfl)
theorem dX0_tries_152 : decode cX0_tries 152 = .ok (.return_, 1) := dk_177 (dk_at dksX0_tries_6 14 rfl rfl)
abbrev cX0_has : ByteArray := prog_1_method_2_code
def yX0_has : MethodName := ⟨RX0, "has", "(II)Z"⟩
def dkwX0_has_0 : List UInt8 := [26, 27, 122, 4, 126, 4, 160, 0, 7, 4, 167, 0, 4, 3, 172]
abbrev dktX0_has_0 : List UInt8 := dkwX0_has_0 ++ []
theorem dksX0_has_0 : cX0_has.data.toList.drop 0 = dktX0_has_0 := by decide +kernel
theorem dX0_has_0 : decode cX0_has 0 = .ok (.iload_n 0, 1) := dk_26 (dk_at dksX0_has_0 0 rfl rfl)
theorem dX0_has_1 : decode cX0_has 1 = .ok (.iload_n 1, 1) := dk_27 (dk_at dksX0_has_0 1 rfl rfl)
theorem dX0_has_2 : decode cX0_has 2 = .ok (.ishr, 1) := dk_122 (dk_at dksX0_has_0 2 rfl rfl)
theorem dX0_has_3 : decode cX0_has 3 = .ok (.iconst 1, 1) := dk_4 (dk_at dksX0_has_0 3 rfl rfl)
theorem dX0_has_4 : decode cX0_has 4 = .ok (.iand, 1) := dk_126 (dk_at dksX0_has_0 4 rfl rfl)
theorem dX0_has_5 : decode cX0_has 5 = .ok (.iconst 1, 1) := dk_4 (dk_at dksX0_has_0 5 rfl rfl)
theorem dX0_has_6 : decode cX0_has 6 = .ok (.if_icmp .ne 7, 3) := dk_160 0 7 (dk_at dksX0_has_0 6 rfl rfl)
theorem dX0_has_9 : decode cX0_has 9 = .ok (.iconst 1, 1) := dk_4 (dk_at dksX0_has_0 9 rfl rfl)
theorem dX0_has_10 : decode cX0_has 10 = .ok (.goto 4, 3) := dk_167 0 4 (dk_at dksX0_has_0 10 rfl rfl)
theorem dX0_has_13 : decode cX0_has 13 = .ok (.iconst 0, 1) := dk_3 (dk_at dksX0_has_0 13 rfl rfl)
theorem dX0_has_14 : decode cX0_has 14 = .ok (.ireturn, 1) := dk_172 (dk_at dksX0_has_0 14 rfl rfl)
abbrev cX0_does : ByteArray := prog_1_method_55_code
def yX0_does : MethodName := ⟨RX0, "does", "(LStairOnSticks$Stair;I[I)V"⟩
def dkwX0_does_3 : List UInt8 := [132, 4, 1, 167, 255, 225, 177]
abbrev dktX0_does_3 : List UInt8 := dkwX0_does_3 ++ []
def dkwX0_does_2 : List UInt8 := [162, 0, 28, 28, 6, 184, 1, 63, 153, 0, 20, 43, 180, 0, 147, 21, 4, 50, 6, 182, 1, 47]
abbrev dktX0_does_2 : List UInt8 := dkwX0_does_2 ++ dktX0_does_3
def dkwX0_does_1 : List UInt8 := [21, 4, 46, 50, 21, 4, 182, 1, 47, 132, 4, 1, 167, 255, 224, 3, 54, 4, 21, 4, 43, 180, 0, 61]
abbrev dktX0_does_1 : List UInt8 := dkwX0_does_1 ++ dktX0_does_2
def dkwX0_does_0 : List UInt8 := [3, 54, 4, 21, 4, 6, 162, 0, 32, 28, 21, 4, 184, 1, 63, 153, 0, 17, 43, 180, 0, 147, 45]
abbrev dktX0_does_0 : List UInt8 := dkwX0_does_0 ++ dktX0_does_1
theorem dksX0_does_0 : cX0_does.data.toList.drop 0 = dktX0_does_0 := by decide +kernel
theorem dksX0_does_1 : cX0_does.data.toList.drop 23 = dktX0_does_1 := dk_seg dksX0_does_0 23 rfl rfl
theorem dksX0_does_2 : cX0_does.data.toList.drop 47 = dktX0_does_2 := dk_seg dksX0_does_1 24 rfl rfl
theorem dksX0_does_3 : cX0_does.data.toList.drop 69 = dktX0_does_3 := dk_seg dksX0_does_2 22 rfl rfl
theorem dX0_does_0 : decode cX0_does 0 = .ok (.iconst 0, 1) := dk_3 (dk_at dksX0_does_0 0 rfl rfl)
theorem dX0_does_1 : decode cX0_does 1 = .ok (.istore 4, 2) := dk_54 4 (dk_at dksX0_does_0 1 rfl rfl)
theorem dX0_does_3 : decode cX0_does 3 = .ok (.iload 4, 2) := dk_21 4 (dk_at dksX0_does_0 3 rfl rfl)
theorem dX0_does_5 : decode cX0_does 5 = .ok (.iconst 3, 1) := dk_6 (dk_at dksX0_does_0 5 rfl rfl)
theorem dX0_does_6 : decode cX0_does 6 = .ok (.if_icmp .ge 32, 3) := dk_162 0 32 (dk_at dksX0_does_0 6 rfl rfl)
theorem dX0_does_9 : decode cX0_does 9 = .ok (.iload_n 2, 1) := dk_28 (dk_at dksX0_does_0 9 rfl rfl)
theorem dX0_does_10 : decode cX0_does 10 = .ok (.iload 4, 2) := dk_21 4 (dk_at dksX0_does_0 10 rfl rfl)
theorem dX0_does_12 : decode cX0_does 12 = .ok (.invokestatic 319, 3) := dk_184 1 63 (dk_at dksX0_does_0 12 rfl rfl)
theorem dX0_does_15 : decode cX0_does 15 = .ok (.ifCond .eq 17, 3) := dk_153 0 17 (dk_at dksX0_does_0 15 rfl rfl)
theorem dX0_does_18 : decode cX0_does 18 = .ok (.aload_n 1, 1) := dk_43 (dk_at dksX0_does_0 18 rfl rfl)
theorem dX0_does_19 : decode cX0_does 19 = .ok (.getfield 147, 3) := dk_180 0 147 (dk_at dksX0_does_0 19 rfl rfl)
theorem dX0_does_22 : decode cX0_does 22 = .ok (.aload_n 3, 1) := dk_45 (dk_at dksX0_does_0 22 rfl rfl)
theorem dX0_does_23 : decode cX0_does 23 = .ok (.iload 4, 2) := dk_21 4 (dk_at dksX0_does_1 0 rfl rfl)
theorem dX0_does_25 : decode cX0_does 25 = .ok (.iaload, 1) := dk_46 (dk_at dksX0_does_1 2 rfl rfl)
theorem dX0_does_26 : decode cX0_does 26 = .ok (.aaload, 1) := dk_50 (dk_at dksX0_does_1 3 rfl rfl)
theorem dX0_does_27 : decode cX0_does 27 = .ok (.iload 4, 2) := dk_21 4 (dk_at dksX0_does_1 4 rfl rfl)
theorem dX0_does_29 : decode cX0_does 29 = .ok (.invokevirtual 303, 3) := dk_182 1 47 (dk_at dksX0_does_1 6 rfl rfl)
theorem dX0_does_32 : decode cX0_does 32 = .ok (.iinc 4 1, 3) := dk_132 4 1 (dk_at dksX0_does_1 9 rfl rfl)
theorem dX0_does_35 : decode cX0_does 35 = .ok (.goto (-32), 3) := dk_167 255 224 (dk_at dksX0_does_1 12 rfl rfl)
theorem dX0_does_38 : decode cX0_does 38 = .ok (.iconst 0, 1) := dk_3 (dk_at dksX0_does_1 15 rfl rfl)
theorem dX0_does_39 : decode cX0_does 39 = .ok (.istore 4, 2) := dk_54 4 (dk_at dksX0_does_1 16 rfl rfl)
theorem dX0_does_41 : decode cX0_does 41 = .ok (.iload 4, 2) := dk_21 4 (dk_at dksX0_does_1 18 rfl rfl)
theorem dX0_does_43 : decode cX0_does 43 = .ok (.aload_n 1, 1) := dk_43 (dk_at dksX0_does_1 20 rfl rfl)
theorem dX0_does_44 : decode cX0_does 44 = .ok (.getfield 61, 3) := dk_180 0 61 (dk_at dksX0_does_1 21 rfl rfl)
theorem dX0_does_47 : decode cX0_does 47 = .ok (.if_icmp .ge 28, 3) := dk_162 0 28 (dk_at dksX0_does_2 0 rfl rfl)
theorem dX0_does_50 : decode cX0_does 50 = .ok (.iload_n 2, 1) := dk_28 (dk_at dksX0_does_2 3 rfl rfl)
theorem dX0_does_51 : decode cX0_does 51 = .ok (.iconst 3, 1) := dk_6 (dk_at dksX0_does_2 4 rfl rfl)
theorem dX0_does_52 : decode cX0_does 52 = .ok (.invokestatic 319, 3) := dk_184 1 63 (dk_at dksX0_does_2 5 rfl rfl)
theorem dX0_does_55 : decode cX0_does 55 = .ok (.ifCond .eq 20, 3) := dk_153 0 20 (dk_at dksX0_does_2 8 rfl rfl)
theorem dX0_does_58 : decode cX0_does 58 = .ok (.aload_n 1, 1) := dk_43 (dk_at dksX0_does_2 11 rfl rfl)
theorem dX0_does_59 : decode cX0_does 59 = .ok (.getfield 147, 3) := dk_180 0 147 (dk_at dksX0_does_2 12 rfl rfl)
theorem dX0_does_62 : decode cX0_does 62 = .ok (.iload 4, 2) := dk_21 4 (dk_at dksX0_does_2 15 rfl rfl)
theorem dX0_does_64 : decode cX0_does 64 = .ok (.aaload, 1) := dk_50 (dk_at dksX0_does_2 17 rfl rfl)
theorem dX0_does_65 : decode cX0_does 65 = .ok (.iconst 3, 1) := dk_6 (dk_at dksX0_does_2 18 rfl rfl)
theorem dX0_does_66 : decode cX0_does 66 = .ok (.invokevirtual 303, 3) := dk_182 1 47 (dk_at dksX0_does_2 19 rfl rfl)
theorem dX0_does_69 : decode cX0_does 69 = .ok (.iinc 4 1, 3) := dk_132 4 1 (dk_at dksX0_does_3 0 rfl rfl)
theorem dX0_does_72 : decode cX0_does 72 = .ok (.goto (-31), 3) := dk_167 255 225 (dk_at dksX0_does_3 3 rfl rfl)
theorem dX0_does_75 : decode cX0_does 75 = .ok (.return_, 1) := dk_177 (dk_at dksX0_does_3 6 rfl rfl)
abbrev cX0_done : ByteArray := prog_1_method_59_code
def yX0_done : MethodName := ⟨RX0, "done", "(II)I"⟩
def dkwX0_done_2 : List UInt8 := [182, 1, 47, 29, 153, 0, 7, 3, 167, 0, 4, 4, 172]
abbrev dktX0_done_2 : List UInt8 := dkwX0_done_2 ++ []
def dkwX0_done_1 : List UInt8 := [180, 0, 30, 180, 0, 147, 28, 50, 27, 182, 1, 79, 62, 42, 180, 0, 30, 180, 0, 147, 28, 50, 27]
abbrev dktX0_done_1 : List UInt8 := dkwX0_done_1 ++ dktX0_done_2
def dkwX0_done_0 : List UInt8 := [27, 184, 1, 54, 153, 0, 11, 42, 28, 182, 0, 184, 154, 0, 10, 42, 16, 254, 182, 0, 85, 172, 42]
abbrev dktX0_done_0 : List UInt8 := dkwX0_done_0 ++ dktX0_done_1
theorem dksX0_done_0 : cX0_done.data.toList.drop 0 = dktX0_done_0 := by decide +kernel
theorem dksX0_done_1 : cX0_done.data.toList.drop 23 = dktX0_done_1 := dk_seg dksX0_done_0 23 rfl rfl
theorem dksX0_done_2 : cX0_done.data.toList.drop 46 = dktX0_done_2 := dk_seg dksX0_done_1 23 rfl rfl
theorem dX0_done_0 : decode cX0_done 0 = .ok (.iload_n 1, 1) := dk_27 (dk_at dksX0_done_0 0 rfl rfl)
theorem dX0_done_1 : decode cX0_done 1 = .ok (.invokestatic 310, 3) := dk_184 1 54 (dk_at dksX0_done_0 1 rfl rfl)
theorem dX0_done_4 : decode cX0_done 4 = .ok (.ifCond .eq 11, 3) := dk_153 0 11 (dk_at dksX0_done_0 4 rfl rfl)
theorem dX0_done_7 : decode cX0_done 7 = .ok (.aload_n 0, 1) := dk_42 (dk_at dksX0_done_0 7 rfl rfl)
theorem dX0_done_8 : decode cX0_done 8 = .ok (.iload_n 2, 1) := dk_28 (dk_at dksX0_done_0 8 rfl rfl)
theorem dX0_done_9 : decode cX0_done 9 = .ok (.invokevirtual 184, 3) := dk_182 0 184 (dk_at dksX0_done_0 9 rfl rfl)
theorem dX0_done_12 : decode cX0_done 12 = .ok (.ifCond .ne 10, 3) := dk_154 0 10 (dk_at dksX0_done_0 12 rfl rfl)
theorem dX0_done_15 : decode cX0_done 15 = .ok (.aload_n 0, 1) := dk_42 (dk_at dksX0_done_0 15 rfl rfl)
theorem dX0_done_16 : decode cX0_done 16 = .ok (.bipush (-2), 2) := dk_16 254 (dk_at dksX0_done_0 16 rfl rfl)
theorem dX0_done_18 : decode cX0_done 18 = .ok (.invokevirtual 85, 3) := dk_182 0 85 (dk_at dksX0_done_0 18 rfl rfl)
theorem dX0_done_21 : decode cX0_done 21 = .ok (.ireturn, 1) := dk_172 (dk_at dksX0_done_0 21 rfl rfl)
theorem dX0_done_22 : decode cX0_done 22 = .ok (.aload_n 0, 1) := dk_42 (dk_at dksX0_done_0 22 rfl rfl)
theorem dX0_done_23 : decode cX0_done 23 = .ok (.getfield 30, 3) := dk_180 0 30 (dk_at dksX0_done_1 0 rfl rfl)
theorem dX0_done_26 : decode cX0_done 26 = .ok (.getfield 147, 3) := dk_180 0 147 (dk_at dksX0_done_1 3 rfl rfl)
theorem dX0_done_29 : decode cX0_done 29 = .ok (.iload_n 2, 1) := dk_28 (dk_at dksX0_done_1 6 rfl rfl)
theorem dX0_done_30 : decode cX0_done 30 = .ok (.aaload, 1) := dk_50 (dk_at dksX0_done_1 7 rfl rfl)
theorem dX0_done_31 : decode cX0_done 31 = .ok (.iload_n 1, 1) := dk_27 (dk_at dksX0_done_1 8 rfl rfl)
theorem dX0_done_32 : decode cX0_done 32 = .ok (.invokevirtual 335, 3) := dk_182 1 79 (dk_at dksX0_done_1 9 rfl rfl)
theorem dX0_done_35 : decode cX0_done 35 = .ok (.istore_n 3, 1) := dk_62 (dk_at dksX0_done_1 12 rfl rfl)
theorem dX0_done_36 : decode cX0_done 36 = .ok (.aload_n 0, 1) := dk_42 (dk_at dksX0_done_1 13 rfl rfl)
theorem dX0_done_37 : decode cX0_done 37 = .ok (.getfield 30, 3) := dk_180 0 30 (dk_at dksX0_done_1 14 rfl rfl)
theorem dX0_done_40 : decode cX0_done 40 = .ok (.getfield 147, 3) := dk_180 0 147 (dk_at dksX0_done_1 17 rfl rfl)
theorem dX0_done_43 : decode cX0_done 43 = .ok (.iload_n 2, 1) := dk_28 (dk_at dksX0_done_1 20 rfl rfl)
theorem dX0_done_44 : decode cX0_done 44 = .ok (.aaload, 1) := dk_50 (dk_at dksX0_done_1 21 rfl rfl)
theorem dX0_done_45 : decode cX0_done 45 = .ok (.iload_n 1, 1) := dk_27 (dk_at dksX0_done_1 22 rfl rfl)
theorem dX0_done_46 : decode cX0_done 46 = .ok (.invokevirtual 303, 3) := dk_182 1 47 (dk_at dksX0_done_2 0 rfl rfl)
theorem dX0_done_49 : decode cX0_done 49 = .ok (.iload_n 3, 1) := dk_29 (dk_at dksX0_done_2 3 rfl rfl)
theorem dX0_done_50 : decode cX0_done 50 = .ok (.ifCond .eq 7, 3) := dk_153 0 7 (dk_at dksX0_done_2 4 rfl rfl)
theorem dX0_done_53 : decode cX0_done 53 = .ok (.iconst 0, 1) := dk_3 (dk_at dksX0_done_2 7 rfl rfl)
theorem dX0_done_54 : decode cX0_done 54 = .ok (.goto 4, 3) := dk_167 0 4 (dk_at dksX0_done_2 8 rfl rfl)
theorem dX0_done_57 : decode cX0_done 57 = .ok (.iconst 1, 1) := dk_4 (dk_at dksX0_done_2 11 rfl rfl)
theorem dX0_done_58 : decode cX0_done 58 = .ok (.ireturn, 1) := dk_172 (dk_at dksX0_done_2 12 rfl rfl)
abbrev cX0_goings : ByteArray := prog_1_method_61_code
def yX0_goings : MethodName := ⟨RX0, "goings", "(IIII)I"⟩
def dkwX0_goings_6 : List UInt8 := [167, 255, 222, 132, 6, 1, 167, 255, 206, 21, 6, 172, 58, 5, 42, 25, 5, 180, 0, 112, 182, 0, 85, 172]
abbrev dktX0_goings_6 : List UInt8 := dkwX0_goings_6 ++ []
def dkwX0_goings_5 : List UInt8 := [96, 162, 0, 25, 25, 5, 21, 7, 46, 25, 5, 21, 8, 46, 21, 4, 96, 163, 0, 9, 132, 7, 1]
abbrev dktX0_goings_5 : List UInt8 := dkwX0_goings_5 ++ dktX0_goings_6
def dkwX0_goings_4 : List UInt8 := [3, 54, 7, 21, 7, 28, 162, 0, 50, 21, 7, 54, 8, 21, 7, 28, 162, 0, 34, 21, 7, 21, 8, 29]
abbrev dktX0_goings_4 : List UInt8 := dkwX0_goings_4 ++ dktX0_goings_5
def dkwX0_goings_3 : List UInt8 := [21, 6, 4, 100, 46, 162, 0, 10, 42, 16, 251, 182, 0, 85, 172, 132, 6, 1, 167, 255, 225, 3, 54, 6]
abbrev dktX0_goings_3 : List UInt8 := dkwX0_goings_3 ++ dktX0_goings_4
def dkwX0_goings_2 : List UInt8 := [16, 23, 182, 1, 82, 58, 5, 4, 54, 6, 21, 6, 28, 162, 0, 31, 25, 5, 21, 6, 46, 25, 5]
abbrev dktX0_goings_2 : List UInt8 := dkwX0_goings_2 ++ dktX0_goings_3
def dkwX0_goings_1 : List UInt8 := [153, 0, 14, 21, 4, 3, 16, 9, 184, 0, 57, 154, 0, 10, 42, 16, 254, 182, 0, 85, 172, 42, 27, 28]
abbrev dktX0_goings_1 : List UInt8 := dkwX0_goings_1 ++ dktX0_goings_2
def dkwX0_goings_0 : List UInt8 := [27, 184, 0, 81, 153, 0, 34, 28, 3, 16, 12, 184, 0, 57, 153, 0, 24, 29, 4, 16, 9, 184, 0, 57]
abbrev dktX0_goings_0 : List UInt8 := dkwX0_goings_0 ++ dktX0_goings_1
theorem dksX0_goings_0 : cX0_goings.data.toList.drop 0 = dktX0_goings_0 := by decide +kernel
theorem dksX0_goings_1 : cX0_goings.data.toList.drop 24 = dktX0_goings_1 := dk_seg dksX0_goings_0 24 rfl rfl
theorem dksX0_goings_2 : cX0_goings.data.toList.drop 48 = dktX0_goings_2 := dk_seg dksX0_goings_1 24 rfl rfl
theorem dksX0_goings_3 : cX0_goings.data.toList.drop 71 = dktX0_goings_3 := dk_seg dksX0_goings_2 23 rfl rfl
theorem dksX0_goings_4 : cX0_goings.data.toList.drop 95 = dktX0_goings_4 := dk_seg dksX0_goings_3 24 rfl rfl
theorem dksX0_goings_5 : cX0_goings.data.toList.drop 119 = dktX0_goings_5 := dk_seg dksX0_goings_4 24 rfl rfl
theorem dksX0_goings_6 : cX0_goings.data.toList.drop 142 = dktX0_goings_6 := dk_seg dksX0_goings_5 23 rfl rfl
theorem dX0_goings_0 : decode cX0_goings 0 = .ok (.iload_n 1, 1) := dk_27 (dk_at dksX0_goings_0 0 rfl rfl)
theorem dX0_goings_1 : decode cX0_goings 1 = .ok (.invokestatic 81, 3) := dk_184 0 81 (dk_at dksX0_goings_0 1 rfl rfl)
theorem dX0_goings_4 : decode cX0_goings 4 = .ok (.ifCond .eq 34, 3) := dk_153 0 34 (dk_at dksX0_goings_0 4 rfl rfl)
theorem dX0_goings_7 : decode cX0_goings 7 = .ok (.iload_n 2, 1) := dk_28 (dk_at dksX0_goings_0 7 rfl rfl)
theorem dX0_goings_8 : decode cX0_goings 8 = .ok (.iconst 0, 1) := dk_3 (dk_at dksX0_goings_0 8 rfl rfl)
theorem dX0_goings_9 : decode cX0_goings 9 = .ok (.bipush 12, 2) := dk_16 12 (dk_at dksX0_goings_0 9 rfl rfl)
theorem dX0_goings_11 : decode cX0_goings 11 = .ok (.invokestatic 57, 3) := dk_184 0 57 (dk_at dksX0_goings_0 11 rfl rfl)
theorem dX0_goings_14 : decode cX0_goings 14 = .ok (.ifCond .eq 24, 3) := dk_153 0 24 (dk_at dksX0_goings_0 14 rfl rfl)
theorem dX0_goings_17 : decode cX0_goings 17 = .ok (.iload_n 3, 1) := dk_29 (dk_at dksX0_goings_0 17 rfl rfl)
theorem dX0_goings_18 : decode cX0_goings 18 = .ok (.iconst 1, 1) := dk_4 (dk_at dksX0_goings_0 18 rfl rfl)
theorem dX0_goings_19 : decode cX0_goings 19 = .ok (.bipush 9, 2) := dk_16 9 (dk_at dksX0_goings_0 19 rfl rfl)
theorem dX0_goings_21 : decode cX0_goings 21 = .ok (.invokestatic 57, 3) := dk_184 0 57 (dk_at dksX0_goings_0 21 rfl rfl)
theorem dX0_goings_24 : decode cX0_goings 24 = .ok (.ifCond .eq 14, 3) := dk_153 0 14 (dk_at dksX0_goings_1 0 rfl rfl)
theorem dX0_goings_27 : decode cX0_goings 27 = .ok (.iload 4, 2) := dk_21 4 (dk_at dksX0_goings_1 3 rfl rfl)
theorem dX0_goings_29 : decode cX0_goings 29 = .ok (.iconst 0, 1) := dk_3 (dk_at dksX0_goings_1 5 rfl rfl)
theorem dX0_goings_30 : decode cX0_goings 30 = .ok (.bipush 9, 2) := dk_16 9 (dk_at dksX0_goings_1 6 rfl rfl)
theorem dX0_goings_32 : decode cX0_goings 32 = .ok (.invokestatic 57, 3) := dk_184 0 57 (dk_at dksX0_goings_1 8 rfl rfl)
theorem dX0_goings_35 : decode cX0_goings 35 = .ok (.ifCond .ne 10, 3) := dk_154 0 10 (dk_at dksX0_goings_1 11 rfl rfl)
theorem dX0_goings_38 : decode cX0_goings 38 = .ok (.aload_n 0, 1) := dk_42 (dk_at dksX0_goings_1 14 rfl rfl)
theorem dX0_goings_39 : decode cX0_goings 39 = .ok (.bipush (-2), 2) := dk_16 254 (dk_at dksX0_goings_1 15 rfl rfl)
theorem dX0_goings_41 : decode cX0_goings 41 = .ok (.invokevirtual 85, 3) := dk_182 0 85 (dk_at dksX0_goings_1 17 rfl rfl)
theorem dX0_goings_44 : decode cX0_goings 44 = .ok (.ireturn, 1) := dk_172 (dk_at dksX0_goings_1 20 rfl rfl)
theorem dX0_goings_45 : decode cX0_goings 45 = .ok (.aload_n 0, 1) := dk_42 (dk_at dksX0_goings_1 21 rfl rfl)
theorem dX0_goings_46 : decode cX0_goings 46 = .ok (.iload_n 1, 1) := dk_27 (dk_at dksX0_goings_1 22 rfl rfl)
theorem dX0_goings_47 : decode cX0_goings 47 = .ok (.iload_n 2, 1) := dk_28 (dk_at dksX0_goings_1 23 rfl rfl)
theorem dX0_goings_48 : decode cX0_goings 48 = .ok (.bipush 23, 2) := dk_16 23 (dk_at dksX0_goings_2 0 rfl rfl)
theorem dX0_goings_50 : decode cX0_goings 50 = .ok (.invokevirtual 338, 3) := dk_182 1 82 (dk_at dksX0_goings_2 2 rfl rfl)
theorem dX0_goings_53 : decode cX0_goings 53 = .ok (.astore 5, 2) := dk_58 5 (dk_at dksX0_goings_2 5 rfl rfl)
theorem dX0_goings_55 : decode cX0_goings 55 = .ok (.iconst 1, 1) := dk_4 (dk_at dksX0_goings_2 7 rfl rfl)
theorem dX0_goings_56 : decode cX0_goings 56 = .ok (.istore 6, 2) := dk_54 6 (dk_at dksX0_goings_2 8 rfl rfl)
theorem dX0_goings_58 : decode cX0_goings 58 = .ok (.iload 6, 2) := dk_21 6 (dk_at dksX0_goings_2 10 rfl rfl)
theorem dX0_goings_60 : decode cX0_goings 60 = .ok (.iload_n 2, 1) := dk_28 (dk_at dksX0_goings_2 12 rfl rfl)
theorem dX0_goings_61 : decode cX0_goings 61 = .ok (.if_icmp .ge 31, 3) := dk_162 0 31 (dk_at dksX0_goings_2 13 rfl rfl)
theorem dX0_goings_64 : decode cX0_goings 64 = .ok (.aload 5, 2) := dk_25 5 (dk_at dksX0_goings_2 16 rfl rfl)
theorem dX0_goings_66 : decode cX0_goings 66 = .ok (.iload 6, 2) := dk_21 6 (dk_at dksX0_goings_2 18 rfl rfl)
theorem dX0_goings_68 : decode cX0_goings 68 = .ok (.iaload, 1) := dk_46 (dk_at dksX0_goings_2 20 rfl rfl)
theorem dX0_goings_69 : decode cX0_goings 69 = .ok (.aload 5, 2) := dk_25 5 (dk_at dksX0_goings_2 21 rfl rfl)
theorem dX0_goings_71 : decode cX0_goings 71 = .ok (.iload 6, 2) := dk_21 6 (dk_at dksX0_goings_3 0 rfl rfl)
theorem dX0_goings_73 : decode cX0_goings 73 = .ok (.iconst 1, 1) := dk_4 (dk_at dksX0_goings_3 2 rfl rfl)
theorem dX0_goings_74 : decode cX0_goings 74 = .ok (.isub, 1) := dk_100 (dk_at dksX0_goings_3 3 rfl rfl)
theorem dX0_goings_75 : decode cX0_goings 75 = .ok (.iaload, 1) := dk_46 (dk_at dksX0_goings_3 4 rfl rfl)
theorem dX0_goings_76 : decode cX0_goings 76 = .ok (.if_icmp .ge 10, 3) := dk_162 0 10 (dk_at dksX0_goings_3 5 rfl rfl)
theorem dX0_goings_79 : decode cX0_goings 79 = .ok (.aload_n 0, 1) := dk_42 (dk_at dksX0_goings_3 8 rfl rfl)
theorem dX0_goings_80 : decode cX0_goings 80 = .ok (.bipush (-5), 2) := dk_16 251 (dk_at dksX0_goings_3 9 rfl rfl)
theorem dX0_goings_82 : decode cX0_goings 82 = .ok (.invokevirtual 85, 3) := dk_182 0 85 (dk_at dksX0_goings_3 11 rfl rfl)
theorem dX0_goings_85 : decode cX0_goings 85 = .ok (.ireturn, 1) := dk_172 (dk_at dksX0_goings_3 14 rfl rfl)
theorem dX0_goings_86 : decode cX0_goings 86 = .ok (.iinc 6 1, 3) := dk_132 6 1 (dk_at dksX0_goings_3 15 rfl rfl)
theorem dX0_goings_89 : decode cX0_goings 89 = .ok (.goto (-31), 3) := dk_167 255 225 (dk_at dksX0_goings_3 18 rfl rfl)
theorem dX0_goings_92 : decode cX0_goings 92 = .ok (.iconst 0, 1) := dk_3 (dk_at dksX0_goings_3 21 rfl rfl)
theorem dX0_goings_93 : decode cX0_goings 93 = .ok (.istore 6, 2) := dk_54 6 (dk_at dksX0_goings_3 22 rfl rfl)
theorem dX0_goings_95 : decode cX0_goings 95 = .ok (.iconst 0, 1) := dk_3 (dk_at dksX0_goings_4 0 rfl rfl)
theorem dX0_goings_96 : decode cX0_goings 96 = .ok (.istore 7, 2) := dk_54 7 (dk_at dksX0_goings_4 1 rfl rfl)
theorem dX0_goings_98 : decode cX0_goings 98 = .ok (.iload 7, 2) := dk_21 7 (dk_at dksX0_goings_4 3 rfl rfl)
theorem dX0_goings_100 : decode cX0_goings 100 = .ok (.iload_n 2, 1) := dk_28 (dk_at dksX0_goings_4 5 rfl rfl)
theorem dX0_goings_101 : decode cX0_goings 101 = .ok (.if_icmp .ge 50, 3) := dk_162 0 50 (dk_at dksX0_goings_4 6 rfl rfl)
theorem dX0_goings_104 : decode cX0_goings 104 = .ok (.iload 7, 2) := dk_21 7 (dk_at dksX0_goings_4 9 rfl rfl)
theorem dX0_goings_106 : decode cX0_goings 106 = .ok (.istore 8, 2) := dk_54 8 (dk_at dksX0_goings_4 11 rfl rfl)
theorem dX0_goings_108 : decode cX0_goings 108 = .ok (.iload 7, 2) := dk_21 7 (dk_at dksX0_goings_4 13 rfl rfl)
theorem dX0_goings_110 : decode cX0_goings 110 = .ok (.iload_n 2, 1) := dk_28 (dk_at dksX0_goings_4 15 rfl rfl)
theorem dX0_goings_111 : decode cX0_goings 111 = .ok (.if_icmp .ge 34, 3) := dk_162 0 34 (dk_at dksX0_goings_4 16 rfl rfl)
theorem dX0_goings_114 : decode cX0_goings 114 = .ok (.iload 7, 2) := dk_21 7 (dk_at dksX0_goings_4 19 rfl rfl)
theorem dX0_goings_116 : decode cX0_goings 116 = .ok (.iload 8, 2) := dk_21 8 (dk_at dksX0_goings_4 21 rfl rfl)
theorem dX0_goings_118 : decode cX0_goings 118 = .ok (.iload_n 3, 1) := dk_29 (dk_at dksX0_goings_4 23 rfl rfl)
theorem dX0_goings_119 : decode cX0_goings 119 = .ok (.iadd, 1) := dk_96 (dk_at dksX0_goings_5 0 rfl rfl)
theorem dX0_goings_120 : decode cX0_goings 120 = .ok (.if_icmp .ge 25, 3) := dk_162 0 25 (dk_at dksX0_goings_5 1 rfl rfl)
theorem dX0_goings_123 : decode cX0_goings 123 = .ok (.aload 5, 2) := dk_25 5 (dk_at dksX0_goings_5 4 rfl rfl)
theorem dX0_goings_125 : decode cX0_goings 125 = .ok (.iload 7, 2) := dk_21 7 (dk_at dksX0_goings_5 6 rfl rfl)
theorem dX0_goings_127 : decode cX0_goings 127 = .ok (.iaload, 1) := dk_46 (dk_at dksX0_goings_5 8 rfl rfl)
theorem dX0_goings_128 : decode cX0_goings 128 = .ok (.aload 5, 2) := dk_25 5 (dk_at dksX0_goings_5 9 rfl rfl)
theorem dX0_goings_130 : decode cX0_goings 130 = .ok (.iload 8, 2) := dk_21 8 (dk_at dksX0_goings_5 11 rfl rfl)
theorem dX0_goings_132 : decode cX0_goings 132 = .ok (.iaload, 1) := dk_46 (dk_at dksX0_goings_5 13 rfl rfl)
theorem dX0_goings_133 : decode cX0_goings 133 = .ok (.iload 4, 2) := dk_21 4 (dk_at dksX0_goings_5 14 rfl rfl)
theorem dX0_goings_135 : decode cX0_goings 135 = .ok (.iadd, 1) := dk_96 (dk_at dksX0_goings_5 16 rfl rfl)
theorem dX0_goings_136 : decode cX0_goings 136 = .ok (.if_icmp .gt 9, 3) := dk_163 0 9 (dk_at dksX0_goings_5 17 rfl rfl)
theorem dX0_goings_139 : decode cX0_goings 139 = .ok (.iinc 7 1, 3) := dk_132 7 1 (dk_at dksX0_goings_5 20 rfl rfl)
theorem dX0_goings_142 : decode cX0_goings 142 = .ok (.goto (-34), 3) := dk_167 255 222 (dk_at dksX0_goings_6 0 rfl rfl)
theorem dX0_goings_145 : decode cX0_goings 145 = .ok (.iinc 6 1, 3) := dk_132 6 1 (dk_at dksX0_goings_6 3 rfl rfl)
theorem dX0_goings_148 : decode cX0_goings 148 = .ok (.goto (-50), 3) := dk_167 255 206 (dk_at dksX0_goings_6 6 rfl rfl)
theorem dX0_goings_151 : decode cX0_goings 151 = .ok (.iload 6, 2) := dk_21 6 (dk_at dksX0_goings_6 9 rfl rfl)
theorem dX0_goings_153 : decode cX0_goings 153 = .ok (.ireturn, 1) := dk_172 (dk_at dksX0_goings_6 11 rfl rfl)
theorem dX0_goings_154 : decode cX0_goings 154 = .ok (.astore 5, 2) := dk_58 5 (dk_at dksX0_goings_6 12 rfl rfl)
theorem dX0_goings_156 : decode cX0_goings 156 = .ok (.aload_n 0, 1) := dk_42 (dk_at dksX0_goings_6 14 rfl rfl)
theorem dX0_goings_157 : decode cX0_goings 157 = .ok (.aload 5, 2) := dk_25 5 (dk_at dksX0_goings_6 15 rfl rfl)
theorem dX0_goings_159 : decode cX0_goings 159 = .ok (.getfield 112, 3) := dk_180 0 112 (dk_at dksX0_goings_6 17 rfl rfl)
theorem dX0_goings_162 : decode cX0_goings 162 = .ok (.invokevirtual 85, 3) := dk_182 0 85 (dk_at dksX0_goings_6 20 rfl rfl)
theorem dX0_goings_165 : decode cX0_goings 165 = .ok (.ireturn, 1) := dk_172 (dk_at dksX0_goings_6 23 rfl rfl)
abbrev cX0_told_2 : ByteArray := prog_1_method_60_code
def yX0_told_2 : MethodName := ⟨RX0, "told", "(III)[I"⟩
def dkwX0_told_2_4 : List UInt8 := [176]
abbrev dktX0_told_2_4 : List UInt8 := dkwX0_told_2_4 ++ []
def dkwX0_told_2_3 : List UInt8 := [79, 132, 6, 1, 167, 255, 196, 167, 0, 15, 58, 6, 187, 0, 99, 89, 16, 254, 183, 0, 101, 191, 25, 5]
abbrev dktX0_told_2_3 : List UInt8 := dkwX0_told_2_3 ++ dktX0_told_2_4
def dkwX0_told_2_2 : List UInt8 := [28, 4, 100, 184, 0, 129, 88, 187, 0, 99, 89, 16, 254, 183, 0, 101, 191, 25, 5, 21, 6, 22, 7, 136]
abbrev dktX0_told_2_2 : List UInt8 := dkwX0_told_2_2 ++ dktX0_told_2_3
def dkwX0_told_2_1 : List UInt8 := [21, 6, 184, 0, 129, 55, 7, 22, 7, 9, 148, 155, 0, 11, 22, 7, 29, 133, 148, 158, 0, 22, 25, 4]
abbrev dktX0_told_2_1 : List UInt8 := dkwX0_told_2_1 ++ dktX0_told_2_2
def dkwX0_told_2_0 : List UInt8 := [42, 27, 182, 0, 104, 58, 4, 28, 188, 10, 58, 5, 3, 54, 6, 21, 6, 28, 162, 0, 60, 25, 4]
abbrev dktX0_told_2_0 : List UInt8 := dkwX0_told_2_0 ++ dktX0_told_2_1
theorem dksX0_told_2_0 : cX0_told_2.data.toList.drop 0 = dktX0_told_2_0 := by decide +kernel
theorem dksX0_told_2_1 : cX0_told_2.data.toList.drop 23 = dktX0_told_2_1 := dk_seg dksX0_told_2_0 23 rfl rfl
theorem dksX0_told_2_2 : cX0_told_2.data.toList.drop 47 = dktX0_told_2_2 := dk_seg dksX0_told_2_1 24 rfl rfl
theorem dksX0_told_2_3 : cX0_told_2.data.toList.drop 71 = dktX0_told_2_3 := dk_seg dksX0_told_2_2 24 rfl rfl
theorem dksX0_told_2_4 : cX0_told_2.data.toList.drop 95 = dktX0_told_2_4 := dk_seg dksX0_told_2_3 24 rfl rfl
theorem dX0_told_2_0 : decode cX0_told_2 0 = .ok (.aload_n 0, 1) := dk_42 (dk_at dksX0_told_2_0 0 rfl rfl)
theorem dX0_told_2_1 : decode cX0_told_2 1 = .ok (.iload_n 1, 1) := dk_27 (dk_at dksX0_told_2_0 1 rfl rfl)
theorem dX0_told_2_2 : decode cX0_told_2 2 = .ok (.invokevirtual 104, 3) := dk_182 0 104 (dk_at dksX0_told_2_0 2 rfl rfl)
theorem dX0_told_2_5 : decode cX0_told_2 5 = .ok (.astore 4, 2) := dk_58 4 (dk_at dksX0_told_2_0 5 rfl rfl)
theorem dX0_told_2_7 : decode cX0_told_2 7 = .ok (.iload_n 2, 1) := dk_28 (dk_at dksX0_told_2_0 7 rfl rfl)
theorem dX0_told_2_8 : decode cX0_told_2 8 = .ok (.newarray .int, 2) := dk_188_10 (dk_at dksX0_told_2_0 8 rfl rfl)
theorem dX0_told_2_10 : decode cX0_told_2 10 = .ok (.astore 5, 2) := dk_58 5 (dk_at dksX0_told_2_0 10 rfl rfl)
theorem dX0_told_2_12 : decode cX0_told_2 12 = .ok (.iconst 0, 1) := dk_3 (dk_at dksX0_told_2_0 12 rfl rfl)
theorem dX0_told_2_13 : decode cX0_told_2 13 = .ok (.istore 6, 2) := dk_54 6 (dk_at dksX0_told_2_0 13 rfl rfl)
theorem dX0_told_2_15 : decode cX0_told_2 15 = .ok (.iload 6, 2) := dk_21 6 (dk_at dksX0_told_2_0 15 rfl rfl)
theorem dX0_told_2_17 : decode cX0_told_2 17 = .ok (.iload_n 2, 1) := dk_28 (dk_at dksX0_told_2_0 17 rfl rfl)
theorem dX0_told_2_18 : decode cX0_told_2 18 = .ok (.if_icmp .ge 60, 3) := dk_162 0 60 (dk_at dksX0_told_2_0 18 rfl rfl)
theorem dX0_told_2_21 : decode cX0_told_2 21 = .ok (.aload 4, 2) := dk_25 4 (dk_at dksX0_told_2_0 21 rfl rfl)
theorem dX0_told_2_23 : decode cX0_told_2 23 = .ok (.iload 6, 2) := dk_21 6 (dk_at dksX0_told_2_1 0 rfl rfl)
theorem dX0_told_2_25 : decode cX0_told_2 25 = .ok (.invokestatic 129, 3) := dk_184 0 129 (dk_at dksX0_told_2_1 2 rfl rfl)
theorem dX0_told_2_28 : decode cX0_told_2 28 = .ok (.lstore 7, 2) := dk_55 7 (dk_at dksX0_told_2_1 5 rfl rfl)
theorem dX0_told_2_30 : decode cX0_told_2 30 = .ok (.lload 7, 2) := dk_22 7 (dk_at dksX0_told_2_1 7 rfl rfl)
theorem dX0_told_2_32 : decode cX0_told_2 32 = .ok (.lconst 0, 1) := dk_9 (dk_at dksX0_told_2_1 9 rfl rfl)
theorem dX0_told_2_33 : decode cX0_told_2 33 = .ok (.lcmp, 1) := dk_148 (dk_at dksX0_told_2_1 10 rfl rfl)
theorem dX0_told_2_34 : decode cX0_told_2 34 = .ok (.ifCond .lt 11, 3) := dk_155 0 11 (dk_at dksX0_told_2_1 11 rfl rfl)
theorem dX0_told_2_37 : decode cX0_told_2 37 = .ok (.lload 7, 2) := dk_22 7 (dk_at dksX0_told_2_1 14 rfl rfl)
theorem dX0_told_2_39 : decode cX0_told_2 39 = .ok (.iload_n 3, 1) := dk_29 (dk_at dksX0_told_2_1 16 rfl rfl)
theorem dX0_told_2_40 : decode cX0_told_2 40 = .ok (.i2l, 1) := dk_133 (dk_at dksX0_told_2_1 17 rfl rfl)
theorem dX0_told_2_41 : decode cX0_told_2 41 = .ok (.lcmp, 1) := dk_148 (dk_at dksX0_told_2_1 18 rfl rfl)
theorem dX0_told_2_42 : decode cX0_told_2 42 = .ok (.ifCond .le 22, 3) := dk_158 0 22 (dk_at dksX0_told_2_1 19 rfl rfl)
theorem dX0_told_2_45 : decode cX0_told_2 45 = .ok (.aload 4, 2) := dk_25 4 (dk_at dksX0_told_2_1 22 rfl rfl)
theorem dX0_told_2_47 : decode cX0_told_2 47 = .ok (.iload_n 2, 1) := dk_28 (dk_at dksX0_told_2_2 0 rfl rfl)
theorem dX0_told_2_48 : decode cX0_told_2 48 = .ok (.iconst 1, 1) := dk_4 (dk_at dksX0_told_2_2 1 rfl rfl)
theorem dX0_told_2_49 : decode cX0_told_2 49 = .ok (.isub, 1) := dk_100 (dk_at dksX0_told_2_2 2 rfl rfl)
theorem dX0_told_2_50 : decode cX0_told_2 50 = .ok (.invokestatic 129, 3) := dk_184 0 129 (dk_at dksX0_told_2_2 3 rfl rfl)
theorem dX0_told_2_53 : decode cX0_told_2 53 = .ok (.pop2, 1) := dk_88 (dk_at dksX0_told_2_2 6 rfl rfl)
theorem dX0_told_2_54 : decode cX0_told_2 54 = .ok (.new 99, 3) := dk_187 0 99 (dk_at dksX0_told_2_2 7 rfl rfl)
theorem dX0_told_2_57 : decode cX0_told_2 57 = .ok (.dup, 1) := dk_89 (dk_at dksX0_told_2_2 10 rfl rfl)
theorem dX0_told_2_58 : decode cX0_told_2 58 = .ok (.bipush (-2), 2) := dk_16 254 (dk_at dksX0_told_2_2 11 rfl rfl)
theorem dX0_told_2_60 : decode cX0_told_2 60 = .ok (.invokespecial 101, 3) := dk_183 0 101 (dk_at dksX0_told_2_2 13 rfl rfl)
theorem dX0_told_2_63 : decode cX0_told_2 63 = .ok (.athrow, 1) := dk_191 (dk_at dksX0_told_2_2 16 rfl rfl)
theorem dX0_told_2_64 : decode cX0_told_2 64 = .ok (.aload 5, 2) := dk_25 5 (dk_at dksX0_told_2_2 17 rfl rfl)
theorem dX0_told_2_66 : decode cX0_told_2 66 = .ok (.iload 6, 2) := dk_21 6 (dk_at dksX0_told_2_2 19 rfl rfl)
theorem dX0_told_2_68 : decode cX0_told_2 68 = .ok (.lload 7, 2) := dk_22 7 (dk_at dksX0_told_2_2 21 rfl rfl)
theorem dX0_told_2_70 : decode cX0_told_2 70 = .ok (.l2i, 1) := dk_136 (dk_at dksX0_told_2_2 23 rfl rfl)
theorem dX0_told_2_71 : decode cX0_told_2 71 = .ok (.iastore, 1) := dk_79 (dk_at dksX0_told_2_3 0 rfl rfl)
theorem dX0_told_2_72 : decode cX0_told_2 72 = .ok (.iinc 6 1, 3) := dk_132 6 1 (dk_at dksX0_told_2_3 1 rfl rfl)
theorem dX0_told_2_75 : decode cX0_told_2 75 = .ok (.goto (-60), 3) := dk_167 255 196 (dk_at dksX0_told_2_3 4 rfl rfl)
theorem dX0_told_2_78 : decode cX0_told_2 78 = .ok (.goto 15, 3) := dk_167 0 15 (dk_at dksX0_told_2_3 7 rfl rfl)
theorem dX0_told_2_81 : decode cX0_told_2 81 = .ok (.astore 6, 2) := dk_58 6 (dk_at dksX0_told_2_3 10 rfl rfl)
theorem dX0_told_2_83 : decode cX0_told_2 83 = .ok (.new 99, 3) := dk_187 0 99 (dk_at dksX0_told_2_3 12 rfl rfl)
theorem dX0_told_2_86 : decode cX0_told_2 86 = .ok (.dup, 1) := dk_89 (dk_at dksX0_told_2_3 15 rfl rfl)
theorem dX0_told_2_87 : decode cX0_told_2 87 = .ok (.bipush (-2), 2) := dk_16 254 (dk_at dksX0_told_2_3 16 rfl rfl)
theorem dX0_told_2_89 : decode cX0_told_2 89 = .ok (.invokespecial 101, 3) := dk_183 0 101 (dk_at dksX0_told_2_3 18 rfl rfl)
theorem dX0_told_2_92 : decode cX0_told_2 92 = .ok (.athrow, 1) := dk_191 (dk_at dksX0_told_2_3 21 rfl rfl)
theorem dX0_told_2_93 : decode cX0_told_2 93 = .ok (.aload 5, 2) := dk_25 5 (dk_at dksX0_told_2_3 22 rfl rfl)
theorem dX0_told_2_95 : decode cX0_told_2 95 = .ok (.areturn, 1) := dk_176 (dk_at dksX0_told_2_4 0 rfl rfl)
abbrev cX0_week : ByteArray := prog_1_method_62_code
def yX0_week : MethodName := ⟨RX0, "week", "(I)I"⟩
def dkwX0_week_3 : List UInt8 := [180, 0, 143, 182, 1, 86, 172]
abbrev dktX0_week_3 : List UInt8 := dkwX0_week_3 ++ []
def dkwX0_week_2 : List UInt8 := [27, 182, 1, 89, 79, 42, 180, 0, 30, 89, 180, 1, 92, 4, 96, 181, 1, 92, 42, 180, 0, 30]
abbrev dktX0_week_2 : List UInt8 := dkwX0_week_2 ++ dktX0_week_3
def dkwX0_week_1 : List UInt8 := [180, 0, 143, 180, 0, 181, 6, 42, 180, 0, 30, 180, 0, 143, 42, 180, 0, 30, 180, 0, 143, 182, 1, 86]
abbrev dktX0_week_1 : List UInt8 := dkwX0_week_1 ++ dktX0_week_2
def dkwX0_week_0 : List UInt8 := [27, 3, 17, 0, 200, 184, 0, 57, 154, 0, 10, 42, 16, 254, 182, 0, 85, 172, 42, 180, 0, 30]
abbrev dktX0_week_0 : List UInt8 := dkwX0_week_0 ++ dktX0_week_1
theorem dksX0_week_0 : cX0_week.data.toList.drop 0 = dktX0_week_0 := by decide +kernel
theorem dksX0_week_1 : cX0_week.data.toList.drop 22 = dktX0_week_1 := dk_seg dksX0_week_0 22 rfl rfl
theorem dksX0_week_2 : cX0_week.data.toList.drop 46 = dktX0_week_2 := dk_seg dksX0_week_1 24 rfl rfl
theorem dksX0_week_3 : cX0_week.data.toList.drop 68 = dktX0_week_3 := dk_seg dksX0_week_2 22 rfl rfl
theorem dX0_week_0 : decode cX0_week 0 = .ok (.iload_n 1, 1) := dk_27 (dk_at dksX0_week_0 0 rfl rfl)
theorem dX0_week_1 : decode cX0_week 1 = .ok (.iconst 0, 1) := dk_3 (dk_at dksX0_week_0 1 rfl rfl)
theorem dX0_week_2 : decode cX0_week 2 = .ok (.sipush 200, 3) := dk_17 0 200 (dk_at dksX0_week_0 2 rfl rfl)
theorem dX0_week_5 : decode cX0_week 5 = .ok (.invokestatic 57, 3) := dk_184 0 57 (dk_at dksX0_week_0 5 rfl rfl)
theorem dX0_week_8 : decode cX0_week 8 = .ok (.ifCond .ne 10, 3) := dk_154 0 10 (dk_at dksX0_week_0 8 rfl rfl)
theorem dX0_week_11 : decode cX0_week 11 = .ok (.aload_n 0, 1) := dk_42 (dk_at dksX0_week_0 11 rfl rfl)
theorem dX0_week_12 : decode cX0_week 12 = .ok (.bipush (-2), 2) := dk_16 254 (dk_at dksX0_week_0 12 rfl rfl)
theorem dX0_week_14 : decode cX0_week 14 = .ok (.invokevirtual 85, 3) := dk_182 0 85 (dk_at dksX0_week_0 14 rfl rfl)
theorem dX0_week_17 : decode cX0_week 17 = .ok (.ireturn, 1) := dk_172 (dk_at dksX0_week_0 17 rfl rfl)
theorem dX0_week_18 : decode cX0_week 18 = .ok (.aload_n 0, 1) := dk_42 (dk_at dksX0_week_0 18 rfl rfl)
theorem dX0_week_19 : decode cX0_week 19 = .ok (.getfield 30, 3) := dk_180 0 30 (dk_at dksX0_week_0 19 rfl rfl)
theorem dX0_week_22 : decode cX0_week 22 = .ok (.getfield 143, 3) := dk_180 0 143 (dk_at dksX0_week_1 0 rfl rfl)
theorem dX0_week_25 : decode cX0_week 25 = .ok (.getfield 181, 3) := dk_180 0 181 (dk_at dksX0_week_1 3 rfl rfl)
theorem dX0_week_28 : decode cX0_week 28 = .ok (.iconst 3, 1) := dk_6 (dk_at dksX0_week_1 6 rfl rfl)
theorem dX0_week_29 : decode cX0_week 29 = .ok (.aload_n 0, 1) := dk_42 (dk_at dksX0_week_1 7 rfl rfl)
theorem dX0_week_30 : decode cX0_week 30 = .ok (.getfield 30, 3) := dk_180 0 30 (dk_at dksX0_week_1 8 rfl rfl)
theorem dX0_week_33 : decode cX0_week 33 = .ok (.getfield 143, 3) := dk_180 0 143 (dk_at dksX0_week_1 11 rfl rfl)
theorem dX0_week_36 : decode cX0_week 36 = .ok (.aload_n 0, 1) := dk_42 (dk_at dksX0_week_1 14 rfl rfl)
theorem dX0_week_37 : decode cX0_week 37 = .ok (.getfield 30, 3) := dk_180 0 30 (dk_at dksX0_week_1 15 rfl rfl)
theorem dX0_week_40 : decode cX0_week 40 = .ok (.getfield 143, 3) := dk_180 0 143 (dk_at dksX0_week_1 18 rfl rfl)
theorem dX0_week_43 : decode cX0_week 43 = .ok (.invokevirtual 342, 3) := dk_182 1 86 (dk_at dksX0_week_1 21 rfl rfl)
theorem dX0_week_46 : decode cX0_week 46 = .ok (.iload_n 1, 1) := dk_27 (dk_at dksX0_week_2 0 rfl rfl)
theorem dX0_week_47 : decode cX0_week 47 = .ok (.invokevirtual 345, 3) := dk_182 1 89 (dk_at dksX0_week_2 1 rfl rfl)
theorem dX0_week_50 : decode cX0_week 50 = .ok (.iastore, 1) := dk_79 (dk_at dksX0_week_2 4 rfl rfl)
theorem dX0_week_51 : decode cX0_week 51 = .ok (.aload_n 0, 1) := dk_42 (dk_at dksX0_week_2 5 rfl rfl)
theorem dX0_week_52 : decode cX0_week 52 = .ok (.getfield 30, 3) := dk_180 0 30 (dk_at dksX0_week_2 6 rfl rfl)
theorem dX0_week_55 : decode cX0_week 55 = .ok (.dup, 1) := dk_89 (dk_at dksX0_week_2 9 rfl rfl)
theorem dX0_week_56 : decode cX0_week 56 = .ok (.getfield 348, 3) := dk_180 1 92 (dk_at dksX0_week_2 10 rfl rfl)
theorem dX0_week_59 : decode cX0_week 59 = .ok (.iconst 1, 1) := dk_4 (dk_at dksX0_week_2 13 rfl rfl)
theorem dX0_week_60 : decode cX0_week 60 = .ok (.iadd, 1) := dk_96 (dk_at dksX0_week_2 14 rfl rfl)
theorem dX0_week_61 : decode cX0_week 61 = .ok (.putfield 348, 3) := dk_181 1 92 (dk_at dksX0_week_2 15 rfl rfl)
theorem dX0_week_64 : decode cX0_week 64 = .ok (.aload_n 0, 1) := dk_42 (dk_at dksX0_week_2 18 rfl rfl)
theorem dX0_week_65 : decode cX0_week 65 = .ok (.getfield 30, 3) := dk_180 0 30 (dk_at dksX0_week_2 19 rfl rfl)
theorem dX0_week_68 : decode cX0_week 68 = .ok (.getfield 143, 3) := dk_180 0 143 (dk_at dksX0_week_3 0 rfl rfl)
theorem dX0_week_71 : decode cX0_week 71 = .ok (.invokevirtual 342, 3) := dk_182 1 86 (dk_at dksX0_week_3 3 rfl rfl)
theorem dX0_week_74 : decode cX0_week 74 = .ok (.ireturn, 1) := dk_172 (dk_at dksX0_week_3 6 rfl rfl)
abbrev cX0_weeks : ByteArray := prog_1_method_64_code
def yX0_weeks : MethodName := ⟨RX0, "weeks", "(I)I"⟩
def dkwX0_weeks_1 : List UInt8 := [182, 0, 85, 172]
abbrev dktX0_weeks_1 : List UInt8 := dkwX0_weeks_1 ++ []
def dkwX0_weeks_0 : List UInt8 := [27, 3, 17, 0, 200, 184, 0, 57, 153, 0, 11, 42, 27, 182, 1, 95, 167, 0, 9, 42, 16, 254]
abbrev dktX0_weeks_0 : List UInt8 := dkwX0_weeks_0 ++ dktX0_weeks_1
theorem dksX0_weeks_0 : cX0_weeks.data.toList.drop 0 = dktX0_weeks_0 := by decide +kernel
theorem dksX0_weeks_1 : cX0_weeks.data.toList.drop 22 = dktX0_weeks_1 := dk_seg dksX0_weeks_0 22 rfl rfl
theorem dX0_weeks_0 : decode cX0_weeks 0 = .ok (.iload_n 1, 1) := dk_27 (dk_at dksX0_weeks_0 0 rfl rfl)
theorem dX0_weeks_1 : decode cX0_weeks 1 = .ok (.iconst 0, 1) := dk_3 (dk_at dksX0_weeks_0 1 rfl rfl)
theorem dX0_weeks_2 : decode cX0_weeks 2 = .ok (.sipush 200, 3) := dk_17 0 200 (dk_at dksX0_weeks_0 2 rfl rfl)
theorem dX0_weeks_5 : decode cX0_weeks 5 = .ok (.invokestatic 57, 3) := dk_184 0 57 (dk_at dksX0_weeks_0 5 rfl rfl)
theorem dX0_weeks_8 : decode cX0_weeks 8 = .ok (.ifCond .eq 11, 3) := dk_153 0 11 (dk_at dksX0_weeks_0 8 rfl rfl)
theorem dX0_weeks_11 : decode cX0_weeks 11 = .ok (.aload_n 0, 1) := dk_42 (dk_at dksX0_weeks_0 11 rfl rfl)
theorem dX0_weeks_12 : decode cX0_weeks 12 = .ok (.iload_n 1, 1) := dk_27 (dk_at dksX0_weeks_0 12 rfl rfl)
theorem dX0_weeks_13 : decode cX0_weeks 13 = .ok (.invokevirtual 351, 3) := dk_182 1 95 (dk_at dksX0_weeks_0 13 rfl rfl)
theorem dX0_weeks_16 : decode cX0_weeks 16 = .ok (.goto 9, 3) := dk_167 0 9 (dk_at dksX0_weeks_0 16 rfl rfl)
theorem dX0_weeks_19 : decode cX0_weeks 19 = .ok (.aload_n 0, 1) := dk_42 (dk_at dksX0_weeks_0 19 rfl rfl)
theorem dX0_weeks_20 : decode cX0_weeks 20 = .ok (.bipush (-2), 2) := dk_16 254 (dk_at dksX0_weeks_0 20 rfl rfl)
theorem dX0_weeks_22 : decode cX0_weeks 22 = .ok (.invokevirtual 85, 3) := dk_182 0 85 (dk_at dksX0_weeks_1 0 rfl rfl)
theorem dX0_weeks_25 : decode cX0_weeks 25 = .ok (.ireturn, 1) := dk_172 (dk_at dksX0_weeks_1 3 rfl rfl)
abbrev cX0_weeksBy : ByteArray := prog_1_method_63_code
def yX0_weeksBy : MethodName := ⟨RX0, "weeksBy", "(I)I"⟩
def dkwX0_weeksBy_2 : List UInt8 := [167, 255, 222, 29, 172]
abbrev dktX0_weeksBy_2 : List UInt8 := dkwX0_weeksBy_2 ++ []
def dkwX0_weeksBy_1 : List UInt8 := [180, 0, 143, 28, 27, 182, 1, 89, 54, 4, 21, 4, 28, 163, 0, 5, 2, 172, 21, 4, 61, 132, 3, 1]
abbrev dktX0_weeksBy_1 : List UInt8 := dkwX0_weeksBy_1 ++ dktX0_weeksBy_2
def dkwX0_weeksBy_0 : List UInt8 := [42, 180, 0, 30, 180, 0, 143, 182, 1, 86, 61, 3, 62, 28, 16, 100, 162, 0, 34, 42, 180, 0, 30]
abbrev dktX0_weeksBy_0 : List UInt8 := dkwX0_weeksBy_0 ++ dktX0_weeksBy_1
theorem dksX0_weeksBy_0 : cX0_weeksBy.data.toList.drop 0 = dktX0_weeksBy_0 := by decide +kernel
theorem dksX0_weeksBy_1 : cX0_weeksBy.data.toList.drop 23 = dktX0_weeksBy_1 := dk_seg dksX0_weeksBy_0 23 rfl rfl
theorem dksX0_weeksBy_2 : cX0_weeksBy.data.toList.drop 47 = dktX0_weeksBy_2 := dk_seg dksX0_weeksBy_1 24 rfl rfl
theorem dX0_weeksBy_0 : decode cX0_weeksBy 0 = .ok (.aload_n 0, 1) := dk_42 (dk_at dksX0_weeksBy_0 0 rfl rfl)
theorem dX0_weeksBy_1 : decode cX0_weeksBy 1 = .ok (.getfield 30, 3) := dk_180 0 30 (dk_at dksX0_weeksBy_0 1 rfl rfl)
theorem dX0_weeksBy_4 : decode cX0_weeksBy 4 = .ok (.getfield 143, 3) := dk_180 0 143 (dk_at dksX0_weeksBy_0 4 rfl rfl)
theorem dX0_weeksBy_7 : decode cX0_weeksBy 7 = .ok (.invokevirtual 342, 3) := dk_182 1 86 (dk_at dksX0_weeksBy_0 7 rfl rfl)
theorem dX0_weeksBy_10 : decode cX0_weeksBy 10 = .ok (.istore_n 2, 1) := dk_61 (dk_at dksX0_weeksBy_0 10 rfl rfl)
theorem dX0_weeksBy_11 : decode cX0_weeksBy 11 = .ok (.iconst 0, 1) := dk_3 (dk_at dksX0_weeksBy_0 11 rfl rfl)
theorem dX0_weeksBy_12 : decode cX0_weeksBy 12 = .ok (.istore_n 3, 1) := dk_62 (dk_at dksX0_weeksBy_0 12 rfl rfl)
theorem dX0_weeksBy_13 : decode cX0_weeksBy 13 = .ok (.iload_n 2, 1) := dk_28 (dk_at dksX0_weeksBy_0 13 rfl rfl)
theorem dX0_weeksBy_14 : decode cX0_weeksBy 14 = .ok (.bipush 100, 2) := dk_16 100 (dk_at dksX0_weeksBy_0 14 rfl rfl)
theorem dX0_weeksBy_16 : decode cX0_weeksBy 16 = .ok (.if_icmp .ge 34, 3) := dk_162 0 34 (dk_at dksX0_weeksBy_0 16 rfl rfl)
theorem dX0_weeksBy_19 : decode cX0_weeksBy 19 = .ok (.aload_n 0, 1) := dk_42 (dk_at dksX0_weeksBy_0 19 rfl rfl)
theorem dX0_weeksBy_20 : decode cX0_weeksBy 20 = .ok (.getfield 30, 3) := dk_180 0 30 (dk_at dksX0_weeksBy_0 20 rfl rfl)
theorem dX0_weeksBy_23 : decode cX0_weeksBy 23 = .ok (.getfield 143, 3) := dk_180 0 143 (dk_at dksX0_weeksBy_1 0 rfl rfl)
theorem dX0_weeksBy_26 : decode cX0_weeksBy 26 = .ok (.iload_n 2, 1) := dk_28 (dk_at dksX0_weeksBy_1 3 rfl rfl)
theorem dX0_weeksBy_27 : decode cX0_weeksBy 27 = .ok (.iload_n 1, 1) := dk_27 (dk_at dksX0_weeksBy_1 4 rfl rfl)
theorem dX0_weeksBy_28 : decode cX0_weeksBy 28 = .ok (.invokevirtual 345, 3) := dk_182 1 89 (dk_at dksX0_weeksBy_1 5 rfl rfl)
theorem dX0_weeksBy_31 : decode cX0_weeksBy 31 = .ok (.istore 4, 2) := dk_54 4 (dk_at dksX0_weeksBy_1 8 rfl rfl)
theorem dX0_weeksBy_33 : decode cX0_weeksBy 33 = .ok (.iload 4, 2) := dk_21 4 (dk_at dksX0_weeksBy_1 10 rfl rfl)
theorem dX0_weeksBy_35 : decode cX0_weeksBy 35 = .ok (.iload_n 2, 1) := dk_28 (dk_at dksX0_weeksBy_1 12 rfl rfl)
theorem dX0_weeksBy_36 : decode cX0_weeksBy 36 = .ok (.if_icmp .gt 5, 3) := dk_163 0 5 (dk_at dksX0_weeksBy_1 13 rfl rfl)
theorem dX0_weeksBy_39 : decode cX0_weeksBy 39 = .ok (.iconst (-1), 1) := dk_2 (dk_at dksX0_weeksBy_1 16 rfl rfl)
theorem dX0_weeksBy_40 : decode cX0_weeksBy 40 = .ok (.ireturn, 1) := dk_172 (dk_at dksX0_weeksBy_1 17 rfl rfl)
theorem dX0_weeksBy_41 : decode cX0_weeksBy 41 = .ok (.iload 4, 2) := dk_21 4 (dk_at dksX0_weeksBy_1 18 rfl rfl)
theorem dX0_weeksBy_43 : decode cX0_weeksBy 43 = .ok (.istore_n 2, 1) := dk_61 (dk_at dksX0_weeksBy_1 20 rfl rfl)
theorem dX0_weeksBy_44 : decode cX0_weeksBy 44 = .ok (.iinc 3 1, 3) := dk_132 3 1 (dk_at dksX0_weeksBy_1 21 rfl rfl)
theorem dX0_weeksBy_47 : decode cX0_weeksBy 47 = .ok (.goto (-34), 3) := dk_167 255 222 (dk_at dksX0_weeksBy_2 0 rfl rfl)
theorem dX0_weeksBy_50 : decode cX0_weeksBy 50 = .ok (.iload_n 3, 1) := dk_29 (dk_at dksX0_weeksBy_2 3 rfl rfl)
theorem dX0_weeksBy_51 : decode cX0_weeksBy 51 = .ok (.ireturn, 1) := dk_172 (dk_at dksX0_weeksBy_2 4 rfl rfl)
abbrev cX0_when : ByteArray := prog_1_method_65_code
def yX0_when : MethodName := ⟨RX0, "when", "(III)I"⟩
def dkwX0_when_5 : List UInt8 := [167, 0, 4, 2, 172, 58, 4, 42, 25, 4, 180, 0, 112, 182, 0, 85, 172]
abbrev dktX0_when_5 : List UInt8 := dkwX0_when_5 ++ []
def dkwX0_when_4 : List UInt8 := [29, 161, 0, 8, 21, 6, 4, 96, 172, 132, 6, 1, 167, 255, 211, 21, 5, 29, 161, 0, 7, 3]
abbrev dktX0_when_4 : List UInt8 := dkwX0_when_4 ++ dktX0_when_5
def dkwX0_when_3 : List UInt8 := [162, 0, 39, 42, 180, 0, 30, 180, 0, 143, 21, 5, 25, 4, 21, 6, 46, 182, 1, 89, 54, 5, 21, 5]
abbrev dktX0_when_3 : List UInt8 := dkwX0_when_3 ++ dktX0_when_4
def dkwX0_when_2 : List UInt8 := [180, 0, 30, 180, 0, 143, 182, 1, 86, 54, 5, 3, 54, 6, 21, 6, 28, 162, 0, 45, 21, 5, 29]
abbrev dktX0_when_2 : List UInt8 := dkwX0_when_2 ++ dktX0_when_3
def dkwX0_when_1 : List UInt8 := [154, 0, 10, 42, 16, 254, 182, 0, 85, 172, 42, 27, 28, 17, 0, 200, 182, 1, 82, 58, 4, 42]
abbrev dktX0_when_1 : List UInt8 := dkwX0_when_1 ++ dktX0_when_2
def dkwX0_when_0 : List UInt8 := [27, 184, 0, 81, 153, 0, 23, 28, 3, 16, 40, 184, 0, 57, 153, 0, 13, 29, 3, 16, 100, 184, 0, 57]
abbrev dktX0_when_0 : List UInt8 := dkwX0_when_0 ++ dktX0_when_1
theorem dksX0_when_0 : cX0_when.data.toList.drop 0 = dktX0_when_0 := by decide +kernel
theorem dksX0_when_1 : cX0_when.data.toList.drop 24 = dktX0_when_1 := dk_seg dksX0_when_0 24 rfl rfl
theorem dksX0_when_2 : cX0_when.data.toList.drop 46 = dktX0_when_2 := dk_seg dksX0_when_1 22 rfl rfl
theorem dksX0_when_3 : cX0_when.data.toList.drop 69 = dktX0_when_3 := dk_seg dksX0_when_2 23 rfl rfl
theorem dksX0_when_4 : cX0_when.data.toList.drop 93 = dktX0_when_4 := dk_seg dksX0_when_3 24 rfl rfl
theorem dksX0_when_5 : cX0_when.data.toList.drop 115 = dktX0_when_5 := dk_seg dksX0_when_4 22 rfl rfl
theorem dX0_when_0 : decode cX0_when 0 = .ok (.iload_n 1, 1) := dk_27 (dk_at dksX0_when_0 0 rfl rfl)
theorem dX0_when_1 : decode cX0_when 1 = .ok (.invokestatic 81, 3) := dk_184 0 81 (dk_at dksX0_when_0 1 rfl rfl)
theorem dX0_when_4 : decode cX0_when 4 = .ok (.ifCond .eq 23, 3) := dk_153 0 23 (dk_at dksX0_when_0 4 rfl rfl)
theorem dX0_when_7 : decode cX0_when 7 = .ok (.iload_n 2, 1) := dk_28 (dk_at dksX0_when_0 7 rfl rfl)
theorem dX0_when_8 : decode cX0_when 8 = .ok (.iconst 0, 1) := dk_3 (dk_at dksX0_when_0 8 rfl rfl)
theorem dX0_when_9 : decode cX0_when 9 = .ok (.bipush 40, 2) := dk_16 40 (dk_at dksX0_when_0 9 rfl rfl)
theorem dX0_when_11 : decode cX0_when 11 = .ok (.invokestatic 57, 3) := dk_184 0 57 (dk_at dksX0_when_0 11 rfl rfl)
theorem dX0_when_14 : decode cX0_when 14 = .ok (.ifCond .eq 13, 3) := dk_153 0 13 (dk_at dksX0_when_0 14 rfl rfl)
theorem dX0_when_17 : decode cX0_when 17 = .ok (.iload_n 3, 1) := dk_29 (dk_at dksX0_when_0 17 rfl rfl)
theorem dX0_when_18 : decode cX0_when 18 = .ok (.iconst 0, 1) := dk_3 (dk_at dksX0_when_0 18 rfl rfl)
theorem dX0_when_19 : decode cX0_when 19 = .ok (.bipush 100, 2) := dk_16 100 (dk_at dksX0_when_0 19 rfl rfl)
theorem dX0_when_21 : decode cX0_when 21 = .ok (.invokestatic 57, 3) := dk_184 0 57 (dk_at dksX0_when_0 21 rfl rfl)
theorem dX0_when_24 : decode cX0_when 24 = .ok (.ifCond .ne 10, 3) := dk_154 0 10 (dk_at dksX0_when_1 0 rfl rfl)
theorem dX0_when_27 : decode cX0_when 27 = .ok (.aload_n 0, 1) := dk_42 (dk_at dksX0_when_1 3 rfl rfl)
theorem dX0_when_28 : decode cX0_when 28 = .ok (.bipush (-2), 2) := dk_16 254 (dk_at dksX0_when_1 4 rfl rfl)
theorem dX0_when_30 : decode cX0_when 30 = .ok (.invokevirtual 85, 3) := dk_182 0 85 (dk_at dksX0_when_1 6 rfl rfl)
theorem dX0_when_33 : decode cX0_when 33 = .ok (.ireturn, 1) := dk_172 (dk_at dksX0_when_1 9 rfl rfl)
theorem dX0_when_34 : decode cX0_when 34 = .ok (.aload_n 0, 1) := dk_42 (dk_at dksX0_when_1 10 rfl rfl)
theorem dX0_when_35 : decode cX0_when 35 = .ok (.iload_n 1, 1) := dk_27 (dk_at dksX0_when_1 11 rfl rfl)
theorem dX0_when_36 : decode cX0_when 36 = .ok (.iload_n 2, 1) := dk_28 (dk_at dksX0_when_1 12 rfl rfl)
theorem dX0_when_37 : decode cX0_when 37 = .ok (.sipush 200, 3) := dk_17 0 200 (dk_at dksX0_when_1 13 rfl rfl)
theorem dX0_when_40 : decode cX0_when 40 = .ok (.invokevirtual 338, 3) := dk_182 1 82 (dk_at dksX0_when_1 16 rfl rfl)
theorem dX0_when_43 : decode cX0_when 43 = .ok (.astore 4, 2) := dk_58 4 (dk_at dksX0_when_1 19 rfl rfl)
theorem dX0_when_45 : decode cX0_when 45 = .ok (.aload_n 0, 1) := dk_42 (dk_at dksX0_when_1 21 rfl rfl)
theorem dX0_when_46 : decode cX0_when 46 = .ok (.getfield 30, 3) := dk_180 0 30 (dk_at dksX0_when_2 0 rfl rfl)
theorem dX0_when_49 : decode cX0_when 49 = .ok (.getfield 143, 3) := dk_180 0 143 (dk_at dksX0_when_2 3 rfl rfl)
theorem dX0_when_52 : decode cX0_when 52 = .ok (.invokevirtual 342, 3) := dk_182 1 86 (dk_at dksX0_when_2 6 rfl rfl)
theorem dX0_when_55 : decode cX0_when 55 = .ok (.istore 5, 2) := dk_54 5 (dk_at dksX0_when_2 9 rfl rfl)
theorem dX0_when_57 : decode cX0_when 57 = .ok (.iconst 0, 1) := dk_3 (dk_at dksX0_when_2 11 rfl rfl)
theorem dX0_when_58 : decode cX0_when 58 = .ok (.istore 6, 2) := dk_54 6 (dk_at dksX0_when_2 12 rfl rfl)
theorem dX0_when_60 : decode cX0_when 60 = .ok (.iload 6, 2) := dk_21 6 (dk_at dksX0_when_2 14 rfl rfl)
theorem dX0_when_62 : decode cX0_when 62 = .ok (.iload_n 2, 1) := dk_28 (dk_at dksX0_when_2 16 rfl rfl)
theorem dX0_when_63 : decode cX0_when 63 = .ok (.if_icmp .ge 45, 3) := dk_162 0 45 (dk_at dksX0_when_2 17 rfl rfl)
theorem dX0_when_66 : decode cX0_when 66 = .ok (.iload 5, 2) := dk_21 5 (dk_at dksX0_when_2 20 rfl rfl)
theorem dX0_when_68 : decode cX0_when 68 = .ok (.iload_n 3, 1) := dk_29 (dk_at dksX0_when_2 22 rfl rfl)
theorem dX0_when_69 : decode cX0_when 69 = .ok (.if_icmp .ge 39, 3) := dk_162 0 39 (dk_at dksX0_when_3 0 rfl rfl)
theorem dX0_when_72 : decode cX0_when 72 = .ok (.aload_n 0, 1) := dk_42 (dk_at dksX0_when_3 3 rfl rfl)
theorem dX0_when_73 : decode cX0_when 73 = .ok (.getfield 30, 3) := dk_180 0 30 (dk_at dksX0_when_3 4 rfl rfl)
theorem dX0_when_76 : decode cX0_when 76 = .ok (.getfield 143, 3) := dk_180 0 143 (dk_at dksX0_when_3 7 rfl rfl)
theorem dX0_when_79 : decode cX0_when 79 = .ok (.iload 5, 2) := dk_21 5 (dk_at dksX0_when_3 10 rfl rfl)
theorem dX0_when_81 : decode cX0_when 81 = .ok (.aload 4, 2) := dk_25 4 (dk_at dksX0_when_3 12 rfl rfl)
theorem dX0_when_83 : decode cX0_when 83 = .ok (.iload 6, 2) := dk_21 6 (dk_at dksX0_when_3 14 rfl rfl)
theorem dX0_when_85 : decode cX0_when 85 = .ok (.iaload, 1) := dk_46 (dk_at dksX0_when_3 16 rfl rfl)
theorem dX0_when_86 : decode cX0_when 86 = .ok (.invokevirtual 345, 3) := dk_182 1 89 (dk_at dksX0_when_3 17 rfl rfl)
theorem dX0_when_89 : decode cX0_when 89 = .ok (.istore 5, 2) := dk_54 5 (dk_at dksX0_when_3 20 rfl rfl)
theorem dX0_when_91 : decode cX0_when 91 = .ok (.iload 5, 2) := dk_21 5 (dk_at dksX0_when_3 22 rfl rfl)
theorem dX0_when_93 : decode cX0_when 93 = .ok (.iload_n 3, 1) := dk_29 (dk_at dksX0_when_4 0 rfl rfl)
theorem dX0_when_94 : decode cX0_when 94 = .ok (.if_icmp .lt 8, 3) := dk_161 0 8 (dk_at dksX0_when_4 1 rfl rfl)
theorem dX0_when_97 : decode cX0_when 97 = .ok (.iload 6, 2) := dk_21 6 (dk_at dksX0_when_4 4 rfl rfl)
theorem dX0_when_99 : decode cX0_when 99 = .ok (.iconst 1, 1) := dk_4 (dk_at dksX0_when_4 6 rfl rfl)
theorem dX0_when_100 : decode cX0_when 100 = .ok (.iadd, 1) := dk_96 (dk_at dksX0_when_4 7 rfl rfl)
theorem dX0_when_101 : decode cX0_when 101 = .ok (.ireturn, 1) := dk_172 (dk_at dksX0_when_4 8 rfl rfl)
theorem dX0_when_102 : decode cX0_when 102 = .ok (.iinc 6 1, 3) := dk_132 6 1 (dk_at dksX0_when_4 9 rfl rfl)
theorem dX0_when_105 : decode cX0_when 105 = .ok (.goto (-45), 3) := dk_167 255 211 (dk_at dksX0_when_4 12 rfl rfl)
theorem dX0_when_108 : decode cX0_when 108 = .ok (.iload 5, 2) := dk_21 5 (dk_at dksX0_when_4 15 rfl rfl)
theorem dX0_when_110 : decode cX0_when 110 = .ok (.iload_n 3, 1) := dk_29 (dk_at dksX0_when_4 17 rfl rfl)
theorem dX0_when_111 : decode cX0_when 111 = .ok (.if_icmp .lt 7, 3) := dk_161 0 7 (dk_at dksX0_when_4 18 rfl rfl)
theorem dX0_when_114 : decode cX0_when 114 = .ok (.iconst 0, 1) := dk_3 (dk_at dksX0_when_4 21 rfl rfl)
theorem dX0_when_115 : decode cX0_when 115 = .ok (.goto 4, 3) := dk_167 0 4 (dk_at dksX0_when_5 0 rfl rfl)
theorem dX0_when_118 : decode cX0_when 118 = .ok (.iconst (-1), 1) := dk_2 (dk_at dksX0_when_5 3 rfl rfl)
theorem dX0_when_119 : decode cX0_when 119 = .ok (.ireturn, 1) := dk_172 (dk_at dksX0_when_5 4 rfl rfl)
theorem dX0_when_120 : decode cX0_when 120 = .ok (.astore 4, 2) := dk_58 4 (dk_at dksX0_when_5 5 rfl rfl)
theorem dX0_when_122 : decode cX0_when 122 = .ok (.aload_n 0, 1) := dk_42 (dk_at dksX0_when_5 7 rfl rfl)
theorem dX0_when_123 : decode cX0_when 123 = .ok (.aload 4, 2) := dk_25 4 (dk_at dksX0_when_5 8 rfl rfl)
theorem dX0_when_125 : decode cX0_when 125 = .ok (.getfield 112, 3) := dk_180 0 112 (dk_at dksX0_when_5 10 rfl rfl)
theorem dX0_when_128 : decode cX0_when 128 = .ok (.invokevirtual 85, 3) := dk_182 0 85 (dk_at dksX0_when_5 13 rfl rfl)
theorem dX0_when_131 : decode cX0_when 131 = .ok (.ireturn, 1) := dk_172 (dk_at dksX0_when_5 16 rfl rfl)
abbrev cX0_soonest : ByteArray := prog_1_method_66_code
def yX0_soonest : MethodName := ⟨RX0, "soonest", "()I"⟩
def dkwX0_soonest_4 : List UInt8 := [60, 132, 2, 1, 167, 255, 188, 27, 172]
abbrev dktX0_soonest_4 : List UInt8 := dkwX0_soonest_4 ++ []
def dkwX0_soonest_3 : List UInt8 := [182, 1, 95, 62, 29, 2, 159, 0, 17, 27, 2, 159, 0, 8, 29, 27, 162, 0, 7, 29, 167, 0, 4, 27]
abbrev dktX0_soonest_3 : List UInt8 := dkwX0_soonest_3 ++ dktX0_soonest_4
def dkwX0_soonest_2 : List UInt8 := [180, 0, 139, 28, 50, 42, 180, 0, 30, 180, 0, 143, 42, 180, 0, 30, 180, 0, 147, 3, 50, 182, 0, 237]
abbrev dktX0_soonest_2 : List UInt8 := dkwX0_soonest_2 ++ dktX0_soonest_3
def dkwX0_soonest_1 : List UInt8 := [182, 0, 85, 172, 2, 60, 3, 61, 28, 42, 180, 0, 30, 180, 0, 65, 162, 0, 63, 42, 42, 180, 0, 30]
abbrev dktX0_soonest_1 : List UInt8 := dkwX0_soonest_1 ++ dktX0_soonest_2
def dkwX0_soonest_0 : List UInt8 := [42, 180, 0, 30, 180, 0, 61, 153, 0, 13, 42, 180, 0, 30, 180, 0, 65, 154, 0, 10, 42, 16, 251]
abbrev dktX0_soonest_0 : List UInt8 := dkwX0_soonest_0 ++ dktX0_soonest_1
theorem dksX0_soonest_0 : cX0_soonest.data.toList.drop 0 = dktX0_soonest_0 := by decide +kernel
theorem dksX0_soonest_1 : cX0_soonest.data.toList.drop 23 = dktX0_soonest_1 := dk_seg dksX0_soonest_0 23 rfl rfl
theorem dksX0_soonest_2 : cX0_soonest.data.toList.drop 47 = dktX0_soonest_2 := dk_seg dksX0_soonest_1 24 rfl rfl
theorem dksX0_soonest_3 : cX0_soonest.data.toList.drop 71 = dktX0_soonest_3 := dk_seg dksX0_soonest_2 24 rfl rfl
theorem dksX0_soonest_4 : cX0_soonest.data.toList.drop 95 = dktX0_soonest_4 := dk_seg dksX0_soonest_3 24 rfl rfl
theorem dX0_soonest_0 : decode cX0_soonest 0 = .ok (.aload_n 0, 1) := dk_42 (dk_at dksX0_soonest_0 0 rfl rfl)
theorem dX0_soonest_1 : decode cX0_soonest 1 = .ok (.getfield 30, 3) := dk_180 0 30 (dk_at dksX0_soonest_0 1 rfl rfl)
theorem dX0_soonest_4 : decode cX0_soonest 4 = .ok (.getfield 61, 3) := dk_180 0 61 (dk_at dksX0_soonest_0 4 rfl rfl)
theorem dX0_soonest_7 : decode cX0_soonest 7 = .ok (.ifCond .eq 13, 3) := dk_153 0 13 (dk_at dksX0_soonest_0 7 rfl rfl)
theorem dX0_soonest_10 : decode cX0_soonest 10 = .ok (.aload_n 0, 1) := dk_42 (dk_at dksX0_soonest_0 10 rfl rfl)
theorem dX0_soonest_11 : decode cX0_soonest 11 = .ok (.getfield 30, 3) := dk_180 0 30 (dk_at dksX0_soonest_0 11 rfl rfl)
theorem dX0_soonest_14 : decode cX0_soonest 14 = .ok (.getfield 65, 3) := dk_180 0 65 (dk_at dksX0_soonest_0 14 rfl rfl)
theorem dX0_soonest_17 : decode cX0_soonest 17 = .ok (.ifCond .ne 10, 3) := dk_154 0 10 (dk_at dksX0_soonest_0 17 rfl rfl)
theorem dX0_soonest_20 : decode cX0_soonest 20 = .ok (.aload_n 0, 1) := dk_42 (dk_at dksX0_soonest_0 20 rfl rfl)
theorem dX0_soonest_21 : decode cX0_soonest 21 = .ok (.bipush (-5), 2) := dk_16 251 (dk_at dksX0_soonest_0 21 rfl rfl)
theorem dX0_soonest_23 : decode cX0_soonest 23 = .ok (.invokevirtual 85, 3) := dk_182 0 85 (dk_at dksX0_soonest_1 0 rfl rfl)
theorem dX0_soonest_26 : decode cX0_soonest 26 = .ok (.ireturn, 1) := dk_172 (dk_at dksX0_soonest_1 3 rfl rfl)
theorem dX0_soonest_27 : decode cX0_soonest 27 = .ok (.iconst (-1), 1) := dk_2 (dk_at dksX0_soonest_1 4 rfl rfl)
theorem dX0_soonest_28 : decode cX0_soonest 28 = .ok (.istore_n 1, 1) := dk_60 (dk_at dksX0_soonest_1 5 rfl rfl)
theorem dX0_soonest_29 : decode cX0_soonest 29 = .ok (.iconst 0, 1) := dk_3 (dk_at dksX0_soonest_1 6 rfl rfl)
theorem dX0_soonest_30 : decode cX0_soonest 30 = .ok (.istore_n 2, 1) := dk_61 (dk_at dksX0_soonest_1 7 rfl rfl)
theorem dX0_soonest_31 : decode cX0_soonest 31 = .ok (.iload_n 2, 1) := dk_28 (dk_at dksX0_soonest_1 8 rfl rfl)
theorem dX0_soonest_32 : decode cX0_soonest 32 = .ok (.aload_n 0, 1) := dk_42 (dk_at dksX0_soonest_1 9 rfl rfl)
theorem dX0_soonest_33 : decode cX0_soonest 33 = .ok (.getfield 30, 3) := dk_180 0 30 (dk_at dksX0_soonest_1 10 rfl rfl)
theorem dX0_soonest_36 : decode cX0_soonest 36 = .ok (.getfield 65, 3) := dk_180 0 65 (dk_at dksX0_soonest_1 13 rfl rfl)
theorem dX0_soonest_39 : decode cX0_soonest 39 = .ok (.if_icmp .ge 63, 3) := dk_162 0 63 (dk_at dksX0_soonest_1 16 rfl rfl)
theorem dX0_soonest_42 : decode cX0_soonest 42 = .ok (.aload_n 0, 1) := dk_42 (dk_at dksX0_soonest_1 19 rfl rfl)
theorem dX0_soonest_43 : decode cX0_soonest 43 = .ok (.aload_n 0, 1) := dk_42 (dk_at dksX0_soonest_1 20 rfl rfl)
theorem dX0_soonest_44 : decode cX0_soonest 44 = .ok (.getfield 30, 3) := dk_180 0 30 (dk_at dksX0_soonest_1 21 rfl rfl)
theorem dX0_soonest_47 : decode cX0_soonest 47 = .ok (.getfield 139, 3) := dk_180 0 139 (dk_at dksX0_soonest_2 0 rfl rfl)
theorem dX0_soonest_50 : decode cX0_soonest 50 = .ok (.iload_n 2, 1) := dk_28 (dk_at dksX0_soonest_2 3 rfl rfl)
theorem dX0_soonest_51 : decode cX0_soonest 51 = .ok (.aaload, 1) := dk_50 (dk_at dksX0_soonest_2 4 rfl rfl)
theorem dX0_soonest_52 : decode cX0_soonest 52 = .ok (.aload_n 0, 1) := dk_42 (dk_at dksX0_soonest_2 5 rfl rfl)
theorem dX0_soonest_53 : decode cX0_soonest 53 = .ok (.getfield 30, 3) := dk_180 0 30 (dk_at dksX0_soonest_2 6 rfl rfl)
theorem dX0_soonest_56 : decode cX0_soonest 56 = .ok (.getfield 143, 3) := dk_180 0 143 (dk_at dksX0_soonest_2 9 rfl rfl)
theorem dX0_soonest_59 : decode cX0_soonest 59 = .ok (.aload_n 0, 1) := dk_42 (dk_at dksX0_soonest_2 12 rfl rfl)
theorem dX0_soonest_60 : decode cX0_soonest 60 = .ok (.getfield 30, 3) := dk_180 0 30 (dk_at dksX0_soonest_2 13 rfl rfl)
theorem dX0_soonest_63 : decode cX0_soonest 63 = .ok (.getfield 147, 3) := dk_180 0 147 (dk_at dksX0_soonest_2 16 rfl rfl)
theorem dX0_soonest_66 : decode cX0_soonest 66 = .ok (.iconst 0, 1) := dk_3 (dk_at dksX0_soonest_2 19 rfl rfl)
theorem dX0_soonest_67 : decode cX0_soonest 67 = .ok (.aaload, 1) := dk_50 (dk_at dksX0_soonest_2 20 rfl rfl)
theorem dX0_soonest_68 : decode cX0_soonest 68 = .ok (.invokevirtual 237, 3) := dk_182 0 237 (dk_at dksX0_soonest_2 21 rfl rfl)
theorem dX0_soonest_71 : decode cX0_soonest 71 = .ok (.invokevirtual 351, 3) := dk_182 1 95 (dk_at dksX0_soonest_3 0 rfl rfl)
theorem dX0_soonest_74 : decode cX0_soonest 74 = .ok (.istore_n 3, 1) := dk_62 (dk_at dksX0_soonest_3 3 rfl rfl)
theorem dX0_soonest_75 : decode cX0_soonest 75 = .ok (.iload_n 3, 1) := dk_29 (dk_at dksX0_soonest_3 4 rfl rfl)
theorem dX0_soonest_76 : decode cX0_soonest 76 = .ok (.iconst (-1), 1) := dk_2 (dk_at dksX0_soonest_3 5 rfl rfl)
theorem dX0_soonest_77 : decode cX0_soonest 77 = .ok (.if_icmp .eq 17, 3) := dk_159 0 17 (dk_at dksX0_soonest_3 6 rfl rfl)
theorem dX0_soonest_80 : decode cX0_soonest 80 = .ok (.iload_n 1, 1) := dk_27 (dk_at dksX0_soonest_3 9 rfl rfl)
theorem dX0_soonest_81 : decode cX0_soonest 81 = .ok (.iconst (-1), 1) := dk_2 (dk_at dksX0_soonest_3 10 rfl rfl)
theorem dX0_soonest_82 : decode cX0_soonest 82 = .ok (.if_icmp .eq 8, 3) := dk_159 0 8 (dk_at dksX0_soonest_3 11 rfl rfl)
theorem dX0_soonest_85 : decode cX0_soonest 85 = .ok (.iload_n 3, 1) := dk_29 (dk_at dksX0_soonest_3 14 rfl rfl)
theorem dX0_soonest_86 : decode cX0_soonest 86 = .ok (.iload_n 1, 1) := dk_27 (dk_at dksX0_soonest_3 15 rfl rfl)
theorem dX0_soonest_87 : decode cX0_soonest 87 = .ok (.if_icmp .ge 7, 3) := dk_162 0 7 (dk_at dksX0_soonest_3 16 rfl rfl)
theorem dX0_soonest_90 : decode cX0_soonest 90 = .ok (.iload_n 3, 1) := dk_29 (dk_at dksX0_soonest_3 19 rfl rfl)
theorem dX0_soonest_91 : decode cX0_soonest 91 = .ok (.goto 4, 3) := dk_167 0 4 (dk_at dksX0_soonest_3 20 rfl rfl)
theorem dX0_soonest_94 : decode cX0_soonest 94 = .ok (.iload_n 1, 1) := dk_27 (dk_at dksX0_soonest_3 23 rfl rfl)
theorem dX0_soonest_95 : decode cX0_soonest 95 = .ok (.istore_n 1, 1) := dk_60 (dk_at dksX0_soonest_4 0 rfl rfl)
theorem dX0_soonest_96 : decode cX0_soonest 96 = .ok (.iinc 2 1, 3) := dk_132 2 1 (dk_at dksX0_soonest_4 1 rfl rfl)
theorem dX0_soonest_99 : decode cX0_soonest 99 = .ok (.goto (-68), 3) := dk_167 255 188 (dk_at dksX0_soonest_4 4 rfl rfl)
theorem dX0_soonest_102 : decode cX0_soonest 102 = .ok (.iload_n 1, 1) := dk_27 (dk_at dksX0_soonest_4 7 rfl rfl)
theorem dX0_soonest_103 : decode cX0_soonest 103 = .ok (.ireturn, 1) := dk_172 (dk_at dksX0_soonest_4 8 rfl rfl)
abbrev cX0_climbs : ByteArray := prog_1_method_67_code
def yX0_climbs : MethodName := ⟨RX0, "climbs", "(I)I"⟩
def dkwX0_climbs_0 : List UInt8 := [42, 180, 0, 30, 42, 27, 182, 1, 6, 182, 1, 98, 172, 77, 42, 44, 180, 0, 112, 182, 0, 85, 172]
abbrev dktX0_climbs_0 : List UInt8 := dkwX0_climbs_0 ++ []
theorem dksX0_climbs_0 : cX0_climbs.data.toList.drop 0 = dktX0_climbs_0 := by decide +kernel
theorem dX0_climbs_0 : decode cX0_climbs 0 = .ok (.aload_n 0, 1) := dk_42 (dk_at dksX0_climbs_0 0 rfl rfl)
theorem dX0_climbs_1 : decode cX0_climbs 1 = .ok (.getfield 30, 3) := dk_180 0 30 (dk_at dksX0_climbs_0 1 rfl rfl)
theorem dX0_climbs_4 : decode cX0_climbs 4 = .ok (.aload_n 0, 1) := dk_42 (dk_at dksX0_climbs_0 4 rfl rfl)
theorem dX0_climbs_5 : decode cX0_climbs 5 = .ok (.iload_n 1, 1) := dk_27 (dk_at dksX0_climbs_0 5 rfl rfl)
theorem dX0_climbs_6 : decode cX0_climbs 6 = .ok (.invokevirtual 262, 3) := dk_182 1 6 (dk_at dksX0_climbs_0 6 rfl rfl)
theorem dX0_climbs_9 : decode cX0_climbs 9 = .ok (.invokevirtual 354, 3) := dk_182 1 98 (dk_at dksX0_climbs_0 9 rfl rfl)
theorem dX0_climbs_12 : decode cX0_climbs 12 = .ok (.ireturn, 1) := dk_172 (dk_at dksX0_climbs_0 12 rfl rfl)
theorem dX0_climbs_13 : decode cX0_climbs 13 = .ok (.astore_n 2, 1) := dk_77 (dk_at dksX0_climbs_0 13 rfl rfl)
theorem dX0_climbs_14 : decode cX0_climbs 14 = .ok (.aload_n 0, 1) := dk_42 (dk_at dksX0_climbs_0 14 rfl rfl)
theorem dX0_climbs_15 : decode cX0_climbs 15 = .ok (.aload_n 2, 1) := dk_44 (dk_at dksX0_climbs_0 15 rfl rfl)
theorem dX0_climbs_16 : decode cX0_climbs 16 = .ok (.getfield 112, 3) := dk_180 0 112 (dk_at dksX0_climbs_0 16 rfl rfl)
theorem dX0_climbs_19 : decode cX0_climbs 19 = .ok (.invokevirtual 85, 3) := dk_182 0 85 (dk_at dksX0_climbs_0 19 rfl rfl)
theorem dX0_climbs_22 : decode cX0_climbs 22 = .ok (.ireturn, 1) := dk_172 (dk_at dksX0_climbs_0 22 rfl rfl)
abbrev cX0_goes : ByteArray := prog_1_method_68_code
def yX0_goes : MethodName := ⟨RX0, "goes", "()I"⟩
def dkwX0_goes_2 : List UInt8 := [182, 1, 98, 172]
abbrev dktX0_goes_2 : List UInt8 := dkwX0_goes_2 ++ []
def dkwX0_goes_1 : List UInt8 := [153, 0, 12, 42, 16, 251, 182, 0, 85, 167, 0, 17, 42, 180, 0, 30, 42, 180, 0, 39, 182, 1, 26]
abbrev dktX0_goes_1 : List UInt8 := dkwX0_goes_1 ++ dktX0_goes_2
def dkwX0_goes_0 : List UInt8 := [42, 180, 0, 39, 42, 180, 0, 30, 3, 16, 100, 182, 1, 29, 87, 42, 180, 0, 39, 182, 1, 17]
abbrev dktX0_goes_0 : List UInt8 := dkwX0_goes_0 ++ dktX0_goes_1
theorem dksX0_goes_0 : cX0_goes.data.toList.drop 0 = dktX0_goes_0 := by decide +kernel
theorem dksX0_goes_1 : cX0_goes.data.toList.drop 22 = dktX0_goes_1 := dk_seg dksX0_goes_0 22 rfl rfl
theorem dksX0_goes_2 : cX0_goes.data.toList.drop 45 = dktX0_goes_2 := dk_seg dksX0_goes_1 23 rfl rfl
theorem dX0_goes_0 : decode cX0_goes 0 = .ok (.aload_n 0, 1) := dk_42 (dk_at dksX0_goes_0 0 rfl rfl)
theorem dX0_goes_1 : decode cX0_goes 1 = .ok (.getfield 39, 3) := dk_180 0 39 (dk_at dksX0_goes_0 1 rfl rfl)
theorem dX0_goes_4 : decode cX0_goes 4 = .ok (.aload_n 0, 1) := dk_42 (dk_at dksX0_goes_0 4 rfl rfl)
theorem dX0_goes_5 : decode cX0_goes 5 = .ok (.getfield 30, 3) := dk_180 0 30 (dk_at dksX0_goes_0 5 rfl rfl)
theorem dX0_goes_8 : decode cX0_goes 8 = .ok (.iconst 0, 1) := dk_3 (dk_at dksX0_goes_0 8 rfl rfl)
theorem dX0_goes_9 : decode cX0_goes 9 = .ok (.bipush 100, 2) := dk_16 100 (dk_at dksX0_goes_0 9 rfl rfl)
theorem dX0_goes_11 : decode cX0_goes 11 = .ok (.invokevirtual 285, 3) := dk_182 1 29 (dk_at dksX0_goes_0 11 rfl rfl)
theorem dX0_goes_14 : decode cX0_goes 14 = .ok (.pop, 1) := dk_87 (dk_at dksX0_goes_0 14 rfl rfl)
theorem dX0_goes_15 : decode cX0_goes 15 = .ok (.aload_n 0, 1) := dk_42 (dk_at dksX0_goes_0 15 rfl rfl)
theorem dX0_goes_16 : decode cX0_goes 16 = .ok (.getfield 39, 3) := dk_180 0 39 (dk_at dksX0_goes_0 16 rfl rfl)
theorem dX0_goes_19 : decode cX0_goes 19 = .ok (.invokevirtual 273, 3) := dk_182 1 17 (dk_at dksX0_goes_0 19 rfl rfl)
theorem dX0_goes_22 : decode cX0_goes 22 = .ok (.ifCond .eq 12, 3) := dk_153 0 12 (dk_at dksX0_goes_1 0 rfl rfl)
theorem dX0_goes_25 : decode cX0_goes 25 = .ok (.aload_n 0, 1) := dk_42 (dk_at dksX0_goes_1 3 rfl rfl)
theorem dX0_goes_26 : decode cX0_goes 26 = .ok (.bipush (-5), 2) := dk_16 251 (dk_at dksX0_goes_1 4 rfl rfl)
theorem dX0_goes_28 : decode cX0_goes 28 = .ok (.invokevirtual 85, 3) := dk_182 0 85 (dk_at dksX0_goes_1 6 rfl rfl)
theorem dX0_goes_31 : decode cX0_goes 31 = .ok (.goto 17, 3) := dk_167 0 17 (dk_at dksX0_goes_1 9 rfl rfl)
theorem dX0_goes_34 : decode cX0_goes 34 = .ok (.aload_n 0, 1) := dk_42 (dk_at dksX0_goes_1 12 rfl rfl)
theorem dX0_goes_35 : decode cX0_goes 35 = .ok (.getfield 30, 3) := dk_180 0 30 (dk_at dksX0_goes_1 13 rfl rfl)
theorem dX0_goes_38 : decode cX0_goes 38 = .ok (.aload_n 0, 1) := dk_42 (dk_at dksX0_goes_1 16 rfl rfl)
theorem dX0_goes_39 : decode cX0_goes 39 = .ok (.getfield 39, 3) := dk_180 0 39 (dk_at dksX0_goes_1 17 rfl rfl)
theorem dX0_goes_42 : decode cX0_goes 42 = .ok (.invokevirtual 282, 3) := dk_182 1 26 (dk_at dksX0_goes_1 20 rfl rfl)
theorem dX0_goes_45 : decode cX0_goes 45 = .ok (.invokevirtual 354, 3) := dk_182 1 98 (dk_at dksX0_goes_2 0 rfl rfl)
theorem dX0_goes_48 : decode cX0_goes 48 = .ok (.ireturn, 1) := dk_172 (dk_at dksX0_goes_2 3 rfl rfl)
abbrev cX0_seed : ByteArray := prog_1_method_69_code
def yX0_seed : MethodName := ⟨RX0, "seed", "(I)I"⟩
def dkwX0_seed_0 : List UInt8 := [42, 180, 0, 30, 180, 1, 101, 61, 42, 180, 0, 30, 27, 181, 1, 101, 28, 172]
abbrev dktX0_seed_0 : List UInt8 := dkwX0_seed_0 ++ []
theorem dksX0_seed_0 : cX0_seed.data.toList.drop 0 = dktX0_seed_0 := by decide +kernel
theorem dX0_seed_0 : decode cX0_seed 0 = .ok (.aload_n 0, 1) := dk_42 (dk_at dksX0_seed_0 0 rfl rfl)
theorem dX0_seed_1 : decode cX0_seed 1 = .ok (.getfield 30, 3) := dk_180 0 30 (dk_at dksX0_seed_0 1 rfl rfl)
theorem dX0_seed_4 : decode cX0_seed 4 = .ok (.getfield 357, 3) := dk_180 1 101 (dk_at dksX0_seed_0 4 rfl rfl)
theorem dX0_seed_7 : decode cX0_seed 7 = .ok (.istore_n 2, 1) := dk_61 (dk_at dksX0_seed_0 7 rfl rfl)
theorem dX0_seed_8 : decode cX0_seed 8 = .ok (.aload_n 0, 1) := dk_42 (dk_at dksX0_seed_0 8 rfl rfl)
theorem dX0_seed_9 : decode cX0_seed 9 = .ok (.getfield 30, 3) := dk_180 0 30 (dk_at dksX0_seed_0 9 rfl rfl)
theorem dX0_seed_12 : decode cX0_seed 12 = .ok (.iload_n 1, 1) := dk_27 (dk_at dksX0_seed_0 12 rfl rfl)
theorem dX0_seed_13 : decode cX0_seed 13 = .ok (.putfield 357, 3) := dk_181 1 101 (dk_at dksX0_seed_0 13 rfl rfl)
theorem dX0_seed_16 : decode cX0_seed 16 = .ok (.iload_n 2, 1) := dk_28 (dk_at dksX0_seed_0 16 rfl rfl)
theorem dX0_seed_17 : decode cX0_seed 17 = .ok (.ireturn, 1) := dk_172 (dk_at dksX0_seed_0 17 rfl rfl)
abbrev cX0_image : ByteArray := prog_1_method_70_code
def yX0_image : MethodName := ⟨RX0, "image", "()I"⟩
def dkwX0_image_0 : List UInt8 := [42, 42, 180, 0, 30, 182, 0, 202, 181, 1, 104, 4, 172]
abbrev dktX0_image_0 : List UInt8 := dkwX0_image_0 ++ []
theorem dksX0_image_0 : cX0_image.data.toList.drop 0 = dktX0_image_0 := by decide +kernel
theorem dX0_image_0 : decode cX0_image 0 = .ok (.aload_n 0, 1) := dk_42 (dk_at dksX0_image_0 0 rfl rfl)
theorem dX0_image_1 : decode cX0_image 1 = .ok (.aload_n 0, 1) := dk_42 (dk_at dksX0_image_0 1 rfl rfl)
theorem dX0_image_2 : decode cX0_image 2 = .ok (.getfield 30, 3) := dk_180 0 30 (dk_at dksX0_image_0 2 rfl rfl)
theorem dX0_image_5 : decode cX0_image 5 = .ok (.invokevirtual 202, 3) := dk_182 0 202 (dk_at dksX0_image_0 5 rfl rfl)
theorem dX0_image_8 : decode cX0_image 8 = .ok (.putfield 360, 3) := dk_181 1 104 (dk_at dksX0_image_0 8 rfl rfl)
theorem dX0_image_11 : decode cX0_image 11 = .ok (.iconst 1, 1) := dk_4 (dk_at dksX0_image_0 11 rfl rfl)
theorem dX0_image_12 : decode cX0_image 12 = .ok (.ireturn, 1) := dk_172 (dk_at dksX0_image_0 12 rfl rfl)
abbrev cX0_back : ByteArray := prog_1_method_71_code
def yX0_back : MethodName := ⟨RX0, "back", "()I"⟩
def dkwX0_back_4 : List UInt8 := [181, 0, 93, 132, 1, 1, 167, 255, 186, 4, 172]
abbrev dktX0_back_4 : List UInt8 := dkwX0_back_4 ++ []
def dkwX0_back_3 : List UInt8 := [50, 42, 28, 182, 0, 136, 153, 0, 15, 42, 180, 0, 30, 180, 0, 139, 28, 50, 167, 0, 4, 1]
abbrev dktX0_back_3 : List UInt8 := dkwX0_back_3 ++ dktX0_back_4
def dkwX0_back_2 : List UInt8 := [153, 0, 49, 42, 180, 0, 45, 27, 50, 180, 0, 93, 192, 0, 1, 180, 0, 133, 61, 42, 180, 0, 45, 27]
abbrev dktX0_back_2 : List UInt8 := dkwX0_back_2 ++ dktX0_back_3
def dkwX0_back_1 : List UInt8 := [181, 0, 30, 3, 60, 27, 16, 8, 162, 0, 70, 42, 180, 0, 45, 27, 50, 180, 0, 93, 193, 0, 1]
abbrev dktX0_back_1 : List UInt8 := dkwX0_back_1 ++ dktX0_back_2
def dkwX0_back_0 : List UInt8 := [42, 180, 1, 104, 199, 0, 10, 42, 16, 251, 182, 0, 85, 172, 42, 42, 180, 1, 104, 182, 0, 202]
abbrev dktX0_back_0 : List UInt8 := dkwX0_back_0 ++ dktX0_back_1
theorem dksX0_back_0 : cX0_back.data.toList.drop 0 = dktX0_back_0 := by decide +kernel
theorem dksX0_back_1 : cX0_back.data.toList.drop 22 = dktX0_back_1 := dk_seg dksX0_back_0 22 rfl rfl
theorem dksX0_back_2 : cX0_back.data.toList.drop 45 = dktX0_back_2 := dk_seg dksX0_back_1 23 rfl rfl
theorem dksX0_back_3 : cX0_back.data.toList.drop 69 = dktX0_back_3 := dk_seg dksX0_back_2 24 rfl rfl
theorem dksX0_back_4 : cX0_back.data.toList.drop 91 = dktX0_back_4 := dk_seg dksX0_back_3 22 rfl rfl
theorem dX0_back_0 : decode cX0_back 0 = .ok (.aload_n 0, 1) := dk_42 (dk_at dksX0_back_0 0 rfl rfl)
theorem dX0_back_1 : decode cX0_back 1 = .ok (.getfield 360, 3) := dk_180 1 104 (dk_at dksX0_back_0 1 rfl rfl)
theorem dX0_back_4 : decode cX0_back 4 = .ok (.ifnonnull 10, 3) := dk_199 0 10 (dk_at dksX0_back_0 4 rfl rfl)
theorem dX0_back_7 : decode cX0_back 7 = .ok (.aload_n 0, 1) := dk_42 (dk_at dksX0_back_0 7 rfl rfl)
theorem dX0_back_8 : decode cX0_back 8 = .ok (.bipush (-5), 2) := dk_16 251 (dk_at dksX0_back_0 8 rfl rfl)
theorem dX0_back_10 : decode cX0_back 10 = .ok (.invokevirtual 85, 3) := dk_182 0 85 (dk_at dksX0_back_0 10 rfl rfl)
theorem dX0_back_13 : decode cX0_back 13 = .ok (.ireturn, 1) := dk_172 (dk_at dksX0_back_0 13 rfl rfl)
theorem dX0_back_14 : decode cX0_back 14 = .ok (.aload_n 0, 1) := dk_42 (dk_at dksX0_back_0 14 rfl rfl)
theorem dX0_back_15 : decode cX0_back 15 = .ok (.aload_n 0, 1) := dk_42 (dk_at dksX0_back_0 15 rfl rfl)
theorem dX0_back_16 : decode cX0_back 16 = .ok (.getfield 360, 3) := dk_180 1 104 (dk_at dksX0_back_0 16 rfl rfl)
theorem dX0_back_19 : decode cX0_back 19 = .ok (.invokevirtual 202, 3) := dk_182 0 202 (dk_at dksX0_back_0 19 rfl rfl)
theorem dX0_back_22 : decode cX0_back 22 = .ok (.putfield 30, 3) := dk_181 0 30 (dk_at dksX0_back_1 0 rfl rfl)
theorem dX0_back_25 : decode cX0_back 25 = .ok (.iconst 0, 1) := dk_3 (dk_at dksX0_back_1 3 rfl rfl)
theorem dX0_back_26 : decode cX0_back 26 = .ok (.istore_n 1, 1) := dk_60 (dk_at dksX0_back_1 4 rfl rfl)
theorem dX0_back_27 : decode cX0_back 27 = .ok (.iload_n 1, 1) := dk_27 (dk_at dksX0_back_1 5 rfl rfl)
theorem dX0_back_28 : decode cX0_back 28 = .ok (.bipush 8, 2) := dk_16 8 (dk_at dksX0_back_1 6 rfl rfl)
theorem dX0_back_30 : decode cX0_back 30 = .ok (.if_icmp .ge 70, 3) := dk_162 0 70 (dk_at dksX0_back_1 8 rfl rfl)
theorem dX0_back_33 : decode cX0_back 33 = .ok (.aload_n 0, 1) := dk_42 (dk_at dksX0_back_1 11 rfl rfl)
theorem dX0_back_34 : decode cX0_back 34 = .ok (.getfield 45, 3) := dk_180 0 45 (dk_at dksX0_back_1 12 rfl rfl)
theorem dX0_back_37 : decode cX0_back 37 = .ok (.iload_n 1, 1) := dk_27 (dk_at dksX0_back_1 15 rfl rfl)
theorem dX0_back_38 : decode cX0_back 38 = .ok (.aaload, 1) := dk_50 (dk_at dksX0_back_1 16 rfl rfl)
theorem dX0_back_39 : decode cX0_back 39 = .ok (.getfield 93, 3) := dk_180 0 93 (dk_at dksX0_back_1 17 rfl rfl)
theorem dX0_back_42 : decode cX0_back 42 = .ok (.instanceof 1, 3) := dk_193 0 1 (dk_at dksX0_back_1 20 rfl rfl)
theorem dX0_back_45 : decode cX0_back 45 = .ok (.ifCond .eq 49, 3) := dk_153 0 49 (dk_at dksX0_back_2 0 rfl rfl)
theorem dX0_back_48 : decode cX0_back 48 = .ok (.aload_n 0, 1) := dk_42 (dk_at dksX0_back_2 3 rfl rfl)
theorem dX0_back_49 : decode cX0_back 49 = .ok (.getfield 45, 3) := dk_180 0 45 (dk_at dksX0_back_2 4 rfl rfl)
theorem dX0_back_52 : decode cX0_back 52 = .ok (.iload_n 1, 1) := dk_27 (dk_at dksX0_back_2 7 rfl rfl)
theorem dX0_back_53 : decode cX0_back 53 = .ok (.aaload, 1) := dk_50 (dk_at dksX0_back_2 8 rfl rfl)
theorem dX0_back_54 : decode cX0_back 54 = .ok (.getfield 93, 3) := dk_180 0 93 (dk_at dksX0_back_2 9 rfl rfl)
theorem dX0_back_57 : decode cX0_back 57 = .ok (.checkcast 1, 3) := dk_192 0 1 (dk_at dksX0_back_2 12 rfl rfl)
theorem dX0_back_60 : decode cX0_back 60 = .ok (.getfield 133, 3) := dk_180 0 133 (dk_at dksX0_back_2 15 rfl rfl)
theorem dX0_back_63 : decode cX0_back 63 = .ok (.istore_n 2, 1) := dk_61 (dk_at dksX0_back_2 18 rfl rfl)
theorem dX0_back_64 : decode cX0_back 64 = .ok (.aload_n 0, 1) := dk_42 (dk_at dksX0_back_2 19 rfl rfl)
theorem dX0_back_65 : decode cX0_back 65 = .ok (.getfield 45, 3) := dk_180 0 45 (dk_at dksX0_back_2 20 rfl rfl)
theorem dX0_back_68 : decode cX0_back 68 = .ok (.iload_n 1, 1) := dk_27 (dk_at dksX0_back_2 23 rfl rfl)
theorem dX0_back_69 : decode cX0_back 69 = .ok (.aaload, 1) := dk_50 (dk_at dksX0_back_3 0 rfl rfl)
theorem dX0_back_70 : decode cX0_back 70 = .ok (.aload_n 0, 1) := dk_42 (dk_at dksX0_back_3 1 rfl rfl)
theorem dX0_back_71 : decode cX0_back 71 = .ok (.iload_n 2, 1) := dk_28 (dk_at dksX0_back_3 2 rfl rfl)
theorem dX0_back_72 : decode cX0_back 72 = .ok (.invokevirtual 136, 3) := dk_182 0 136 (dk_at dksX0_back_3 3 rfl rfl)
theorem dX0_back_75 : decode cX0_back 75 = .ok (.ifCond .eq 15, 3) := dk_153 0 15 (dk_at dksX0_back_3 6 rfl rfl)
theorem dX0_back_78 : decode cX0_back 78 = .ok (.aload_n 0, 1) := dk_42 (dk_at dksX0_back_3 9 rfl rfl)
theorem dX0_back_79 : decode cX0_back 79 = .ok (.getfield 30, 3) := dk_180 0 30 (dk_at dksX0_back_3 10 rfl rfl)
theorem dX0_back_82 : decode cX0_back 82 = .ok (.getfield 139, 3) := dk_180 0 139 (dk_at dksX0_back_3 13 rfl rfl)
theorem dX0_back_85 : decode cX0_back 85 = .ok (.iload_n 2, 1) := dk_28 (dk_at dksX0_back_3 16 rfl rfl)
theorem dX0_back_86 : decode cX0_back 86 = .ok (.aaload, 1) := dk_50 (dk_at dksX0_back_3 17 rfl rfl)
theorem dX0_back_87 : decode cX0_back 87 = .ok (.goto 4, 3) := dk_167 0 4 (dk_at dksX0_back_3 18 rfl rfl)
theorem dX0_back_90 : decode cX0_back 90 = .ok (.aconst_null, 1) := dk_1 (dk_at dksX0_back_3 21 rfl rfl)
theorem dX0_back_91 : decode cX0_back 91 = .ok (.putfield 93, 3) := dk_181 0 93 (dk_at dksX0_back_4 0 rfl rfl)
theorem dX0_back_94 : decode cX0_back 94 = .ok (.iinc 1 1, 3) := dk_132 1 1 (dk_at dksX0_back_4 3 rfl rfl)
theorem dX0_back_97 : decode cX0_back 97 = .ok (.goto (-70), 3) := dk_167 255 186 (dk_at dksX0_back_4 6 rfl rfl)
theorem dX0_back_100 : decode cX0_back 100 = .ok (.iconst 1, 1) := dk_4 (dk_at dksX0_back_4 9 rfl rfl)
theorem dX0_back_101 : decode cX0_back 101 = .ok (.ireturn, 1) := dk_172 (dk_at dksX0_back_4 10 rfl rfl)
abbrev cX0_status : ByteArray := prog_1_method_74_code
def yX0_status : MethodName := ⟨RX0, "status", "(I)I"⟩
def dkwX0_status_4 : List UInt8 := [180, 0, 197, 172, 42, 180, 0, 30, 180, 1, 101, 172, 42, 182, 1, 115, 172, 2, 172]
abbrev dktX0_status_4 : List UInt8 := dkwX0_status_4 ++ []
def dkwX0_status_3 : List UInt8 := [42, 180, 0, 30, 180, 1, 109, 172, 42, 180, 0, 30, 180, 1, 92, 172, 42, 182, 1, 112, 172, 42]
abbrev dktX0_status_3 : List UInt8 := dkwX0_status_3 ++ dktX0_status_4
def dkwX0_status_2 : List UInt8 := [42, 180, 0, 30, 180, 0, 61, 172, 42, 180, 0, 30, 180, 0, 65, 172, 42, 180, 0, 30, 180, 1, 107, 172]
abbrev dktX0_status_2 : List UInt8 := dkwX0_status_2 ++ dktX0_status_3
def dkwX0_status_1 : List UInt8 := [170, 0, 0, 0, 0, 113, 0, 0, 0, 0, 0, 0, 0, 8, 0, 0, 0, 50, 0, 0, 0, 58, 0, 0, 0, 66, 0, 0, 0, 74, 0, 0, 0, 82, 0, 0, 0, 90, 0, 0, 0, 95, 0, 0, 0, 100, 0, 0, 0, 108]
abbrev dktX0_status_1 : List UInt8 := dkwX0_status_1 ++ dktX0_status_2
def dkwX0_status_0 : List UInt8 := [27, 16, 12, 16, 16, 184, 0, 57, 153, 0, 13, 42, 180, 0, 53, 27, 16, 10, 100, 46, 172, 27]
abbrev dktX0_status_0 : List UInt8 := dkwX0_status_0 ++ dktX0_status_1
theorem dksX0_status_0 : cX0_status.data.toList.drop 0 = dktX0_status_0 := by decide +kernel
theorem dksX0_status_1 : cX0_status.data.toList.drop 22 = dktX0_status_1 := dk_seg dksX0_status_0 22 rfl rfl
theorem dksX0_status_2 : cX0_status.data.toList.drop 72 = dktX0_status_2 := dk_seg dksX0_status_1 50 rfl rfl
theorem dksX0_status_3 : cX0_status.data.toList.drop 96 = dktX0_status_3 := dk_seg dksX0_status_2 24 rfl rfl
theorem dksX0_status_4 : cX0_status.data.toList.drop 118 = dktX0_status_4 := dk_seg dksX0_status_3 22 rfl rfl
theorem dX0_status_0 : decode cX0_status 0 = .ok (.iload_n 1, 1) := dk_27 (dk_at dksX0_status_0 0 rfl rfl)
theorem dX0_status_1 : decode cX0_status 1 = .ok (.bipush 12, 2) := dk_16 12 (dk_at dksX0_status_0 1 rfl rfl)
theorem dX0_status_3 : decode cX0_status 3 = .ok (.bipush 16, 2) := dk_16 16 (dk_at dksX0_status_0 3 rfl rfl)
theorem dX0_status_5 : decode cX0_status 5 = .ok (.invokestatic 57, 3) := dk_184 0 57 (dk_at dksX0_status_0 5 rfl rfl)
theorem dX0_status_8 : decode cX0_status 8 = .ok (.ifCond .eq 13, 3) := dk_153 0 13 (dk_at dksX0_status_0 8 rfl rfl)
theorem dX0_status_11 : decode cX0_status 11 = .ok (.aload_n 0, 1) := dk_42 (dk_at dksX0_status_0 11 rfl rfl)
theorem dX0_status_12 : decode cX0_status 12 = .ok (.getfield 53, 3) := dk_180 0 53 (dk_at dksX0_status_0 12 rfl rfl)
theorem dX0_status_15 : decode cX0_status 15 = .ok (.iload_n 1, 1) := dk_27 (dk_at dksX0_status_0 15 rfl rfl)
theorem dX0_status_16 : decode cX0_status 16 = .ok (.bipush 10, 2) := dk_16 10 (dk_at dksX0_status_0 16 rfl rfl)
theorem dX0_status_18 : decode cX0_status 18 = .ok (.isub, 1) := dk_100 (dk_at dksX0_status_0 18 rfl rfl)
theorem dX0_status_19 : decode cX0_status 19 = .ok (.iaload, 1) := dk_46 (dk_at dksX0_status_0 19 rfl rfl)
theorem dX0_status_20 : decode cX0_status 20 = .ok (.ireturn, 1) := dk_172 (dk_at dksX0_status_0 20 rfl rfl)
theorem dX0_status_21 : decode cX0_status 21 = .ok (.iload_n 1, 1) := dk_27 (dk_at dksX0_status_0 21 rfl rfl)
theorem dX0_status_22 : decode cX0_status 22 = .ok (.tableswitch 113 0 8 #[50, 58, 66, 74, 82, 90, 95, 100, 108], 50) := by decide +kernel
theorem dX0_status_72 : decode cX0_status 72 = .ok (.aload_n 0, 1) := dk_42 (dk_at dksX0_status_2 0 rfl rfl)
theorem dX0_status_73 : decode cX0_status 73 = .ok (.getfield 30, 3) := dk_180 0 30 (dk_at dksX0_status_2 1 rfl rfl)
theorem dX0_status_76 : decode cX0_status 76 = .ok (.getfield 61, 3) := dk_180 0 61 (dk_at dksX0_status_2 4 rfl rfl)
theorem dX0_status_79 : decode cX0_status 79 = .ok (.ireturn, 1) := dk_172 (dk_at dksX0_status_2 7 rfl rfl)
theorem dX0_status_80 : decode cX0_status 80 = .ok (.aload_n 0, 1) := dk_42 (dk_at dksX0_status_2 8 rfl rfl)
theorem dX0_status_81 : decode cX0_status 81 = .ok (.getfield 30, 3) := dk_180 0 30 (dk_at dksX0_status_2 9 rfl rfl)
theorem dX0_status_84 : decode cX0_status 84 = .ok (.getfield 65, 3) := dk_180 0 65 (dk_at dksX0_status_2 12 rfl rfl)
theorem dX0_status_87 : decode cX0_status 87 = .ok (.ireturn, 1) := dk_172 (dk_at dksX0_status_2 15 rfl rfl)
theorem dX0_status_88 : decode cX0_status 88 = .ok (.aload_n 0, 1) := dk_42 (dk_at dksX0_status_2 16 rfl rfl)
theorem dX0_status_89 : decode cX0_status 89 = .ok (.getfield 30, 3) := dk_180 0 30 (dk_at dksX0_status_2 17 rfl rfl)
theorem dX0_status_92 : decode cX0_status 92 = .ok (.getfield 363, 3) := dk_180 1 107 (dk_at dksX0_status_2 20 rfl rfl)
theorem dX0_status_95 : decode cX0_status 95 = .ok (.ireturn, 1) := dk_172 (dk_at dksX0_status_2 23 rfl rfl)
theorem dX0_status_96 : decode cX0_status 96 = .ok (.aload_n 0, 1) := dk_42 (dk_at dksX0_status_3 0 rfl rfl)
theorem dX0_status_97 : decode cX0_status 97 = .ok (.getfield 30, 3) := dk_180 0 30 (dk_at dksX0_status_3 1 rfl rfl)
theorem dX0_status_100 : decode cX0_status 100 = .ok (.getfield 365, 3) := dk_180 1 109 (dk_at dksX0_status_3 4 rfl rfl)
theorem dX0_status_103 : decode cX0_status 103 = .ok (.ireturn, 1) := dk_172 (dk_at dksX0_status_3 7 rfl rfl)
theorem dX0_status_104 : decode cX0_status 104 = .ok (.aload_n 0, 1) := dk_42 (dk_at dksX0_status_3 8 rfl rfl)
theorem dX0_status_105 : decode cX0_status 105 = .ok (.getfield 30, 3) := dk_180 0 30 (dk_at dksX0_status_3 9 rfl rfl)
theorem dX0_status_108 : decode cX0_status 108 = .ok (.getfield 348, 3) := dk_180 1 92 (dk_at dksX0_status_3 12 rfl rfl)
theorem dX0_status_111 : decode cX0_status 111 = .ok (.ireturn, 1) := dk_172 (dk_at dksX0_status_3 15 rfl rfl)
theorem dX0_status_112 : decode cX0_status 112 = .ok (.aload_n 0, 1) := dk_42 (dk_at dksX0_status_3 16 rfl rfl)
theorem dX0_status_113 : decode cX0_status 113 = .ok (.invokevirtual 368, 3) := dk_182 1 112 (dk_at dksX0_status_3 17 rfl rfl)
theorem dX0_status_116 : decode cX0_status 116 = .ok (.ireturn, 1) := dk_172 (dk_at dksX0_status_3 20 rfl rfl)
theorem dX0_status_117 : decode cX0_status 117 = .ok (.aload_n 0, 1) := dk_42 (dk_at dksX0_status_3 21 rfl rfl)
theorem dX0_status_118 : decode cX0_status 118 = .ok (.getfield 197, 3) := dk_180 0 197 (dk_at dksX0_status_4 0 rfl rfl)
theorem dX0_status_121 : decode cX0_status 121 = .ok (.ireturn, 1) := dk_172 (dk_at dksX0_status_4 3 rfl rfl)
theorem dX0_status_122 : decode cX0_status 122 = .ok (.aload_n 0, 1) := dk_42 (dk_at dksX0_status_4 4 rfl rfl)
theorem dX0_status_123 : decode cX0_status 123 = .ok (.getfield 30, 3) := dk_180 0 30 (dk_at dksX0_status_4 5 rfl rfl)
theorem dX0_status_126 : decode cX0_status 126 = .ok (.getfield 357, 3) := dk_180 1 101 (dk_at dksX0_status_4 8 rfl rfl)
theorem dX0_status_129 : decode cX0_status 129 = .ok (.ireturn, 1) := dk_172 (dk_at dksX0_status_4 11 rfl rfl)
theorem dX0_status_130 : decode cX0_status 130 = .ok (.aload_n 0, 1) := dk_42 (dk_at dksX0_status_4 12 rfl rfl)
theorem dX0_status_131 : decode cX0_status 131 = .ok (.invokevirtual 371, 3) := dk_182 1 115 (dk_at dksX0_status_4 13 rfl rfl)
theorem dX0_status_134 : decode cX0_status 134 = .ok (.ireturn, 1) := dk_172 (dk_at dksX0_status_4 16 rfl rfl)
theorem dX0_status_135 : decode cX0_status 135 = .ok (.iconst (-1), 1) := dk_2 (dk_at dksX0_status_4 17 rfl rfl)
theorem dX0_status_136 : decode cX0_status 136 = .ok (.ireturn, 1) := dk_172 (dk_at dksX0_status_4 18 rfl rfl)
abbrev cX0_high : ByteArray := prog_1_method_73_code
def yX0_high : MethodName := ⟨RX0, "high", "()I"⟩
def dkwX0_high_1 : List UInt8 := [50, 180, 0, 194, 96, 60, 132, 2, 1, 167, 255, 227, 27, 172]
abbrev dktX0_high_1 : List UInt8 := dkwX0_high_1 ++ []
def dkwX0_high_0 : List UInt8 := [3, 60, 3, 61, 28, 42, 180, 0, 30, 180, 0, 61, 162, 0, 24, 27, 42, 180, 0, 30, 180, 0, 147, 28]
abbrev dktX0_high_0 : List UInt8 := dkwX0_high_0 ++ dktX0_high_1
theorem dksX0_high_0 : cX0_high.data.toList.drop 0 = dktX0_high_0 := by decide +kernel
theorem dksX0_high_1 : cX0_high.data.toList.drop 24 = dktX0_high_1 := dk_seg dksX0_high_0 24 rfl rfl
theorem dX0_high_0 : decode cX0_high 0 = .ok (.iconst 0, 1) := dk_3 (dk_at dksX0_high_0 0 rfl rfl)
theorem dX0_high_1 : decode cX0_high 1 = .ok (.istore_n 1, 1) := dk_60 (dk_at dksX0_high_0 1 rfl rfl)
theorem dX0_high_2 : decode cX0_high 2 = .ok (.iconst 0, 1) := dk_3 (dk_at dksX0_high_0 2 rfl rfl)
theorem dX0_high_3 : decode cX0_high 3 = .ok (.istore_n 2, 1) := dk_61 (dk_at dksX0_high_0 3 rfl rfl)
theorem dX0_high_4 : decode cX0_high 4 = .ok (.iload_n 2, 1) := dk_28 (dk_at dksX0_high_0 4 rfl rfl)
theorem dX0_high_5 : decode cX0_high 5 = .ok (.aload_n 0, 1) := dk_42 (dk_at dksX0_high_0 5 rfl rfl)
theorem dX0_high_6 : decode cX0_high 6 = .ok (.getfield 30, 3) := dk_180 0 30 (dk_at dksX0_high_0 6 rfl rfl)
theorem dX0_high_9 : decode cX0_high 9 = .ok (.getfield 61, 3) := dk_180 0 61 (dk_at dksX0_high_0 9 rfl rfl)
theorem dX0_high_12 : decode cX0_high 12 = .ok (.if_icmp .ge 24, 3) := dk_162 0 24 (dk_at dksX0_high_0 12 rfl rfl)
theorem dX0_high_15 : decode cX0_high 15 = .ok (.iload_n 1, 1) := dk_27 (dk_at dksX0_high_0 15 rfl rfl)
theorem dX0_high_16 : decode cX0_high 16 = .ok (.aload_n 0, 1) := dk_42 (dk_at dksX0_high_0 16 rfl rfl)
theorem dX0_high_17 : decode cX0_high 17 = .ok (.getfield 30, 3) := dk_180 0 30 (dk_at dksX0_high_0 17 rfl rfl)
theorem dX0_high_20 : decode cX0_high 20 = .ok (.getfield 147, 3) := dk_180 0 147 (dk_at dksX0_high_0 20 rfl rfl)
theorem dX0_high_23 : decode cX0_high 23 = .ok (.iload_n 2, 1) := dk_28 (dk_at dksX0_high_0 23 rfl rfl)
theorem dX0_high_24 : decode cX0_high 24 = .ok (.aaload, 1) := dk_50 (dk_at dksX0_high_1 0 rfl rfl)
theorem dX0_high_25 : decode cX0_high 25 = .ok (.getfield 194, 3) := dk_180 0 194 (dk_at dksX0_high_1 1 rfl rfl)
theorem dX0_high_28 : decode cX0_high 28 = .ok (.iadd, 1) := dk_96 (dk_at dksX0_high_1 4 rfl rfl)
theorem dX0_high_29 : decode cX0_high 29 = .ok (.istore_n 1, 1) := dk_60 (dk_at dksX0_high_1 5 rfl rfl)
theorem dX0_high_30 : decode cX0_high 30 = .ok (.iinc 2 1, 3) := dk_132 2 1 (dk_at dksX0_high_1 6 rfl rfl)
theorem dX0_high_33 : decode cX0_high 33 = .ok (.goto (-29), 3) := dk_167 255 227 (dk_at dksX0_high_1 9 rfl rfl)
theorem dX0_high_36 : decode cX0_high 36 = .ok (.iload_n 1, 1) := dk_27 (dk_at dksX0_high_1 12 rfl rfl)
theorem dX0_high_37 : decode cX0_high 37 = .ok (.ireturn, 1) := dk_172 (dk_at dksX0_high_1 13 rfl rfl)
abbrev cX0_held : ByteArray := prog_1_method_72_code
def yX0_held : MethodName := ⟨RX0, "held", "()I"⟩
def dkwX0_held_1 : List UInt8 := [167, 0, 4, 3, 96, 60, 132, 2, 1, 167, 255, 227, 27, 172]
abbrev dktX0_held_1 : List UInt8 := dkwX0_held_1 ++ []
def dkwX0_held_0 : List UInt8 := [3, 60, 3, 61, 28, 16, 8, 162, 0, 29, 27, 42, 180, 0, 45, 28, 50, 180, 0, 93, 198, 0, 7, 4]
abbrev dktX0_held_0 : List UInt8 := dkwX0_held_0 ++ dktX0_held_1
theorem dksX0_held_0 : cX0_held.data.toList.drop 0 = dktX0_held_0 := by decide +kernel
theorem dksX0_held_1 : cX0_held.data.toList.drop 24 = dktX0_held_1 := dk_seg dksX0_held_0 24 rfl rfl
theorem dX0_held_0 : decode cX0_held 0 = .ok (.iconst 0, 1) := dk_3 (dk_at dksX0_held_0 0 rfl rfl)
theorem dX0_held_1 : decode cX0_held 1 = .ok (.istore_n 1, 1) := dk_60 (dk_at dksX0_held_0 1 rfl rfl)
theorem dX0_held_2 : decode cX0_held 2 = .ok (.iconst 0, 1) := dk_3 (dk_at dksX0_held_0 2 rfl rfl)
theorem dX0_held_3 : decode cX0_held 3 = .ok (.istore_n 2, 1) := dk_61 (dk_at dksX0_held_0 3 rfl rfl)
theorem dX0_held_4 : decode cX0_held 4 = .ok (.iload_n 2, 1) := dk_28 (dk_at dksX0_held_0 4 rfl rfl)
theorem dX0_held_5 : decode cX0_held 5 = .ok (.bipush 8, 2) := dk_16 8 (dk_at dksX0_held_0 5 rfl rfl)
theorem dX0_held_7 : decode cX0_held 7 = .ok (.if_icmp .ge 29, 3) := dk_162 0 29 (dk_at dksX0_held_0 7 rfl rfl)
theorem dX0_held_10 : decode cX0_held 10 = .ok (.iload_n 1, 1) := dk_27 (dk_at dksX0_held_0 10 rfl rfl)
theorem dX0_held_11 : decode cX0_held 11 = .ok (.aload_n 0, 1) := dk_42 (dk_at dksX0_held_0 11 rfl rfl)
theorem dX0_held_12 : decode cX0_held 12 = .ok (.getfield 45, 3) := dk_180 0 45 (dk_at dksX0_held_0 12 rfl rfl)
theorem dX0_held_15 : decode cX0_held 15 = .ok (.iload_n 2, 1) := dk_28 (dk_at dksX0_held_0 15 rfl rfl)
theorem dX0_held_16 : decode cX0_held 16 = .ok (.aaload, 1) := dk_50 (dk_at dksX0_held_0 16 rfl rfl)
theorem dX0_held_17 : decode cX0_held 17 = .ok (.getfield 93, 3) := dk_180 0 93 (dk_at dksX0_held_0 17 rfl rfl)
theorem dX0_held_20 : decode cX0_held 20 = .ok (.ifnull 7, 3) := dk_198 0 7 (dk_at dksX0_held_0 20 rfl rfl)
theorem dX0_held_23 : decode cX0_held 23 = .ok (.iconst 1, 1) := dk_4 (dk_at dksX0_held_0 23 rfl rfl)
theorem dX0_held_24 : decode cX0_held 24 = .ok (.goto 4, 3) := dk_167 0 4 (dk_at dksX0_held_1 0 rfl rfl)
theorem dX0_held_27 : decode cX0_held 27 = .ok (.iconst 0, 1) := dk_3 (dk_at dksX0_held_1 3 rfl rfl)
theorem dX0_held_28 : decode cX0_held 28 = .ok (.iadd, 1) := dk_96 (dk_at dksX0_held_1 4 rfl rfl)
theorem dX0_held_29 : decode cX0_held 29 = .ok (.istore_n 1, 1) := dk_60 (dk_at dksX0_held_1 5 rfl rfl)
theorem dX0_held_30 : decode cX0_held 30 = .ok (.iinc 2 1, 3) := dk_132 2 1 (dk_at dksX0_held_1 6 rfl rfl)
theorem dX0_held_33 : decode cX0_held 33 = .ok (.goto (-29), 3) := dk_167 255 227 (dk_at dksX0_held_1 9 rfl rfl)
theorem dX0_held_36 : decode cX0_held 36 = .ok (.iload_n 1, 1) := dk_27 (dk_at dksX0_held_1 12 rfl rfl)
theorem dX0_held_37 : decode cX0_held 37 = .ok (.ireturn, 1) := dk_172 (dk_at dksX0_held_1 13 rfl rfl)
theorem q74 : (Jvm.Cond.initialized "StairOnSticks") ∈ lw_all := lw_g (lw_at lw_m1 1 rfl) rfl
theorem q111 : (Jvm.Cond.instantiable "StairOnSticks" (7 : Nat)) ∈ lw_all := lw_g (lw_at lw_m1 38 rfl) rfl
theorem q113 : (Jvm.Cond.instanceMethod ({ cls := "StairOnSticks", name := "<init>", desc := "()V" } : Jvm.MethodName)) ∈ lw_all := lw_g (lw_at lw_m1 40 rfl) rfl
theorem q114 : (Jvm.Cond.code ({ cls := "StairOnSticks", name := "<init>", desc := "()V" } : Jvm.MethodName) prog_1_method_4_code (2 : Nat) (Option.none : Option Jvm.ClassFile.FieldType)) ∈ lw_all := lw_g (lw_at lw_m1 41 rfl) rfl
theorem q115 : (Jvm.Cond.methodLink "StairOnSticks" (22 : Nat) ({ cls := "java/lang/Object", name := "<init>", desc := "()V" } : Jvm.MethodName)) ∈ lw_all := lw_g (lw_at lw_m1 42 rfl) rfl
theorem q118 : (Jvm.Cond.classLink "StairOnSticks" (27 : Nat) "StairOnSticks$Stair") ∈ lw_all := lw_g (lw_at lw_m1 45 rfl) rfl
theorem q120 : (Jvm.Cond.methodLinkNest "StairOnSticks" (29 : Nat) ({ cls := "StairOnSticks$Stair", name := "<init>", desc := "()V" } : Jvm.MethodName) "StairOnSticks") ∈ lw_tbl := lw_at lw_m1 47 rfl
theorem q137 : (Jvm.Cond.fieldLink "StairOnSticks" (181 : Nat) "StairOnSticks$Person" "is" "[I") ∈ lw_all := lw_g (lw_at lw_m1 64 rfl) rfl
theorem q145 : (Jvm.Cond.fieldLink "StairOnSticks" (147 : Nat) "StairOnSticks$Stair" "step" "[LStairOnSticks$Step;") ∈ lw_all := lw_g (lw_at lw_m1 72 rfl) rfl
theorem q148 : (Jvm.Cond.fieldLink "StairOnSticks" (139 : Nat) "StairOnSticks$Stair" "way" "[LStairOnSticks$Move;") ∈ lw_all := lw_g (lw_at lw_m1 75 rfl) rfl
theorem q152 : (Jvm.Cond.fieldLink "StairOnSticks" (143 : Nat) "StairOnSticks$Stair" "person" "LStairOnSticks$Person;") ∈ lw_all := lw_g (lw_at lw_m1 79 rfl) rfl
theorem q155 : (Jvm.Cond.fieldLink "StairOnSticks" (61 : Nat) "StairOnSticks$Stair" "steps" "I") ∈ lw_all := lw_g (lw_at lw_m1 82 rfl) rfl
theorem q159 : (Jvm.Cond.fieldLink "StairOnSticks" (65 : Nat) "StairOnSticks$Stair" "ways" "I") ∈ lw_all := lw_g (lw_at lw_m1 86 rfl) rfl
theorem q162 : (Jvm.Cond.fieldLink "StairOnSticks" (357 : Nat) "StairOnSticks$Stair" "seed" "I") ∈ lw_all := lw_g (lw_at lw_m1 89 rfl) rfl
theorem q164 : (Jvm.Cond.fieldLink "StairOnSticks" (363 : Nat) "StairOnSticks$Stair" "climbs" "I") ∈ lw_all := lw_g (lw_at lw_m1 91 rfl) rfl
theorem q166 : (Jvm.Cond.fieldLink "StairOnSticks" (365 : Nat) "StairOnSticks$Stair" "tops" "I") ∈ lw_all := lw_g (lw_at lw_m1 93 rfl) rfl
theorem q168 : (Jvm.Cond.fieldLink "StairOnSticks" (348 : Nat) "StairOnSticks$Stair" "weeks" "I") ∈ lw_all := lw_g (lw_at lw_m1 95 rfl) rfl
theorem q188 : (Jvm.Cond.classLink "StairOnSticks" (36 : Nat) "StairOnSticks$Best") ∈ lw_all := lw_g (lw_at lw_m1 115 rfl) rfl
theorem q190 : (Jvm.Cond.methodLinkNest "StairOnSticks" (38 : Nat) ({ cls := "StairOnSticks$Best", name := "<init>", desc := "()V" } : Jvm.MethodName) "StairOnSticks") ∈ lw_tbl := lw_at lw_m1 117 rfl
theorem q215 : (Jvm.Cond.classLink "StairOnSticks" (43 : Nat) "StairOnSticks$Sheet") ∈ lw_all := lw_g (lw_at lw_m1 142 rfl) rfl
theorem q218 : (Jvm.Cond.methodLinkNest "StairOnSticks" (56 : Nat) ({ cls := "StairOnSticks$Sheet", name := "<init>", desc := "()V" } : Jvm.MethodName) "StairOnSticks") ∈ lw_tbl := lw_at lw_m1 145 rfl
theorem q222 : (Jvm.Cond.fieldLink "StairOnSticks" (93 : Nat) "StairOnSticks$Sheet" "held" "Ljava/lang/Object;") ∈ lw_all := lw_g (lw_at lw_m1 149 rfl) rfl
theorem q226 : (Jvm.Cond.fieldLink "StairOnSticks" (30 : Nat) "StairOnSticks" "now" "LStairOnSticks$Stair;") ∈ lw_all := lw_g (lw_at lw_m1 153 rfl) rfl
theorem q227 : (Jvm.Cond.fieldLink "StairOnSticks" (360 : Nat) "StairOnSticks" "image" "LStairOnSticks$Stair;") ∈ lw_all := lw_g (lw_at lw_m1 154 rfl) rfl
theorem q228 : (Jvm.Cond.fieldLink "StairOnSticks" (39 : Nat) "StairOnSticks" "best" "LStairOnSticks$Best;") ∈ lw_all := lw_g (lw_at lw_m1 155 rfl) rfl
theorem q229 : (Jvm.Cond.fieldLink "StairOnSticks" (45 : Nat) "StairOnSticks" "shelves" "[LStairOnSticks$Sheet;") ∈ lw_all := lw_g (lw_at lw_m1 156 rfl) rfl
theorem q230 : (Jvm.Cond.fieldLink "StairOnSticks" (49 : Nat) "StairOnSticks" "tape" "[I") ∈ lw_all := lw_g (lw_at lw_m1 157 rfl) rfl
theorem q231 : (Jvm.Cond.fieldLink "StairOnSticks" (197 : Nat) "StairOnSticks" "size" "I") ∈ lw_all := lw_g (lw_at lw_m1 158 rfl) rfl
theorem q232 : (Jvm.Cond.fieldLink "StairOnSticks" (53 : Nat) "StairOnSticks" "refused" "[I") ∈ lw_all := lw_g (lw_at lw_m1 159 rfl) rfl
theorem q233 : (Jvm.Cond.lays "StairOnSticks" "StairOnSticks" "now" "LStairOnSticks$Stair;") ∈ lw_all := lw_g (lw_at lw_m1 160 rfl) rfl
theorem q234 : (Jvm.Cond.soleField "StairOnSticks" "now") ∈ lw_all := lw_g (lw_at lw_m1 161 rfl) rfl
theorem q235 : (Jvm.Cond.lays "StairOnSticks" "StairOnSticks" "image" "LStairOnSticks$Stair;") ∈ lw_all := lw_g (lw_at lw_m1 162 rfl) rfl
theorem q236 : (Jvm.Cond.soleField "StairOnSticks" "image") ∈ lw_all := lw_g (lw_at lw_m1 163 rfl) rfl
theorem q237 : (Jvm.Cond.laysFinal "StairOnSticks" "StairOnSticks" "best" "LStairOnSticks$Best;") ∈ lw_all := lw_g (lw_at lw_m1 164 rfl) rfl
theorem q238 : (Jvm.Cond.soleField "StairOnSticks" "best") ∈ lw_all := lw_g (lw_at lw_m1 165 rfl) rfl
theorem q239 : (Jvm.Cond.laysFinal "StairOnSticks" "StairOnSticks" "shelves" "[LStairOnSticks$Sheet;") ∈ lw_all := lw_g (lw_at lw_m1 166 rfl) rfl
theorem q240 : (Jvm.Cond.soleField "StairOnSticks" "shelves") ∈ lw_all := lw_g (lw_at lw_m1 167 rfl) rfl
theorem q241 : (Jvm.Cond.laysFinal "StairOnSticks" "StairOnSticks" "tape" "[I") ∈ lw_all := lw_g (lw_at lw_m1 168 rfl) rfl
theorem q242 : (Jvm.Cond.soleField "StairOnSticks" "tape") ∈ lw_all := lw_g (lw_at lw_m1 169 rfl) rfl
theorem q243 : (Jvm.Cond.lays "StairOnSticks" "StairOnSticks" "size" "I") ∈ lw_all := lw_g (lw_at lw_m1 170 rfl) rfl
theorem q244 : (Jvm.Cond.soleField "StairOnSticks" "size") ∈ lw_all := lw_g (lw_at lw_m1 171 rfl) rfl
theorem q245 : (Jvm.Cond.laysFinal "StairOnSticks" "StairOnSticks" "refused" "[I") ∈ lw_all := lw_g (lw_at lw_m1 172 rfl) rfl
theorem q246 : (Jvm.Cond.soleField "StairOnSticks" "refused") ∈ lw_all := lw_g (lw_at lw_m1 173 rfl) rfl
theorem q247 : (Jvm.Cond.superclass "StairOnSticks" "java/lang/Object") ∈ lw_all := lw_g (lw_at lw_m1 174 rfl) rfl
theorem q249 : (Jvm.Cond.instanceMethod ({ cls := "StairOnSticks", name := "row", desc := "(III)I" } : Jvm.MethodName)) ∈ lw_all := lw_g (lw_at lw_m1 176 rfl) rfl
theorem q250 : (Jvm.Cond.selects "StairOnSticks" ({ cls := "StairOnSticks", name := "row", desc := "(III)I" } : Jvm.MethodName) ({ cls := "StairOnSticks", name := "row", desc := "(III)I" } : Jvm.MethodName)) ∈ lw_all := lw_g (lw_at lw_m1 177 rfl) rfl
theorem q251 : (Jvm.Cond.codeWith ({ cls := "StairOnSticks", name := "row", desc := "(III)I" } : Jvm.MethodName) prog_1_method_14_code (5 : Nat) (Option.some Jvm.ClassFile.FieldType.int) [((29 : Nat), (43 : Nat), (46 : Nat), (97 : Nat))]) ∈ lw_all := lw_g (lw_at lw_m1 178 rfl) rfl
theorem q252 : (Jvm.Cond.classLink "StairOnSticks" (97 : Nat) "java/lang/NegativeArraySizeException") ∈ lw_all := lw_g (lw_at lw_m1 179 rfl) rfl
theorem q340 : (Jvm.Cond.methodLink "StairOnSticks" (81 : Nat) ({ cls := "StairOnSticks", name := "isShelf", desc := "(I)Z" } : Jvm.MethodName)) ∈ lw_all := lw_g (lw_at lw_m2 27 rfl) rfl
theorem q341 : (Jvm.Cond.static ({ cls := "StairOnSticks", name := "isShelf", desc := "(I)Z" } : Jvm.MethodName)) ∈ lw_all := lw_g (lw_at lw_m2 28 rfl) rfl
theorem q342 : (Jvm.Cond.code ({ cls := "StairOnSticks", name := "isShelf", desc := "(I)Z" } : Jvm.MethodName) prog_1_method_6_code (1 : Nat) (Option.some Jvm.ClassFile.FieldType.boolean)) ∈ lw_all := lw_g (lw_at lw_m2 29 rfl) rfl
theorem q343 : (Jvm.Cond.methodLink "StairOnSticks" (57 : Nat) ({ cls := "StairOnSticks", name := "isIn", desc := "(III)Z" } : Jvm.MethodName)) ∈ lw_all := lw_g (lw_at lw_m2 30 rfl) rfl
theorem q344 : (Jvm.Cond.static ({ cls := "StairOnSticks", name := "isIn", desc := "(III)Z" } : Jvm.MethodName)) ∈ lw_all := lw_g (lw_at lw_m2 31 rfl) rfl
theorem q345 : (Jvm.Cond.code ({ cls := "StairOnSticks", name := "isIn", desc := "(III)Z" } : Jvm.MethodName) prog_1_method_1_code (3 : Nat) (Option.some Jvm.ClassFile.FieldType.boolean)) ∈ lw_all := lw_g (lw_at lw_m2 32 rfl) rfl
theorem q346 : (Jvm.Cond.methodLink "StairOnSticks" (85 : Nat) ({ cls := "StairOnSticks", name := "no", desc := "(I)I" } : Jvm.MethodName)) ∈ lw_all := lw_g (lw_at lw_m2 33 rfl) rfl
theorem q347 : (Jvm.Cond.privateMethod ({ cls := "StairOnSticks", name := "no", desc := "(I)I" } : Jvm.MethodName)) ∈ lw_tbl := lw_at lw_m2 34 rfl
theorem q348 : (Jvm.Cond.instanceMethod ({ cls := "StairOnSticks", name := "no", desc := "(I)I" } : Jvm.MethodName)) ∈ lw_all := lw_g (lw_at lw_m2 35 rfl) rfl
theorem q349 : (Jvm.Cond.code ({ cls := "StairOnSticks", name := "no", desc := "(I)I" } : Jvm.MethodName) prog_1_method_5_code (2 : Nat) (Option.some Jvm.ClassFile.FieldType.int)) ∈ lw_all := lw_g (lw_at lw_m2 36 rfl) rfl
theorem q350 : (Jvm.Cond.methodLink "StairOnSticks" (89 : Nat) ({ cls := "StairOnSticks", name := "rowOf", desc := "(II)Ljava/lang/Object;" } : Jvm.MethodName)) ∈ lw_all := lw_g (lw_at lw_m2 37 rfl) rfl
theorem q351 : (Jvm.Cond.static ({ cls := "StairOnSticks", name := "rowOf", desc := "(II)Ljava/lang/Object;" } : Jvm.MethodName)) ∈ lw_all := lw_g (lw_at lw_m2 38 rfl) rfl
theorem q352 : (Jvm.Cond.code ({ cls := "StairOnSticks", name := "rowOf", desc := "(II)Ljava/lang/Object;" } : Jvm.MethodName) prog_1_method_10_code (2 : Nat) (Option.some (Jvm.ClassFile.FieldType.object "java/lang/Object"))) ∈ lw_all := lw_g (lw_at lw_m2 39 rfl) rfl
theorem q357 : (Jvm.Cond.instanceMethod ({ cls := "StairOnSticks", name := "set", desc := "(IIJ)I" } : Jvm.MethodName)) ∈ lw_all := lw_g (lw_at lw_m2 44 rfl) rfl
theorem q358 : (Jvm.Cond.selects "StairOnSticks" ({ cls := "StairOnSticks", name := "set", desc := "(IIJ)I" } : Jvm.MethodName) ({ cls := "StairOnSticks", name := "set", desc := "(IIJ)I" } : Jvm.MethodName)) ∈ lw_all := lw_g (lw_at lw_m2 45 rfl) rfl
theorem q359 : (Jvm.Cond.codeWith ({ cls := "StairOnSticks", name := "set", desc := "(IIJ)I" } : Jvm.MethodName) prog_1_method_16_code (6 : Nat) (Option.some Jvm.ClassFile.FieldType.int) [((14 : Nat), (25 : Nat), (26 : Nat), (99 : Nat)), ((14 : Nat), (25 : Nat), (38 : Nat), (115 : Nat))]) ∈ lw_all := lw_g (lw_at lw_m2 46 rfl) rfl
theorem q360 : (Jvm.Cond.classLink "StairOnSticks" (99 : Nat) "StairOnSticks$Refused") ∈ lw_all := lw_g (lw_at lw_m2 47 rfl) rfl
theorem q361 : (Jvm.Cond.classLink "StairOnSticks" (115 : Nat) "java/lang/ArrayIndexOutOfBoundsException") ∈ lw_all := lw_g (lw_at lw_m2 48 rfl) rfl
theorem q380 : (Jvm.Cond.methodLink "StairOnSticks" (104 : Nat) ({ cls := "StairOnSticks", name := "rowIn", desc := "(I)Ljava/lang/Object;" } : Jvm.MethodName)) ∈ lw_all := lw_g (lw_at lw_m2 67 rfl) rfl
theorem q381 : (Jvm.Cond.privateMethod ({ cls := "StairOnSticks", name := "rowIn", desc := "(I)Ljava/lang/Object;" } : Jvm.MethodName)) ∈ lw_tbl := lw_at lw_m2 68 rfl
theorem q382 : (Jvm.Cond.instanceMethod ({ cls := "StairOnSticks", name := "rowIn", desc := "(I)Ljava/lang/Object;" } : Jvm.MethodName)) ∈ lw_all := lw_g (lw_at lw_m2 69 rfl) rfl
theorem q383 : (Jvm.Cond.code ({ cls := "StairOnSticks", name := "rowIn", desc := "(I)Ljava/lang/Object;" } : Jvm.MethodName) prog_1_method_15_code (3 : Nat) (Option.some (Jvm.ClassFile.FieldType.object "java/lang/Object"))) ∈ lw_all := lw_g (lw_at lw_m2 70 rfl) rfl
theorem q384 : (Jvm.Cond.classLink "StairOnSticks" (1 : Nat) "StairOnSticks$Move") ∈ lw_all := lw_g (lw_at lw_m2 71 rfl) rfl
theorem q393 : (Jvm.Cond.methodLink "StairOnSticks" (101 : Nat) ({ cls := "StairOnSticks$Refused", name := "<init>", desc := "(I)V" } : Jvm.MethodName)) ∈ lw_all := lw_g (lw_at lw_m2 80 rfl) rfl
theorem q406 : (Jvm.Cond.fieldLink "StairOnSticks" (112 : Nat) "StairOnSticks$Refused" "by" "I") ∈ lw_all := lw_g (lw_at lw_m2 93 rfl) rfl
theorem q411 : (Jvm.Cond.methodLink "StairOnSticks" (108 : Nat) ({ cls := "StairOnSticks", name := "puts", desc := "(Ljava/lang/Object;IJ)V" } : Jvm.MethodName)) ∈ lw_all := lw_g (lw_at lw_m2 98 rfl) rfl
theorem q412 : (Jvm.Cond.static ({ cls := "StairOnSticks", name := "puts", desc := "(Ljava/lang/Object;IJ)V" } : Jvm.MethodName)) ∈ lw_all := lw_g (lw_at lw_m2 99 rfl) rfl
theorem q413 : (Jvm.Cond.code ({ cls := "StairOnSticks", name := "puts", desc := "(Ljava/lang/Object;IJ)V" } : Jvm.MethodName) prog_1_method_13_code (4 : Nat) (Option.none : Option Jvm.ClassFile.FieldType)) ∈ lw_all := lw_g (lw_at lw_m2 100 rfl) rfl
theorem q414 : (Jvm.Cond.methodLink "StairOnSticks" (75 : Nat) ({ cls := "StairOnSticks", name := "sortOf", desc := "(Ljava/lang/Object;)I" } : Jvm.MethodName)) ∈ lw_all := lw_g (lw_at lw_m2 101 rfl) rfl
theorem q415 : (Jvm.Cond.static ({ cls := "StairOnSticks", name := "sortOf", desc := "(Ljava/lang/Object;)I" } : Jvm.MethodName)) ∈ lw_all := lw_g (lw_at lw_m2 102 rfl) rfl
theorem q416 : (Jvm.Cond.code ({ cls := "StairOnSticks", name := "sortOf", desc := "(Ljava/lang/Object;)I" } : Jvm.MethodName) prog_1_method_11_code (1 : Nat) (Option.some Jvm.ClassFile.FieldType.int)) ∈ lw_all := lw_g (lw_at lw_m2 103 rfl) rfl
theorem q417 : (Jvm.Cond.classLink "StairOnSticks" (68 : Nat) "[B") ∈ lw_all := lw_g (lw_at lw_m2 104 rfl) rfl
theorem q418 : (Jvm.Cond.classLink "StairOnSticks" (70 : Nat) "[S") ∈ lw_all := lw_g (lw_at lw_m2 105 rfl) rfl
theorem q419 : (Jvm.Cond.classLink "StairOnSticks" (72 : Nat) "[I") ∈ lw_all := lw_g (lw_at lw_m2 106 rfl) rfl
theorem q420 : (Jvm.Cond.classLink "StairOnSticks" (73 : Nat) "[J") ∈ lw_all := lw_g (lw_at lw_m2 107 rfl) rfl
theorem q421 : (Jvm.Cond.classLink "StairOnSticks" (79 : Nat) "[Z") ∈ lw_all := lw_g (lw_at lw_m2 108 rfl) rfl
theorem q423 : (Jvm.Cond.instanceMethod ({ cls := "StairOnSticks", name := "copy", desc := "(IIIII)I" } : Jvm.MethodName)) ∈ lw_all := lw_g (lw_at lw_m2 110 rfl) rfl
theorem q424 : (Jvm.Cond.selects "StairOnSticks" ({ cls := "StairOnSticks", name := "copy", desc := "(IIIII)I" } : Jvm.MethodName) ({ cls := "StairOnSticks", name := "copy", desc := "(IIIII)I" } : Jvm.MethodName)) ∈ lw_all := lw_g (lw_at lw_m2 111 rfl) rfl
theorem q425 : (Jvm.Cond.codeWith ({ cls := "StairOnSticks", name := "copy", desc := "(IIIII)I" } : Jvm.MethodName) prog_1_method_17_code (9 : Nat) (Option.some Jvm.ClassFile.FieldType.int) [((66 : Nat), (80 : Nat), (81 : Nat), (123 : Nat)), ((66 : Nat), (80 : Nat), (90 : Nat), (125 : Nat)), ((66 : Nat), (80 : Nat), (99 : Nat), (127 : Nat))]) ∈ lw_all := lw_g (lw_at lw_m2 112 rfl) rfl
theorem q426 : (Jvm.Cond.classLink "StairOnSticks" (123 : Nat) "java/lang/NullPointerException") ∈ lw_all := lw_g (lw_at lw_m2 113 rfl) rfl
theorem q451 : (Jvm.Cond.classLink "StairOnSticks" (125 : Nat) "java/lang/ArrayStoreException") ∈ lw_all := lw_g (lw_at lw_m2 138 rfl) rfl
theorem q465 : (Jvm.Cond.classLink "StairOnSticks" (127 : Nat) "java/lang/IndexOutOfBoundsException") ∈ lw_all := lw_g (lw_at lw_m2 152 rfl) rfl
theorem q466 : (Jvm.Cond.methodLink "StairOnSticks" (117 : Nat) ({ cls := "java/lang/System", name := "arraycopy", desc := "(Ljava/lang/Object;ILjava/lang/Object;II)V" } : Jvm.MethodName)) ∈ lw_all := lw_g (lw_at lw_m2 153 rfl) rfl
theorem q470 : (Jvm.Cond.instanceMethod ({ cls := "StairOnSticks", name := "element", desc := "(II)J" } : Jvm.MethodName)) ∈ lw_all := lw_g (lw_at lw_m2 157 rfl) rfl
theorem q471 : (Jvm.Cond.selects "StairOnSticks" ({ cls := "StairOnSticks", name := "element", desc := "(II)J" } : Jvm.MethodName) ({ cls := "StairOnSticks", name := "element", desc := "(II)J" } : Jvm.MethodName)) ∈ lw_all := lw_g (lw_at lw_m2 158 rfl) rfl
theorem q472 : (Jvm.Cond.codeWith ({ cls := "StairOnSticks", name := "element", desc := "(II)J" } : Jvm.MethodName) prog_1_method_18_code (4 : Nat) (Option.some Jvm.ClassFile.FieldType.long) [((9 : Nat), (18 : Nat), (19 : Nat), (99 : Nat)), ((9 : Nat), (18 : Nat), (22 : Nat), (115 : Nat))]) ∈ lw_all := lw_g (lw_at lw_m2 159 rfl) rfl
theorem q473 : (Jvm.Cond.methodLink "StairOnSticks" (129 : Nat) ({ cls := "StairOnSticks", name := "elementOf", desc := "(Ljava/lang/Object;I)J" } : Jvm.MethodName)) ∈ lw_all := lw_g (lw_at lw_m2 160 rfl) rfl
theorem q474 : (Jvm.Cond.static ({ cls := "StairOnSticks", name := "elementOf", desc := "(Ljava/lang/Object;I)J" } : Jvm.MethodName)) ∈ lw_all := lw_g (lw_at lw_m2 161 rfl) rfl
theorem q475 : (Jvm.Cond.code ({ cls := "StairOnSticks", name := "elementOf", desc := "(Ljava/lang/Object;I)J" } : Jvm.MethodName) prog_1_method_12_code (2 : Nat) (Option.some Jvm.ClassFile.FieldType.long)) ∈ lw_all := lw_g (lw_at lw_m2 162 rfl) rfl
theorem q477 : (Jvm.Cond.instanceMethod ({ cls := "StairOnSticks", name := "holds", desc := "(I)I" } : Jvm.MethodName)) ∈ lw_all := lw_g (lw_at lw_m2 164 rfl) rfl
theorem q478 : (Jvm.Cond.selects "StairOnSticks" ({ cls := "StairOnSticks", name := "holds", desc := "(I)I" } : Jvm.MethodName) ({ cls := "StairOnSticks", name := "holds", desc := "(I)I" } : Jvm.MethodName)) ∈ lw_all := lw_g (lw_at lw_m2 165 rfl) rfl
theorem q479 : (Jvm.Cond.code ({ cls := "StairOnSticks", name := "holds", desc := "(I)I" } : Jvm.MethodName) prog_1_method_19_code (3 : Nat) (Option.some Jvm.ClassFile.FieldType.int)) ∈ lw_all := lw_g (lw_at lw_m2 166 rfl) rfl
theorem q481 : (Jvm.Cond.instanceMethod ({ cls := "StairOnSticks", name := "show", desc := "(II)I" } : Jvm.MethodName)) ∈ lw_all := lw_g (lw_at lw_m2 168 rfl) rfl
theorem q482 : (Jvm.Cond.selects "StairOnSticks" ({ cls := "StairOnSticks", name := "show", desc := "(II)I" } : Jvm.MethodName) ({ cls := "StairOnSticks", name := "show", desc := "(II)I" } : Jvm.MethodName)) ∈ lw_all := lw_g (lw_at lw_m2 169 rfl) rfl
theorem q483 : (Jvm.Cond.code ({ cls := "StairOnSticks", name := "show", desc := "(II)I" } : Jvm.MethodName) prog_1_method_20_code (3 : Nat) (Option.some Jvm.ClassFile.FieldType.int)) ∈ lw_all := lw_g (lw_at lw_m2 170 rfl) rfl
theorem q484 : (Jvm.Cond.methodLink "StairOnSticks" (136 : Nat) ({ cls := "StairOnSticks", name := "isWay", desc := "(I)Z" } : Jvm.MethodName)) ∈ lw_all := lw_g (lw_at lw_m2 171 rfl) rfl
theorem q485 : (Jvm.Cond.privateMethod ({ cls := "StairOnSticks", name := "isWay", desc := "(I)Z" } : Jvm.MethodName)) ∈ lw_tbl := lw_at lw_m2 172 rfl
theorem q486 : (Jvm.Cond.instanceMethod ({ cls := "StairOnSticks", name := "isWay", desc := "(I)Z" } : Jvm.MethodName)) ∈ lw_all := lw_g (lw_at lw_m2 173 rfl) rfl
theorem q487 : (Jvm.Cond.code ({ cls := "StairOnSticks", name := "isWay", desc := "(I)Z" } : Jvm.MethodName) prog_1_method_8_code (2 : Nat) (Option.some Jvm.ClassFile.FieldType.boolean)) ∈ lw_all := lw_g (lw_at lw_m2 174 rfl) rfl
theorem q489 : (Jvm.Cond.instanceMethod ({ cls := "StairOnSticks", name := "says", desc := "(II)I" } : Jvm.MethodName)) ∈ lw_all := lw_g (lw_at lw_m2 176 rfl) rfl
theorem q490 : (Jvm.Cond.selects "StairOnSticks" ({ cls := "StairOnSticks", name := "says", desc := "(II)I" } : Jvm.MethodName) ({ cls := "StairOnSticks", name := "says", desc := "(II)I" } : Jvm.MethodName)) ∈ lw_all := lw_g (lw_at lw_m2 177 rfl) rfl
theorem q491 : (Jvm.Cond.codeWith ({ cls := "StairOnSticks", name := "says", desc := "(II)I" } : Jvm.MethodName) prog_1_method_22_code (5 : Nat) (Option.some Jvm.ClassFile.FieldType.int) [((44 : Nat), (87 : Nat), (138 : Nat), (162 : Nat)), ((88 : Nat), (97 : Nat), (138 : Nat), (162 : Nat)), ((98 : Nat), (107 : Nat), (138 : Nat), (162 : Nat)), ((108 : Nat), (117 : Nat), (138 : Nat), (162 : Nat)), ((118 : Nat), (127 : Nat), (138 : Nat), (162 : Nat)), ((128 : Nat), (137 : Nat), (138 : Nat), (162 : Nat))]) ∈ lw_all := lw_g (lw_at lw_m2 178 rfl) rfl
theorem q492 : (Jvm.Cond.classLink "StairOnSticks" (162 : Nat) "java/lang/ClassCastException") ∈ lw_all := lw_g (lw_at lw_m2 179 rfl) rfl
theorem q506 : (Jvm.Cond.classLink "StairOnSticks" (7 : Nat) "StairOnSticks$Cane") ∈ lw_all := lw_g (lw_at lw_m2 193 rfl) rfl
theorem q507 : (Jvm.Cond.methodLink "StairOnSticks" (158 : Nat) ({ cls := "StairOnSticks", name := "first", desc := "(LStairOnSticks$Move;I)I" } : Jvm.MethodName)) ∈ lw_all := lw_g (lw_at lw_m2 194 rfl) rfl
theorem q508 : (Jvm.Cond.privateMethod ({ cls := "StairOnSticks", name := "first", desc := "(LStairOnSticks$Move;I)I" } : Jvm.MethodName)) ∈ lw_tbl := lw_at lw_m2 195 rfl
theorem q509 : (Jvm.Cond.instanceMethod ({ cls := "StairOnSticks", name := "first", desc := "(LStairOnSticks$Move;I)I" } : Jvm.MethodName)) ∈ lw_all := lw_g (lw_at lw_m2 196 rfl) rfl
theorem q510 : (Jvm.Cond.code ({ cls := "StairOnSticks", name := "first", desc := "(LStairOnSticks$Move;I)I" } : Jvm.MethodName) prog_1_method_21_code (3 : Nat) (Option.some Jvm.ClassFile.FieldType.int)) ∈ lw_all := lw_g (lw_at lw_m2 197 rfl) rfl
theorem q511 : (Jvm.Cond.methodLink "StairOnSticks" (151 : Nat) ({ cls := "StairOnSticks$Move", name := "says", desc := "(LStairOnSticks$Person;LStairOnSticks$Step;I)I" } : Jvm.MethodName)) ∈ lw_all := lw_g (lw_at lw_m2 198 rfl) rfl
theorem q620 : (Jvm.Cond.classLink "StairOnSticks" (10 : Nat) "StairOnSticks$Swung") ∈ lw_all := lw_g (lw_at lw_m3 67 rfl) rfl
theorem q621 : (Jvm.Cond.classLink "StairOnSticks" (13 : Nat) "StairOnSticks$Railed") ∈ lw_all := lw_g (lw_at lw_m3 68 rfl) rfl
theorem q622 : (Jvm.Cond.classLink "StairOnSticks" (16 : Nat) "StairOnSticks$Seated") ∈ lw_all := lw_g (lw_at lw_m3 69 rfl) rfl
theorem q623 : (Jvm.Cond.classLink "StairOnSticks" (19 : Nat) "StairOnSticks$Hopped") ∈ lw_all := lw_g (lw_at lw_m3 70 rfl) rfl
theorem q625 : (Jvm.Cond.instanceMethod ({ cls := "StairOnSticks", name := "step", desc := "(IZ)I" } : Jvm.MethodName)) ∈ lw_all := lw_g (lw_at lw_m3 72 rfl) rfl
theorem q626 : (Jvm.Cond.selects "StairOnSticks" ({ cls := "StairOnSticks", name := "step", desc := "(IZ)I" } : Jvm.MethodName) ({ cls := "StairOnSticks", name := "step", desc := "(IZ)I" } : Jvm.MethodName)) ∈ lw_all := lw_g (lw_at lw_m3 73 rfl) rfl
theorem q627 : (Jvm.Cond.code ({ cls := "StairOnSticks", name := "step", desc := "(IZ)I" } : Jvm.MethodName) prog_1_method_23_code (3 : Nat) (Option.some Jvm.ClassFile.FieldType.int)) ∈ lw_all := lw_g (lw_at lw_m3 74 rfl) rfl
theorem q628 : (Jvm.Cond.methodLink "StairOnSticks" (164 : Nat) ({ cls := "StairOnSticks$Stair", name := "adds", desc := "(IZZZ)V" } : Jvm.MethodName)) ∈ lw_all := lw_g (lw_at lw_m3 75 rfl) rfl
theorem q643 : (Jvm.Cond.fieldLink "StairOnSticks" (194 : Nat) "StairOnSticks$Step" "rise" "I") ∈ lw_all := lw_g (lw_at lw_m3 90 rfl) rfl
theorem q648 : (Jvm.Cond.fieldLink "StairOnSticks" (221 : Nat) "StairOnSticks$Step" "wet" "Z") ∈ lw_all := lw_g (lw_at lw_m3 95 rfl) rfl
theorem q652 : (Jvm.Cond.fieldLink "StairOnSticks" (225 : Nat) "StairOnSticks$Step" "rail" "Z") ∈ lw_all := lw_g (lw_at lw_m3 99 rfl) rfl
theorem q655 : (Jvm.Cond.fieldLink "StairOnSticks" (228 : Nat) "StairOnSticks$Step" "chair" "Z") ∈ lw_all := lw_g (lw_at lw_m3 102 rfl) rfl
theorem q666 : (Jvm.Cond.instanceMethod ({ cls := "StairOnSticks", name := "way", desc := "(II)I" } : Jvm.MethodName)) ∈ lw_all := lw_g (lw_at lw_m3 113 rfl) rfl
theorem q667 : (Jvm.Cond.selects "StairOnSticks" ({ cls := "StairOnSticks", name := "way", desc := "(II)I" } : Jvm.MethodName) ({ cls := "StairOnSticks", name := "way", desc := "(II)I" } : Jvm.MethodName)) ∈ lw_all := lw_g (lw_at lw_m3 114 rfl) rfl
theorem q668 : (Jvm.Cond.code ({ cls := "StairOnSticks", name := "way", desc := "(II)I" } : Jvm.MethodName) prog_1_method_24_code (3 : Nat) (Option.some Jvm.ClassFile.FieldType.int)) ∈ lw_all := lw_g (lw_at lw_m3 115 rfl) rfl
theorem q669 : (Jvm.Cond.methodLink "StairOnSticks" (168 : Nat) ({ cls := "StairOnSticks", name := "made", desc := "(III)LStairOnSticks$Move;" } : Jvm.MethodName)) ∈ lw_all := lw_g (lw_at lw_m3 116 rfl) rfl
theorem q670 : (Jvm.Cond.static ({ cls := "StairOnSticks", name := "made", desc := "(III)LStairOnSticks$Move;" } : Jvm.MethodName)) ∈ lw_all := lw_g (lw_at lw_m3 117 rfl) rfl
theorem q671 : (Jvm.Cond.code ({ cls := "StairOnSticks", name := "made", desc := "(III)LStairOnSticks$Move;" } : Jvm.MethodName) prog_1_method_3_code (3 : Nat) (Option.some (Jvm.ClassFile.FieldType.object "StairOnSticks$Move"))) ∈ lw_all := lw_g (lw_at lw_m3 118 rfl) rfl
theorem q673 : (Jvm.Cond.methodLink "StairOnSticks" (3 : Nat) ({ cls := "StairOnSticks$Move", name := "<init>", desc := "(II)V" } : Jvm.MethodName)) ∈ lw_all := lw_g (lw_at lw_m3 120 rfl) rfl
theorem q678 : (Jvm.Cond.fieldLink "StairOnSticks" (133 : Nat) "StairOnSticks$Move" "number" "I") ∈ lw_all := lw_g (lw_at lw_m3 125 rfl) rfl
theorem q684 : (Jvm.Cond.fieldLink "StairOnSticks" (155 : Nat) "StairOnSticks$Move" "a" "I") ∈ lw_all := lw_g (lw_at lw_m3 131 rfl) rfl
theorem q691 : (Jvm.Cond.methodLink "StairOnSticks" (9 : Nat) ({ cls := "StairOnSticks$Cane", name := "<init>", desc := "(II)V" } : Jvm.MethodName)) ∈ lw_all := lw_g (lw_at lw_m3 138 rfl) rfl
theorem q698 : (Jvm.Cond.methodLink "StairOnSticks" (12 : Nat) ({ cls := "StairOnSticks$Swung", name := "<init>", desc := "(II)V" } : Jvm.MethodName)) ∈ lw_all := lw_g (lw_at lw_m3 145 rfl) rfl
theorem q705 : (Jvm.Cond.methodLink "StairOnSticks" (15 : Nat) ({ cls := "StairOnSticks$Railed", name := "<init>", desc := "(II)V" } : Jvm.MethodName)) ∈ lw_all := lw_g (lw_at lw_m3 152 rfl) rfl
theorem q712 : (Jvm.Cond.methodLink "StairOnSticks" (18 : Nat) ({ cls := "StairOnSticks$Seated", name := "<init>", desc := "(II)V" } : Jvm.MethodName)) ∈ lw_all := lw_g (lw_at lw_m3 159 rfl) rfl
theorem q719 : (Jvm.Cond.methodLink "StairOnSticks" (21 : Nat) ({ cls := "StairOnSticks$Hopped", name := "<init>", desc := "(II)V" } : Jvm.MethodName)) ∈ lw_all := lw_g (lw_at lw_m3 166 rfl) rfl
theorem q725 : (Jvm.Cond.methodLink "StairOnSticks" (172 : Nat) ({ cls := "StairOnSticks$Stair", name := "adds", desc := "(LStairOnSticks$Move;)V" } : Jvm.MethodName)) ∈ lw_all := lw_g (lw_at lw_m3 172 rfl) rfl
theorem q730 : (Jvm.Cond.instanceMethod ({ cls := "StairOnSticks", name := "ask", desc := "(II)I" } : Jvm.MethodName)) ∈ lw_all := lw_g (lw_at lw_m3 177 rfl) rfl
theorem q731 : (Jvm.Cond.selects "StairOnSticks" ({ cls := "StairOnSticks", name := "ask", desc := "(II)I" } : Jvm.MethodName) ({ cls := "StairOnSticks", name := "ask", desc := "(II)I" } : Jvm.MethodName)) ∈ lw_all := lw_g (lw_at lw_m3 178 rfl) rfl
theorem q732 : (Jvm.Cond.code ({ cls := "StairOnSticks", name := "ask", desc := "(II)I" } : Jvm.MethodName) prog_1_method_25_code (4 : Nat) (Option.some Jvm.ClassFile.FieldType.int)) ∈ lw_all := lw_g (lw_at lw_m3 179 rfl) rfl
theorem q733 : (Jvm.Cond.methodLink "StairOnSticks" (175 : Nat) ({ cls := "StairOnSticks$Person", name := "may", desc := "(II)Z" } : Jvm.MethodName)) ∈ lw_all := lw_g (lw_at lw_m3 180 rfl) rfl
theorem q739 : (Jvm.Cond.instanceMethod ({ cls := "StairOnSticks", name := "put", desc := "(IIZ)I" } : Jvm.MethodName)) ∈ lw_all := lw_g (lw_at lw_m3 186 rfl) rfl
theorem q740 : (Jvm.Cond.selects "StairOnSticks" ({ cls := "StairOnSticks", name := "put", desc := "(IIZ)I" } : Jvm.MethodName) ({ cls := "StairOnSticks", name := "put", desc := "(IIZ)I" } : Jvm.MethodName)) ∈ lw_all := lw_g (lw_at lw_m3 187 rfl) rfl
theorem q741 : (Jvm.Cond.code ({ cls := "StairOnSticks", name := "put", desc := "(IIZ)I" } : Jvm.MethodName) prog_1_method_26_code (5 : Nat) (Option.some Jvm.ClassFile.FieldType.int)) ∈ lw_all := lw_g (lw_at lw_m3 188 rfl) rfl
theorem q742 : (Jvm.Cond.methodLink "StairOnSticks" (184 : Nat) ({ cls := "StairOnSticks", name := "isStep", desc := "(I)Z" } : Jvm.MethodName)) ∈ lw_all := lw_g (lw_at lw_m3 189 rfl) rfl
theorem q743 : (Jvm.Cond.privateMethod ({ cls := "StairOnSticks", name := "isStep", desc := "(I)Z" } : Jvm.MethodName)) ∈ lw_tbl := lw_at lw_m3 190 rfl
theorem q744 : (Jvm.Cond.instanceMethod ({ cls := "StairOnSticks", name := "isStep", desc := "(I)Z" } : Jvm.MethodName)) ∈ lw_all := lw_g (lw_at lw_m3 191 rfl) rfl
theorem q745 : (Jvm.Cond.code ({ cls := "StairOnSticks", name := "isStep", desc := "(I)Z" } : Jvm.MethodName) prog_1_method_7_code (2 : Nat) (Option.some Jvm.ClassFile.FieldType.boolean)) ∈ lw_all := lw_g (lw_at lw_m3 192 rfl) rfl
theorem q746 : (Jvm.Cond.methodLink "StairOnSticks" (187 : Nat) ({ cls := "StairOnSticks$Step", name := "is", desc := "(I)Z" } : Jvm.MethodName)) ∈ lw_all := lw_g (lw_at lw_m3 193 rfl) rfl
theorem q750 : (Jvm.Cond.methodLink "StairOnSticks" (191 : Nat) ({ cls := "StairOnSticks$Step", name := "puts", desc := "(IZ)V" } : Jvm.MethodName)) ∈ lw_all := lw_g (lw_at lw_m3 197 rfl) rfl
theorem q755 : (Jvm.Cond.instanceMethod ({ cls := "StairOnSticks", name := "rise", desc := "(II)I" } : Jvm.MethodName)) ∈ lw_all := lw_g (lw_at lw_m3 202 rfl) rfl
theorem q756 : (Jvm.Cond.selects "StairOnSticks" ({ cls := "StairOnSticks", name := "rise", desc := "(II)I" } : Jvm.MethodName) ({ cls := "StairOnSticks", name := "rise", desc := "(II)I" } : Jvm.MethodName)) ∈ lw_all := lw_g (lw_at lw_m3 203 rfl) rfl
theorem q757 : (Jvm.Cond.code ({ cls := "StairOnSticks", name := "rise", desc := "(II)I" } : Jvm.MethodName) prog_1_method_27_code (4 : Nat) (Option.some Jvm.ClassFile.FieldType.int)) ∈ lw_all := lw_g (lw_at lw_m3 204 rfl) rfl
theorem q759 : (Jvm.Cond.instanceMethod ({ cls := "StairOnSticks", name := "feed", desc := "(I)I" } : Jvm.MethodName)) ∈ lw_all := lw_g (lw_at lw_m3 206 rfl) rfl
theorem q760 : (Jvm.Cond.selects "StairOnSticks" ({ cls := "StairOnSticks", name := "feed", desc := "(I)I" } : Jvm.MethodName) ({ cls := "StairOnSticks", name := "feed", desc := "(I)I" } : Jvm.MethodName)) ∈ lw_all := lw_g (lw_at lw_m3 207 rfl) rfl
theorem q761 : (Jvm.Cond.code ({ cls := "StairOnSticks", name := "feed", desc := "(I)I" } : Jvm.MethodName) prog_1_method_28_code (2 : Nat) (Option.some Jvm.ClassFile.FieldType.int)) ∈ lw_all := lw_g (lw_at lw_m3 208 rfl) rfl
theorem q763 : (Jvm.Cond.instanceMethod ({ cls := "StairOnSticks", name := "wipe", desc := "()I" } : Jvm.MethodName)) ∈ lw_all := lw_g (lw_at lw_m3 210 rfl) rfl
theorem q764 : (Jvm.Cond.selects "StairOnSticks" ({ cls := "StairOnSticks", name := "wipe", desc := "()I" } : Jvm.MethodName) ({ cls := "StairOnSticks", name := "wipe", desc := "()I" } : Jvm.MethodName)) ∈ lw_all := lw_g (lw_at lw_m3 211 rfl) rfl
theorem q765 : (Jvm.Cond.code ({ cls := "StairOnSticks", name := "wipe", desc := "()I" } : Jvm.MethodName) prog_1_method_29_code (2 : Nat) (Option.some Jvm.ClassFile.FieldType.int)) ∈ lw_all := lw_g (lw_at lw_m3 212 rfl) rfl
theorem q767 : (Jvm.Cond.instanceMethod ({ cls := "StairOnSticks", name := "stair", desc := "()I" } : Jvm.MethodName)) ∈ lw_all := lw_g (lw_at lw_m3 214 rfl) rfl
theorem q768 : (Jvm.Cond.selects "StairOnSticks" ({ cls := "StairOnSticks", name := "stair", desc := "()I" } : Jvm.MethodName) ({ cls := "StairOnSticks", name := "stair", desc := "()I" } : Jvm.MethodName)) ∈ lw_all := lw_g (lw_at lw_m3 215 rfl) rfl
theorem q769 : (Jvm.Cond.codeWith ({ cls := "StairOnSticks", name := "stair", desc := "()I" } : Jvm.MethodName) prog_1_method_30_code (5 : Nat) (Option.some Jvm.ClassFile.FieldType.int) [((0 : Nat), (38 : Nat), (45 : Nat), (216 : Nat)), ((0 : Nat), (38 : Nat), (68 : Nat), (0 : Nat)), ((45 : Nat), (61 : Nat), (68 : Nat), (0 : Nat)), ((68 : Nat), (70 : Nat), (68 : Nat), (0 : Nat))]) ∈ lw_all := lw_g (lw_at lw_m3 216 rfl) rfl
theorem q770 : (Jvm.Cond.classLink "StairOnSticks" (216 : Nat) "StairOnSticks$Fault") ∈ lw_all := lw_g (lw_at lw_m3 217 rfl) rfl
theorem q771 : (Jvm.Cond.classLink "StairOnSticks" (200 : Nat) "StairOnSticks$Reader") ∈ lw_all := lw_g (lw_at lw_m3 218 rfl) rfl
theorem q773 : (Jvm.Cond.methodLink "StairOnSticks" (202 : Nat) ({ cls := "StairOnSticks$Stair", name := "copied", desc := "()LStairOnSticks$Stair;" } : Jvm.MethodName)) ∈ lw_all := lw_g (lw_at lw_m3 220 rfl) rfl
theorem q786 : (Jvm.Cond.methodLink "StairOnSticks" (206 : Nat) ({ cls := "StairOnSticks$Reader", name := "<init>", desc := "([IILStairOnSticks$Stair;)V" } : Jvm.MethodName)) ∈ lw_all := lw_g (lw_at lw_m3 233 rfl) rfl
theorem q793 : (Jvm.Cond.fieldLink "StairOnSticks" (213 : Nat) "StairOnSticks$Reader" "stair" "LStairOnSticks$Stair;") ∈ lw_all := lw_g (lw_at lw_m4 0 rfl) rfl
theorem q813 : (Jvm.Cond.methodLink "StairOnSticks" (209 : Nat) ({ cls := "StairOnSticks$Reader", name := "read", desc := "()I" } : Jvm.MethodName)) ∈ lw_all := lw_g (lw_at lw_m4 20 rfl) rfl
theorem q1034 : (Jvm.Cond.fieldLink "StairOnSticks" (218 : Nat) "StairOnSticks$Fault" "place" "I") ∈ lw_all := lw_g (lw_at lw_m5 1 rfl) rfl
theorem q1130 : (Jvm.Cond.instanceMethod ({ cls := "StairOnSticks", name := "stepOf", desc := "(II)I" } : Jvm.MethodName)) ∈ lw_all := lw_g (lw_at lw_m5 97 rfl) rfl
theorem q1131 : (Jvm.Cond.selects "StairOnSticks" ({ cls := "StairOnSticks", name := "stepOf", desc := "(II)I" } : Jvm.MethodName) ({ cls := "StairOnSticks", name := "stepOf", desc := "(II)I" } : Jvm.MethodName)) ∈ lw_all := lw_g (lw_at lw_m5 98 rfl) rfl
theorem q1132 : (Jvm.Cond.code ({ cls := "StairOnSticks", name := "stepOf", desc := "(II)I" } : Jvm.MethodName) prog_1_method_31_code (4 : Nat) (Option.some Jvm.ClassFile.FieldType.int)) ∈ lw_all := lw_g (lw_at lw_m5 99 rfl) rfl
theorem q1134 : (Jvm.Cond.instanceMethod ({ cls := "StairOnSticks", name := "wayOf", desc := "(II)I" } : Jvm.MethodName)) ∈ lw_all := lw_g (lw_at lw_m5 101 rfl) rfl
theorem q1135 : (Jvm.Cond.selects "StairOnSticks" ({ cls := "StairOnSticks", name := "wayOf", desc := "(II)I" } : Jvm.MethodName) ({ cls := "StairOnSticks", name := "wayOf", desc := "(II)I" } : Jvm.MethodName)) ∈ lw_all := lw_g (lw_at lw_m5 102 rfl) rfl
theorem q1136 : (Jvm.Cond.code ({ cls := "StairOnSticks", name := "wayOf", desc := "(II)I" } : Jvm.MethodName) prog_1_method_32_code (3 : Nat) (Option.some Jvm.ClassFile.FieldType.int)) ∈ lw_all := lw_g (lw_at lw_m5 103 rfl) rfl
theorem q1137 : (Jvm.Cond.methodLink "StairOnSticks" (231 : Nat) ({ cls := "StairOnSticks$Move", name := "kind", desc := "()I" } : Jvm.MethodName)) ∈ lw_all := lw_g (lw_at lw_m5 104 rfl) rfl
theorem q1158 : (Jvm.Cond.instanceMethod ({ cls := "StairOnSticks", name := "asked", desc := "(I)I" } : Jvm.MethodName)) ∈ lw_all := lw_g (lw_at lw_m5 125 rfl) rfl
theorem q1159 : (Jvm.Cond.selects "StairOnSticks" ({ cls := "StairOnSticks", name := "asked", desc := "(I)I" } : Jvm.MethodName) ({ cls := "StairOnSticks", name := "asked", desc := "(I)I" } : Jvm.MethodName)) ∈ lw_all := lw_g (lw_at lw_m5 126 rfl) rfl
theorem q1160 : (Jvm.Cond.code ({ cls := "StairOnSticks", name := "asked", desc := "(I)I" } : Jvm.MethodName) prog_1_method_33_code (2 : Nat) (Option.some Jvm.ClassFile.FieldType.int)) ∈ lw_all := lw_g (lw_at lw_m5 127 rfl) rfl
theorem q1162 : (Jvm.Cond.instanceMethod ({ cls := "StairOnSticks", name := "move", desc := "(III)I" } : Jvm.MethodName)) ∈ lw_all := lw_g (lw_at lw_m5 129 rfl) rfl
theorem q1163 : (Jvm.Cond.selects "StairOnSticks" ({ cls := "StairOnSticks", name := "move", desc := "(III)I" } : Jvm.MethodName) ({ cls := "StairOnSticks", name := "move", desc := "(III)I" } : Jvm.MethodName)) ∈ lw_all := lw_g (lw_at lw_m5 130 rfl) rfl
theorem q1164 : (Jvm.Cond.code ({ cls := "StairOnSticks", name := "move", desc := "(III)I" } : Jvm.MethodName) prog_1_method_34_code (4 : Nat) (Option.some Jvm.ClassFile.FieldType.int)) ∈ lw_all := lw_g (lw_at lw_m5 131 rfl) rfl
theorem q1166 : (Jvm.Cond.instanceMethod ({ cls := "StairOnSticks", name := "may", desc := "(II)I" } : Jvm.MethodName)) ∈ lw_all := lw_g (lw_at lw_m5 133 rfl) rfl
theorem q1167 : (Jvm.Cond.selects "StairOnSticks" ({ cls := "StairOnSticks", name := "may", desc := "(II)I" } : Jvm.MethodName) ({ cls := "StairOnSticks", name := "may", desc := "(II)I" } : Jvm.MethodName)) ∈ lw_all := lw_g (lw_at lw_m5 134 rfl) rfl
theorem q1168 : (Jvm.Cond.code ({ cls := "StairOnSticks", name := "may", desc := "(II)I" } : Jvm.MethodName) prog_1_method_35_code (5 : Nat) (Option.some Jvm.ClassFile.FieldType.int)) ∈ lw_all := lw_g (lw_at lw_m5 135 rfl) rfl
theorem q1169 : (Jvm.Cond.methodLink "StairOnSticks" (234 : Nat) ({ cls := "StairOnSticks$Stair", name := "can", desc := "(III)Z" } : Jvm.MethodName)) ∈ lw_all := lw_g (lw_at lw_m5 136 rfl) rfl
theorem q1237 : (Jvm.Cond.instanceMethod ({ cls := "StairOnSticks", name := "hardest", desc := "()I" } : Jvm.MethodName)) ∈ lw_all := lw_g (lw_at lw_m5 204 rfl) rfl
theorem q1238 : (Jvm.Cond.selects "StairOnSticks" ({ cls := "StairOnSticks", name := "hardest", desc := "()I" } : Jvm.MethodName) ({ cls := "StairOnSticks", name := "hardest", desc := "()I" } : Jvm.MethodName)) ∈ lw_all := lw_g (lw_at lw_m5 205 rfl) rfl
theorem q1239 : (Jvm.Cond.code ({ cls := "StairOnSticks", name := "hardest", desc := "()I" } : Jvm.MethodName) prog_1_method_36_code (3 : Nat) (Option.some Jvm.ClassFile.FieldType.int)) ∈ lw_all := lw_g (lw_at lw_m5 206 rfl) rfl
theorem q1241 : (Jvm.Cond.instanceMethod ({ cls := "StairOnSticks", name := "lightest", desc := "(I)I" } : Jvm.MethodName)) ∈ lw_all := lw_g (lw_at lw_m5 208 rfl) rfl
theorem q1242 : (Jvm.Cond.selects "StairOnSticks" ({ cls := "StairOnSticks", name := "lightest", desc := "(I)I" } : Jvm.MethodName) ({ cls := "StairOnSticks", name := "lightest", desc := "(I)I" } : Jvm.MethodName)) ∈ lw_all := lw_g (lw_at lw_m5 209 rfl) rfl
theorem q1243 : (Jvm.Cond.code ({ cls := "StairOnSticks", name := "lightest", desc := "(I)I" } : Jvm.MethodName) prog_1_method_37_code (5 : Nat) (Option.some Jvm.ClassFile.FieldType.int)) ∈ lw_all := lw_g (lw_at lw_m5 210 rfl) rfl
theorem q1244 : (Jvm.Cond.methodLink "StairOnSticks" (237 : Nat) ({ cls := "StairOnSticks$Move", name := "load", desc := "(LStairOnSticks$Person;LStairOnSticks$Step;)I" } : Jvm.MethodName)) ∈ lw_all := lw_g (lw_at lw_m5 211 rfl) rfl
theorem q1246 : (Jvm.Cond.instanceMethod ({ cls := "StairOnSticks", name := "judge", desc := "(I)I" } : Jvm.MethodName)) ∈ lw_all := lw_g (lw_at lw_m5 213 rfl) rfl
theorem q1247 : (Jvm.Cond.selects "StairOnSticks" ({ cls := "StairOnSticks", name := "judge", desc := "(I)I" } : Jvm.MethodName) ({ cls := "StairOnSticks", name := "judge", desc := "(I)I" } : Jvm.MethodName)) ∈ lw_all := lw_g (lw_at lw_m5 214 rfl) rfl
theorem q1248 : (Jvm.Cond.codeWith ({ cls := "StairOnSticks", name := "judge", desc := "(I)I" } : Jvm.MethodName) prog_1_method_40_code (3 : Nat) (Option.some Jvm.ClassFile.FieldType.int) [((0 : Nat), (9 : Nat), (10 : Nat), (99 : Nat))]) ∈ lw_all := lw_g (lw_at lw_m5 215 rfl) rfl
theorem q1249 : (Jvm.Cond.methodLink "StairOnSticks" (248 : Nat) ({ cls := "StairOnSticks", name := "climb", desc := "(I)[I" } : Jvm.MethodName)) ∈ lw_all := lw_g (lw_at lw_m5 216 rfl) rfl
theorem q1250 : (Jvm.Cond.privateMethod ({ cls := "StairOnSticks", name := "climb", desc := "(I)[I" } : Jvm.MethodName)) ∈ lw_tbl := lw_at lw_m5 217 rfl
theorem q1251 : (Jvm.Cond.instanceMethod ({ cls := "StairOnSticks", name := "climb", desc := "(I)[I" } : Jvm.MethodName)) ∈ lw_all := lw_g (lw_at lw_m5 218 rfl) rfl
theorem q1252 : (Jvm.Cond.codeWith ({ cls := "StairOnSticks", name := "climb", desc := "(I)[I" } : Jvm.MethodName) prog_1_method_38_code (7 : Nat) (Option.some (Jvm.ClassFile.FieldType.array Jvm.ClassFile.FieldType.int)) [((33 : Nat), (89 : Nat), (92 : Nat), (115 : Nat))]) ∈ lw_all := lw_g (lw_at lw_m5 219 rfl) rfl
theorem q1253 : (Jvm.Cond.methodLink "StairOnSticks" (252 : Nat) ({ cls := "StairOnSticks", name := "wrongIn", desc := "([I)I" } : Jvm.MethodName)) ∈ lw_all := lw_g (lw_at lw_m5 220 rfl) rfl
theorem q1254 : (Jvm.Cond.privateMethod ({ cls := "StairOnSticks", name := "wrongIn", desc := "([I)I" } : Jvm.MethodName)) ∈ lw_tbl := lw_at lw_m5 221 rfl
theorem q1255 : (Jvm.Cond.instanceMethod ({ cls := "StairOnSticks", name := "wrongIn", desc := "([I)I" } : Jvm.MethodName)) ∈ lw_all := lw_g (lw_at lw_m5 222 rfl) rfl
theorem q1256 : (Jvm.Cond.code ({ cls := "StairOnSticks", name := "wrongIn", desc := "([I)I" } : Jvm.MethodName) prog_1_method_39_code (4 : Nat) (Option.some Jvm.ClassFile.FieldType.int)) ∈ lw_all := lw_g (lw_at lw_m5 223 rfl) rfl
theorem q1257 : (Jvm.Cond.methodLink "StairOnSticks" (241 : Nat) ({ cls := "StairOnSticks$Person", name := "arms", desc := "()I" } : Jvm.MethodName)) ∈ lw_all := lw_g (lw_at lw_m5 224 rfl) rfl
theorem q1261 : (Jvm.Cond.methodLink "StairOnSticks" (244 : Nat) ({ cls := "StairOnSticks$Stair", name := "left", desc := "(III)I" } : Jvm.MethodName)) ∈ lw_all := lw_g (lw_at lw_m5 228 rfl) rfl
theorem q1272 : (Jvm.Cond.instanceMethod ({ cls := "StairOnSticks", name := "told", desc := "(II)I" } : Jvm.MethodName)) ∈ lw_all := lw_g (lw_at lw_m5 239 rfl) rfl
theorem q1273 : (Jvm.Cond.selects "StairOnSticks" ({ cls := "StairOnSticks", name := "told", desc := "(II)I" } : Jvm.MethodName) ({ cls := "StairOnSticks", name := "told", desc := "(II)I" } : Jvm.MethodName)) ∈ lw_all := lw_g (lw_at lw_m6 0 rfl) rfl
theorem q1274 : (Jvm.Cond.codeWith ({ cls := "StairOnSticks", name := "told", desc := "(II)I" } : Jvm.MethodName) prog_1_method_43_code (4 : Nat) (Option.some Jvm.ClassFile.FieldType.int) [((16 : Nat), (26 : Nat), (27 : Nat), (99 : Nat))]) ∈ lw_all := lw_g (lw_at lw_m6 1 rfl) rfl
theorem q1275 : (Jvm.Cond.methodLink "StairOnSticks" (262 : Nat) ({ cls := "StairOnSticks", name := "goodClimb", desc := "(I)[I" } : Jvm.MethodName)) ∈ lw_all := lw_g (lw_at lw_m6 2 rfl) rfl
theorem q1276 : (Jvm.Cond.privateMethod ({ cls := "StairOnSticks", name := "goodClimb", desc := "(I)[I" } : Jvm.MethodName)) ∈ lw_tbl := lw_at lw_m6 3 rfl
theorem q1277 : (Jvm.Cond.instanceMethod ({ cls := "StairOnSticks", name := "goodClimb", desc := "(I)[I" } : Jvm.MethodName)) ∈ lw_all := lw_g (lw_at lw_m6 4 rfl) rfl
theorem q1278 : (Jvm.Cond.code ({ cls := "StairOnSticks", name := "goodClimb", desc := "(I)[I" } : Jvm.MethodName) prog_1_method_41_code (3 : Nat) (Option.some (Jvm.ClassFile.FieldType.array Jvm.ClassFile.FieldType.int))) ∈ lw_all := lw_g (lw_at lw_m6 5 rfl) rfl
theorem q1279 : (Jvm.Cond.methodLink "StairOnSticks" (265 : Nat) ({ cls := "StairOnSticks", name := "sumOf", desc := "([II)I" } : Jvm.MethodName)) ∈ lw_all := lw_g (lw_at lw_m6 6 rfl) rfl
theorem q1280 : (Jvm.Cond.privateMethod ({ cls := "StairOnSticks", name := "sumOf", desc := "([II)I" } : Jvm.MethodName)) ∈ lw_tbl := lw_at lw_m6 7 rfl
theorem q1281 : (Jvm.Cond.instanceMethod ({ cls := "StairOnSticks", name := "sumOf", desc := "([II)I" } : Jvm.MethodName)) ∈ lw_all := lw_g (lw_at lw_m6 8 rfl) rfl
theorem q1282 : (Jvm.Cond.code ({ cls := "StairOnSticks", name := "sumOf", desc := "([II)I" } : Jvm.MethodName) prog_1_method_42_code (9 : Nat) (Option.some Jvm.ClassFile.FieldType.int)) ∈ lw_all := lw_g (lw_at lw_m6 9 rfl) rfl
theorem q1283 : (Jvm.Cond.methodLink "StairOnSticks" (256 : Nat) ({ cls := "java/lang/Math", name := "max", desc := "(II)I" } : Jvm.MethodName)) ∈ lw_all := lw_g (lw_at lw_m6 10 rfl) rfl
theorem q1285 : (Jvm.Cond.instanceMethod ({ cls := "StairOnSticks", name := "odds", desc := "(I)J" } : Jvm.MethodName)) ∈ lw_all := lw_g (lw_at lw_m6 12 rfl) rfl
theorem q1286 : (Jvm.Cond.selects "StairOnSticks" ({ cls := "StairOnSticks", name := "odds", desc := "(I)J" } : Jvm.MethodName) ({ cls := "StairOnSticks", name := "odds", desc := "(I)J" } : Jvm.MethodName)) ∈ lw_all := lw_g (lw_at lw_m6 13 rfl) rfl
theorem q1287 : (Jvm.Cond.codeWith ({ cls := "StairOnSticks", name := "odds", desc := "(I)J" } : Jvm.MethodName) prog_1_method_44_code (6 : Nat) (Option.some Jvm.ClassFile.FieldType.long) [((0 : Nat), (57 : Nat), (58 : Nat), (99 : Nat))]) ∈ lw_all := lw_g (lw_at lw_m6 14 rfl) rfl
theorem q1288 : (Jvm.Cond.methodLink "StairOnSticks" (269 : Nat) ({ cls := "StairOnSticks$Move", name := "slips", desc := "(LStairOnSticks$Step;)I" } : Jvm.MethodName)) ∈ lw_all := lw_g (lw_at lw_m6 15 rfl) rfl
theorem q1290 : (Jvm.Cond.instanceMethod ({ cls := "StairOnSticks", name := "safest", desc := "(I)I" } : Jvm.MethodName)) ∈ lw_all := lw_g (lw_at lw_m6 17 rfl) rfl
theorem q1291 : (Jvm.Cond.selects "StairOnSticks" ({ cls := "StairOnSticks", name := "safest", desc := "(I)I" } : Jvm.MethodName) ({ cls := "StairOnSticks", name := "safest", desc := "(I)I" } : Jvm.MethodName)) ∈ lw_all := lw_g (lw_at lw_m6 18 rfl) rfl
theorem q1292 : (Jvm.Cond.code ({ cls := "StairOnSticks", name := "safest", desc := "(I)I" } : Jvm.MethodName) prog_1_method_46_code (2 : Nat) (Option.some Jvm.ClassFile.FieldType.int)) ∈ lw_all := lw_g (lw_at lw_m6 19 rfl) rfl
theorem q1293 : (Jvm.Cond.methodLink "StairOnSticks" (285 : Nat) ({ cls := "StairOnSticks$Best", name := "tells", desc := "(LStairOnSticks$Stair;ZI)LStairOnSticks$Best;" } : Jvm.MethodName)) ∈ lw_all := lw_g (lw_at lw_m6 20 rfl) rfl
theorem q1316 : (Jvm.Cond.methodLink "StairOnSticks" (289 : Nat) ({ cls := "StairOnSticks", name := "bestOf", desc := "(LStairOnSticks$Best;I)I" } : Jvm.MethodName)) ∈ lw_all := lw_g (lw_at lw_m6 43 rfl) rfl
theorem q1317 : (Jvm.Cond.privateMethod ({ cls := "StairOnSticks", name := "bestOf", desc := "(LStairOnSticks$Best;I)I" } : Jvm.MethodName)) ∈ lw_tbl := lw_at lw_m6 44 rfl
theorem q1318 : (Jvm.Cond.instanceMethod ({ cls := "StairOnSticks", name := "bestOf", desc := "(LStairOnSticks$Best;I)I" } : Jvm.MethodName)) ∈ lw_all := lw_g (lw_at lw_m6 45 rfl) rfl
theorem q1319 : (Jvm.Cond.code ({ cls := "StairOnSticks", name := "bestOf", desc := "(LStairOnSticks$Best;I)I" } : Jvm.MethodName) prog_1_method_45_code (3 : Nat) (Option.some Jvm.ClassFile.FieldType.int)) ∈ lw_all := lw_g (lw_at lw_m6 46 rfl) rfl
theorem q1320 : (Jvm.Cond.methodLink "StairOnSticks" (273 : Nat) ({ cls := "StairOnSticks$Best", name := "isNone", desc := "()Z" } : Jvm.MethodName)) ∈ lw_all := lw_g (lw_at lw_m6 47 rfl) rfl
theorem q1325 : (Jvm.Cond.methodLink "StairOnSticks" (277 : Nat) ({ cls := "StairOnSticks$Best", name := "slips", desc := "()I" } : Jvm.MethodName)) ∈ lw_all := lw_g (lw_at lw_m6 52 rfl) rfl
theorem q1329 : (Jvm.Cond.methodLink "StairOnSticks" (279 : Nat) ({ cls := "StairOnSticks$Best", name := "tires", desc := "()I" } : Jvm.MethodName)) ∈ lw_all := lw_g (lw_at lw_m6 56 rfl) rfl
theorem q1333 : (Jvm.Cond.methodLink "StairOnSticks" (282 : Nat) ({ cls := "StairOnSticks$Best", name := "ways", desc := "()[I" } : Jvm.MethodName)) ∈ lw_all := lw_g (lw_at lw_m6 60 rfl) rfl
theorem q1338 : (Jvm.Cond.instanceMethod ({ cls := "StairOnSticks", name := "from", desc := "(II)I" } : Jvm.MethodName)) ∈ lw_all := lw_g (lw_at lw_m6 65 rfl) rfl
theorem q1339 : (Jvm.Cond.selects "StairOnSticks" ({ cls := "StairOnSticks", name := "from", desc := "(II)I" } : Jvm.MethodName) ({ cls := "StairOnSticks", name := "from", desc := "(II)I" } : Jvm.MethodName)) ∈ lw_all := lw_g (lw_at lw_m6 66 rfl) rfl
theorem q1340 : (Jvm.Cond.code ({ cls := "StairOnSticks", name := "from", desc := "(II)I" } : Jvm.MethodName) prog_1_method_47_code (3 : Nat) (Option.some Jvm.ClassFile.FieldType.int)) ∈ lw_all := lw_g (lw_at lw_m6 67 rfl) rfl
theorem q1341 : (Jvm.Cond.methodLink "StairOnSticks" (293 : Nat) ({ cls := "StairOnSticks$Best", name := "isNone", desc := "(II)Z" } : Jvm.MethodName)) ∈ lw_all := lw_g (lw_at lw_m6 68 rfl) rfl
theorem q1342 : (Jvm.Cond.methodLink "StairOnSticks" (295 : Nat) ({ cls := "StairOnSticks$Best", name := "slips", desc := "(II)I" } : Jvm.MethodName)) ∈ lw_all := lw_g (lw_at lw_m6 69 rfl) rfl
theorem q1347 : (Jvm.Cond.instanceMethod ({ cls := "StairOnSticks", name := "easiest", desc := "(II)I" } : Jvm.MethodName)) ∈ lw_all := lw_g (lw_at lw_m6 74 rfl) rfl
theorem q1348 : (Jvm.Cond.selects "StairOnSticks" ({ cls := "StairOnSticks", name := "easiest", desc := "(II)I" } : Jvm.MethodName) ({ cls := "StairOnSticks", name := "easiest", desc := "(II)I" } : Jvm.MethodName)) ∈ lw_all := lw_g (lw_at lw_m6 75 rfl) rfl
theorem q1349 : (Jvm.Cond.code ({ cls := "StairOnSticks", name := "easiest", desc := "(II)I" } : Jvm.MethodName) prog_1_method_48_code (3 : Nat) (Option.some Jvm.ClassFile.FieldType.int)) ∈ lw_all := lw_g (lw_at lw_m6 76 rfl) rfl
theorem q1351 : (Jvm.Cond.instanceMethod ({ cls := "StairOnSticks", name := "needs", desc := "(I)I" } : Jvm.MethodName)) ∈ lw_all := lw_g (lw_at lw_m6 78 rfl) rfl
theorem q1352 : (Jvm.Cond.selects "StairOnSticks" ({ cls := "StairOnSticks", name := "needs", desc := "(I)I" } : Jvm.MethodName) ({ cls := "StairOnSticks", name := "needs", desc := "(I)I" } : Jvm.MethodName)) ∈ lw_all := lw_g (lw_at lw_m6 79 rfl) rfl
theorem q1353 : (Jvm.Cond.code ({ cls := "StairOnSticks", name := "needs", desc := "(I)I" } : Jvm.MethodName) prog_1_method_49_code (7 : Nat) (Option.some Jvm.ClassFile.FieldType.int)) ∈ lw_all := lw_g (lw_at lw_m6 80 rfl) rfl
theorem q1354 : (Jvm.Cond.methodLink "StairOnSticks" (297 : Nat) ({ cls := "StairOnSticks$Stair", name := "canBe", desc := "()Z" } : Jvm.MethodName)) ∈ lw_all := lw_g (lw_at lw_m6 81 rfl) rfl
theorem q1361 : (Jvm.Cond.instanceMethod ({ cls := "StairOnSticks", name := "helps", desc := "(II)I" } : Jvm.MethodName)) ∈ lw_all := lw_g (lw_at lw_m6 88 rfl) rfl
theorem q1362 : (Jvm.Cond.selects "StairOnSticks" ({ cls := "StairOnSticks", name := "helps", desc := "(II)I" } : Jvm.MethodName) ({ cls := "StairOnSticks", name := "helps", desc := "(II)I" } : Jvm.MethodName)) ∈ lw_all := lw_g (lw_at lw_m6 89 rfl) rfl
theorem q1363 : (Jvm.Cond.code ({ cls := "StairOnSticks", name := "helps", desc := "(II)I" } : Jvm.MethodName) prog_1_method_52_code (5 : Nat) (Option.some Jvm.ClassFile.FieldType.int)) ∈ lw_all := lw_g (lw_at lw_m6 90 rfl) rfl
theorem q1364 : (Jvm.Cond.methodLink "StairOnSticks" (310 : Nat) ({ cls := "StairOnSticks", name := "isWork", desc := "(I)Z" } : Jvm.MethodName)) ∈ lw_all := lw_g (lw_at lw_m6 91 rfl) rfl
theorem q1365 : (Jvm.Cond.static ({ cls := "StairOnSticks", name := "isWork", desc := "(I)Z" } : Jvm.MethodName)) ∈ lw_all := lw_g (lw_at lw_m6 92 rfl) rfl
theorem q1366 : (Jvm.Cond.code ({ cls := "StairOnSticks", name := "isWork", desc := "(I)Z" } : Jvm.MethodName) prog_1_method_9_code (1 : Nat) (Option.some Jvm.ClassFile.FieldType.boolean)) ∈ lw_all := lw_g (lw_at lw_m6 93 rfl) rfl
theorem q1367 : (Jvm.Cond.methodLink "StairOnSticks" (306 : Nat) ({ cls := "StairOnSticks", name := "slipsOf", desc := "(LStairOnSticks$Stair;)I" } : Jvm.MethodName)) ∈ lw_all := lw_g (lw_at lw_m6 94 rfl) rfl
theorem q1368 : (Jvm.Cond.privateMethod ({ cls := "StairOnSticks", name := "slipsOf", desc := "(LStairOnSticks$Stair;)I" } : Jvm.MethodName)) ∈ lw_tbl := lw_at lw_m6 95 rfl
theorem q1369 : (Jvm.Cond.instanceMethod ({ cls := "StairOnSticks", name := "slipsOf", desc := "(LStairOnSticks$Stair;)I" } : Jvm.MethodName)) ∈ lw_all := lw_g (lw_at lw_m6 96 rfl) rfl
theorem q1370 : (Jvm.Cond.code ({ cls := "StairOnSticks", name := "slipsOf", desc := "(LStairOnSticks$Stair;)I" } : Jvm.MethodName) prog_1_method_50_code (2 : Nat) (Option.some Jvm.ClassFile.FieldType.int)) ∈ lw_all := lw_g (lw_at lw_m6 97 rfl) rfl
theorem q1371 : (Jvm.Cond.methodLink "StairOnSticks" (313 : Nat) ({ cls := "StairOnSticks", name := "slipsWith", desc := "(II)I" } : Jvm.MethodName)) ∈ lw_all := lw_g (lw_at lw_m6 98 rfl) rfl
theorem q1372 : (Jvm.Cond.privateMethod ({ cls := "StairOnSticks", name := "slipsWith", desc := "(II)I" } : Jvm.MethodName)) ∈ lw_tbl := lw_at lw_m6 99 rfl
theorem q1373 : (Jvm.Cond.instanceMethod ({ cls := "StairOnSticks", name := "slipsWith", desc := "(II)I" } : Jvm.MethodName)) ∈ lw_all := lw_g (lw_at lw_m6 100 rfl) rfl
theorem q1374 : (Jvm.Cond.code ({ cls := "StairOnSticks", name := "slipsWith", desc := "(II)I" } : Jvm.MethodName) prog_1_method_51_code (5 : Nat) (Option.some Jvm.ClassFile.FieldType.int)) ∈ lw_all := lw_g (lw_at lw_m6 101 rfl) rfl
theorem q1375 : (Jvm.Cond.methodLink "StairOnSticks" (300 : Nat) ({ cls := "StairOnSticks$Step", name := "copied", desc := "()LStairOnSticks$Step;" } : Jvm.MethodName)) ∈ lw_all := lw_g (lw_at lw_m6 102 rfl) rfl
theorem q1376 : (Jvm.Cond.methodLink "StairOnSticks" (303 : Nat) ({ cls := "StairOnSticks$Step", name := "does", desc := "(I)V" } : Jvm.MethodName)) ∈ lw_all := lw_g (lw_at lw_m6 103 rfl) rfl
theorem q1382 : (Jvm.Cond.instanceMethod ({ cls := "StairOnSticks", name := "where", desc := "(I)I" } : Jvm.MethodName)) ∈ lw_all := lw_g (lw_at lw_m6 109 rfl) rfl
theorem q1383 : (Jvm.Cond.selects "StairOnSticks" ({ cls := "StairOnSticks", name := "where", desc := "(I)I" } : Jvm.MethodName) ({ cls := "StairOnSticks", name := "where", desc := "(I)I" } : Jvm.MethodName)) ∈ lw_all := lw_g (lw_at lw_m6 110 rfl) rfl
theorem q1384 : (Jvm.Cond.code ({ cls := "StairOnSticks", name := "where", desc := "(I)I" } : Jvm.MethodName) prog_1_method_54_code (2 : Nat) (Option.some Jvm.ClassFile.FieldType.int)) ∈ lw_all := lw_g (lw_at lw_m6 111 rfl) rfl
theorem q1385 : (Jvm.Cond.methodLink "StairOnSticks" (316 : Nat) ({ cls := "StairOnSticks", name := "whereOf", desc := "(I)I" } : Jvm.MethodName)) ∈ lw_all := lw_g (lw_at lw_m6 112 rfl) rfl
theorem q1386 : (Jvm.Cond.privateMethod ({ cls := "StairOnSticks", name := "whereOf", desc := "(I)I" } : Jvm.MethodName)) ∈ lw_tbl := lw_at lw_m6 113 rfl
theorem q1387 : (Jvm.Cond.instanceMethod ({ cls := "StairOnSticks", name := "whereOf", desc := "(I)I" } : Jvm.MethodName)) ∈ lw_all := lw_g (lw_at lw_m6 114 rfl) rfl
theorem q1388 : (Jvm.Cond.code ({ cls := "StairOnSticks", name := "whereOf", desc := "(I)I" } : Jvm.MethodName) prog_1_method_53_code (7 : Nat) (Option.some Jvm.ClassFile.FieldType.int)) ∈ lw_all := lw_g (lw_at lw_m6 115 rfl) rfl
theorem q1390 : (Jvm.Cond.instanceMethod ({ cls := "StairOnSticks", name := "works", desc := "(II)I" } : Jvm.MethodName)) ∈ lw_all := lw_g (lw_at lw_m6 117 rfl) rfl
theorem q1391 : (Jvm.Cond.selects "StairOnSticks" ({ cls := "StairOnSticks", name := "works", desc := "(II)I" } : Jvm.MethodName) ({ cls := "StairOnSticks", name := "works", desc := "(II)I" } : Jvm.MethodName)) ∈ lw_all := lw_g (lw_at lw_m6 118 rfl) rfl
theorem q1392 : (Jvm.Cond.code ({ cls := "StairOnSticks", name := "works", desc := "(II)I" } : Jvm.MethodName) prog_1_method_57_code (8 : Nat) (Option.some Jvm.ClassFile.FieldType.int)) ∈ lw_all := lw_g (lw_at lw_m6 119 rfl) rfl
theorem q1393 : (Jvm.Cond.methodLink "StairOnSticks" (322 : Nat) ({ cls := "StairOnSticks", name := "wetSteps", desc := "()I" } : Jvm.MethodName)) ∈ lw_all := lw_g (lw_at lw_m6 120 rfl) rfl
theorem q1394 : (Jvm.Cond.privateMethod ({ cls := "StairOnSticks", name := "wetSteps", desc := "()I" } : Jvm.MethodName)) ∈ lw_tbl := lw_at lw_m6 121 rfl
theorem q1395 : (Jvm.Cond.instanceMethod ({ cls := "StairOnSticks", name := "wetSteps", desc := "()I" } : Jvm.MethodName)) ∈ lw_all := lw_g (lw_at lw_m6 122 rfl) rfl
theorem q1396 : (Jvm.Cond.code ({ cls := "StairOnSticks", name := "wetSteps", desc := "()I" } : Jvm.MethodName) prog_1_method_56_code (3 : Nat) (Option.some Jvm.ClassFile.FieldType.int)) ∈ lw_all := lw_g (lw_at lw_m6 123 rfl) rfl
theorem q1397 : (Jvm.Cond.methodLink "StairOnSticks" (325 : Nat) ({ cls := "StairOnSticks$Person", name := "price", desc := "(I)I" } : Jvm.MethodName)) ∈ lw_all := lw_g (lw_at lw_m6 124 rfl) rfl
theorem q1401 : (Jvm.Cond.methodLink "StairOnSticks" (328 : Nat) ({ cls := "StairOnSticks", name := "tries", desc := "(III[I[I[I)V" } : Jvm.MethodName)) ∈ lw_all := lw_g (lw_at lw_m6 128 rfl) rfl
theorem q1402 : (Jvm.Cond.privateMethod ({ cls := "StairOnSticks", name := "tries", desc := "(III[I[I[I)V" } : Jvm.MethodName)) ∈ lw_tbl := lw_at lw_m6 129 rfl
theorem q1403 : (Jvm.Cond.instanceMethod ({ cls := "StairOnSticks", name := "tries", desc := "(III[I[I[I)V" } : Jvm.MethodName)) ∈ lw_all := lw_g (lw_at lw_m6 130 rfl) rfl
theorem q1404 : (Jvm.Cond.code ({ cls := "StairOnSticks", name := "tries", desc := "(III[I[I[I)V" } : Jvm.MethodName) prog_1_method_58_code (11 : Nat) (Option.none : Option Jvm.ClassFile.FieldType)) ∈ lw_all := lw_g (lw_at lw_m6 131 rfl) rfl
theorem q1405 : (Jvm.Cond.methodLink "StairOnSticks" (319 : Nat) ({ cls := "StairOnSticks", name := "has", desc := "(II)Z" } : Jvm.MethodName)) ∈ lw_all := lw_g (lw_at lw_m6 132 rfl) rfl
theorem q1406 : (Jvm.Cond.static ({ cls := "StairOnSticks", name := "has", desc := "(II)Z" } : Jvm.MethodName)) ∈ lw_all := lw_g (lw_at lw_m6 133 rfl) rfl
theorem q1407 : (Jvm.Cond.code ({ cls := "StairOnSticks", name := "has", desc := "(II)Z" } : Jvm.MethodName) prog_1_method_2_code (2 : Nat) (Option.some Jvm.ClassFile.FieldType.boolean)) ∈ lw_all := lw_g (lw_at lw_m6 134 rfl) rfl
theorem q1408 : (Jvm.Cond.methodLink "StairOnSticks" (332 : Nat) ({ cls := "StairOnSticks", name := "does", desc := "(LStairOnSticks$Stair;I[I)V" } : Jvm.MethodName)) ∈ lw_all := lw_g (lw_at lw_m6 135 rfl) rfl
theorem q1409 : (Jvm.Cond.privateMethod ({ cls := "StairOnSticks", name := "does", desc := "(LStairOnSticks$Stair;I[I)V" } : Jvm.MethodName)) ∈ lw_tbl := lw_at lw_m6 136 rfl
theorem q1410 : (Jvm.Cond.instanceMethod ({ cls := "StairOnSticks", name := "does", desc := "(LStairOnSticks$Stair;I[I)V" } : Jvm.MethodName)) ∈ lw_all := lw_g (lw_at lw_m6 137 rfl) rfl
theorem q1411 : (Jvm.Cond.code ({ cls := "StairOnSticks", name := "does", desc := "(LStairOnSticks$Stair;I[I)V" } : Jvm.MethodName) prog_1_method_55_code (5 : Nat) (Option.none : Option Jvm.ClassFile.FieldType)) ∈ lw_all := lw_g (lw_at lw_m6 138 rfl) rfl
theorem q1413 : (Jvm.Cond.instanceMethod ({ cls := "StairOnSticks", name := "done", desc := "(II)I" } : Jvm.MethodName)) ∈ lw_all := lw_g (lw_at lw_m6 140 rfl) rfl
theorem q1414 : (Jvm.Cond.selects "StairOnSticks" ({ cls := "StairOnSticks", name := "done", desc := "(II)I" } : Jvm.MethodName) ({ cls := "StairOnSticks", name := "done", desc := "(II)I" } : Jvm.MethodName)) ∈ lw_all := lw_g (lw_at lw_m6 141 rfl) rfl
theorem q1415 : (Jvm.Cond.code ({ cls := "StairOnSticks", name := "done", desc := "(II)I" } : Jvm.MethodName) prog_1_method_59_code (4 : Nat) (Option.some Jvm.ClassFile.FieldType.int)) ∈ lw_all := lw_g (lw_at lw_m6 142 rfl) rfl
theorem q1416 : (Jvm.Cond.methodLink "StairOnSticks" (335 : Nat) ({ cls := "StairOnSticks$Step", name := "isDone", desc := "(I)Z" } : Jvm.MethodName)) ∈ lw_all := lw_g (lw_at lw_m6 143 rfl) rfl
theorem q1422 : (Jvm.Cond.instanceMethod ({ cls := "StairOnSticks", name := "goings", desc := "(IIII)I" } : Jvm.MethodName)) ∈ lw_all := lw_g (lw_at lw_m6 149 rfl) rfl
theorem q1423 : (Jvm.Cond.selects "StairOnSticks" ({ cls := "StairOnSticks", name := "goings", desc := "(IIII)I" } : Jvm.MethodName) ({ cls := "StairOnSticks", name := "goings", desc := "(IIII)I" } : Jvm.MethodName)) ∈ lw_all := lw_g (lw_at lw_m6 150 rfl) rfl
theorem q1424 : (Jvm.Cond.codeWith ({ cls := "StairOnSticks", name := "goings", desc := "(IIII)I" } : Jvm.MethodName) prog_1_method_61_code (9 : Nat) (Option.some Jvm.ClassFile.FieldType.int) [((45 : Nat), (85 : Nat), (154 : Nat), (99 : Nat)), ((86 : Nat), (153 : Nat), (154 : Nat), (99 : Nat))]) ∈ lw_all := lw_g (lw_at lw_m6 151 rfl) rfl
theorem q1425 : (Jvm.Cond.methodLink "StairOnSticks" (338 : Nat) ({ cls := "StairOnSticks", name := "told", desc := "(III)[I" } : Jvm.MethodName)) ∈ lw_all := lw_g (lw_at lw_m6 152 rfl) rfl
theorem q1426 : (Jvm.Cond.privateMethod ({ cls := "StairOnSticks", name := "told", desc := "(III)[I" } : Jvm.MethodName)) ∈ lw_tbl := lw_at lw_m6 153 rfl
theorem q1427 : (Jvm.Cond.instanceMethod ({ cls := "StairOnSticks", name := "told", desc := "(III)[I" } : Jvm.MethodName)) ∈ lw_all := lw_g (lw_at lw_m6 154 rfl) rfl
theorem q1428 : (Jvm.Cond.codeWith ({ cls := "StairOnSticks", name := "told", desc := "(III)[I" } : Jvm.MethodName) prog_1_method_60_code (9 : Nat) (Option.some (Jvm.ClassFile.FieldType.array Jvm.ClassFile.FieldType.int)) [((12 : Nat), (78 : Nat), (81 : Nat), (115 : Nat))]) ∈ lw_all := lw_g (lw_at lw_m6 155 rfl) rfl
theorem q1430 : (Jvm.Cond.instanceMethod ({ cls := "StairOnSticks", name := "week", desc := "(I)I" } : Jvm.MethodName)) ∈ lw_all := lw_g (lw_at lw_m6 157 rfl) rfl
theorem q1431 : (Jvm.Cond.selects "StairOnSticks" ({ cls := "StairOnSticks", name := "week", desc := "(I)I" } : Jvm.MethodName) ({ cls := "StairOnSticks", name := "week", desc := "(I)I" } : Jvm.MethodName)) ∈ lw_all := lw_g (lw_at lw_m6 158 rfl) rfl
theorem q1432 : (Jvm.Cond.code ({ cls := "StairOnSticks", name := "week", desc := "(I)I" } : Jvm.MethodName) prog_1_method_62_code (2 : Nat) (Option.some Jvm.ClassFile.FieldType.int)) ∈ lw_all := lw_g (lw_at lw_m6 159 rfl) rfl
theorem q1433 : (Jvm.Cond.methodLink "StairOnSticks" (342 : Nat) ({ cls := "StairOnSticks$Person", name := "heal", desc := "()I" } : Jvm.MethodName)) ∈ lw_all := lw_g (lw_at lw_m6 160 rfl) rfl
theorem q1437 : (Jvm.Cond.methodLink "StairOnSticks" (345 : Nat) ({ cls := "StairOnSticks$Person", name := "heals", desc := "(II)I" } : Jvm.MethodName)) ∈ lw_all := lw_g (lw_at lw_m6 164 rfl) rfl
theorem q1444 : (Jvm.Cond.instanceMethod ({ cls := "StairOnSticks", name := "weeks", desc := "(I)I" } : Jvm.MethodName)) ∈ lw_all := lw_g (lw_at lw_m6 171 rfl) rfl
theorem q1445 : (Jvm.Cond.selects "StairOnSticks" ({ cls := "StairOnSticks", name := "weeks", desc := "(I)I" } : Jvm.MethodName) ({ cls := "StairOnSticks", name := "weeks", desc := "(I)I" } : Jvm.MethodName)) ∈ lw_all := lw_g (lw_at lw_m6 172 rfl) rfl
theorem q1446 : (Jvm.Cond.code ({ cls := "StairOnSticks", name := "weeks", desc := "(I)I" } : Jvm.MethodName) prog_1_method_64_code (2 : Nat) (Option.some Jvm.ClassFile.FieldType.int)) ∈ lw_all := lw_g (lw_at lw_m6 173 rfl) rfl
theorem q1447 : (Jvm.Cond.methodLink "StairOnSticks" (351 : Nat) ({ cls := "StairOnSticks", name := "weeksBy", desc := "(I)I" } : Jvm.MethodName)) ∈ lw_all := lw_g (lw_at lw_m6 174 rfl) rfl
theorem q1448 : (Jvm.Cond.privateMethod ({ cls := "StairOnSticks", name := "weeksBy", desc := "(I)I" } : Jvm.MethodName)) ∈ lw_tbl := lw_at lw_m6 175 rfl
theorem q1449 : (Jvm.Cond.instanceMethod ({ cls := "StairOnSticks", name := "weeksBy", desc := "(I)I" } : Jvm.MethodName)) ∈ lw_all := lw_g (lw_at lw_m6 176 rfl) rfl
theorem q1450 : (Jvm.Cond.code ({ cls := "StairOnSticks", name := "weeksBy", desc := "(I)I" } : Jvm.MethodName) prog_1_method_63_code (5 : Nat) (Option.some Jvm.ClassFile.FieldType.int)) ∈ lw_all := lw_g (lw_at lw_m6 177 rfl) rfl
theorem q1452 : (Jvm.Cond.instanceMethod ({ cls := "StairOnSticks", name := "when", desc := "(III)I" } : Jvm.MethodName)) ∈ lw_all := lw_g (lw_at lw_m6 179 rfl) rfl
theorem q1453 : (Jvm.Cond.selects "StairOnSticks" ({ cls := "StairOnSticks", name := "when", desc := "(III)I" } : Jvm.MethodName) ({ cls := "StairOnSticks", name := "when", desc := "(III)I" } : Jvm.MethodName)) ∈ lw_all := lw_g (lw_at lw_m6 180 rfl) rfl
theorem q1454 : (Jvm.Cond.codeWith ({ cls := "StairOnSticks", name := "when", desc := "(III)I" } : Jvm.MethodName) prog_1_method_65_code (7 : Nat) (Option.some Jvm.ClassFile.FieldType.int) [((34 : Nat), (101 : Nat), (120 : Nat), (99 : Nat)), ((102 : Nat), (119 : Nat), (120 : Nat), (99 : Nat))]) ∈ lw_all := lw_g (lw_at lw_m6 181 rfl) rfl
theorem q1456 : (Jvm.Cond.instanceMethod ({ cls := "StairOnSticks", name := "soonest", desc := "()I" } : Jvm.MethodName)) ∈ lw_all := lw_g (lw_at lw_m6 183 rfl) rfl
theorem q1457 : (Jvm.Cond.selects "StairOnSticks" ({ cls := "StairOnSticks", name := "soonest", desc := "()I" } : Jvm.MethodName) ({ cls := "StairOnSticks", name := "soonest", desc := "()I" } : Jvm.MethodName)) ∈ lw_all := lw_g (lw_at lw_m6 184 rfl) rfl
theorem q1458 : (Jvm.Cond.code ({ cls := "StairOnSticks", name := "soonest", desc := "()I" } : Jvm.MethodName) prog_1_method_66_code (4 : Nat) (Option.some Jvm.ClassFile.FieldType.int)) ∈ lw_all := lw_g (lw_at lw_m6 185 rfl) rfl
theorem q1460 : (Jvm.Cond.instanceMethod ({ cls := "StairOnSticks", name := "climbs", desc := "(I)I" } : Jvm.MethodName)) ∈ lw_all := lw_g (lw_at lw_m6 187 rfl) rfl
theorem q1461 : (Jvm.Cond.selects "StairOnSticks" ({ cls := "StairOnSticks", name := "climbs", desc := "(I)I" } : Jvm.MethodName) ({ cls := "StairOnSticks", name := "climbs", desc := "(I)I" } : Jvm.MethodName)) ∈ lw_all := lw_g (lw_at lw_m6 188 rfl) rfl
theorem q1462 : (Jvm.Cond.codeWith ({ cls := "StairOnSticks", name := "climbs", desc := "(I)I" } : Jvm.MethodName) prog_1_method_67_code (3 : Nat) (Option.some Jvm.ClassFile.FieldType.int) [((0 : Nat), (12 : Nat), (13 : Nat), (99 : Nat))]) ∈ lw_all := lw_g (lw_at lw_m6 189 rfl) rfl
theorem q1463 : (Jvm.Cond.methodLink "StairOnSticks" (354 : Nat) ({ cls := "StairOnSticks$Stair", name := "climbs", desc := "([I)I" } : Jvm.MethodName)) ∈ lw_all := lw_g (lw_at lw_m6 190 rfl) rfl
theorem q1474 : (Jvm.Cond.instanceMethod ({ cls := "StairOnSticks", name := "goes", desc := "()I" } : Jvm.MethodName)) ∈ lw_all := lw_g (lw_at lw_m6 201 rfl) rfl
theorem q1475 : (Jvm.Cond.selects "StairOnSticks" ({ cls := "StairOnSticks", name := "goes", desc := "()I" } : Jvm.MethodName) ({ cls := "StairOnSticks", name := "goes", desc := "()I" } : Jvm.MethodName)) ∈ lw_all := lw_g (lw_at lw_m6 202 rfl) rfl
theorem q1476 : (Jvm.Cond.code ({ cls := "StairOnSticks", name := "goes", desc := "()I" } : Jvm.MethodName) prog_1_method_68_code (1 : Nat) (Option.some Jvm.ClassFile.FieldType.int)) ∈ lw_all := lw_g (lw_at lw_m6 203 rfl) rfl
theorem q1478 : (Jvm.Cond.instanceMethod ({ cls := "StairOnSticks", name := "seed", desc := "(I)I" } : Jvm.MethodName)) ∈ lw_all := lw_g (lw_at lw_m6 205 rfl) rfl
theorem q1479 : (Jvm.Cond.selects "StairOnSticks" ({ cls := "StairOnSticks", name := "seed", desc := "(I)I" } : Jvm.MethodName) ({ cls := "StairOnSticks", name := "seed", desc := "(I)I" } : Jvm.MethodName)) ∈ lw_all := lw_g (lw_at lw_m6 206 rfl) rfl
theorem q1480 : (Jvm.Cond.code ({ cls := "StairOnSticks", name := "seed", desc := "(I)I" } : Jvm.MethodName) prog_1_method_69_code (3 : Nat) (Option.some Jvm.ClassFile.FieldType.int)) ∈ lw_all := lw_g (lw_at lw_m6 207 rfl) rfl
theorem q1482 : (Jvm.Cond.instanceMethod ({ cls := "StairOnSticks", name := "image", desc := "()I" } : Jvm.MethodName)) ∈ lw_all := lw_g (lw_at lw_m6 209 rfl) rfl
theorem q1483 : (Jvm.Cond.selects "StairOnSticks" ({ cls := "StairOnSticks", name := "image", desc := "()I" } : Jvm.MethodName) ({ cls := "StairOnSticks", name := "image", desc := "()I" } : Jvm.MethodName)) ∈ lw_all := lw_g (lw_at lw_m6 210 rfl) rfl
theorem q1484 : (Jvm.Cond.code ({ cls := "StairOnSticks", name := "image", desc := "()I" } : Jvm.MethodName) prog_1_method_70_code (1 : Nat) (Option.some Jvm.ClassFile.FieldType.int)) ∈ lw_all := lw_g (lw_at lw_m6 211 rfl) rfl
theorem q1486 : (Jvm.Cond.instanceMethod ({ cls := "StairOnSticks", name := "back", desc := "()I" } : Jvm.MethodName)) ∈ lw_all := lw_g (lw_at lw_m6 213 rfl) rfl
theorem q1487 : (Jvm.Cond.selects "StairOnSticks" ({ cls := "StairOnSticks", name := "back", desc := "()I" } : Jvm.MethodName) ({ cls := "StairOnSticks", name := "back", desc := "()I" } : Jvm.MethodName)) ∈ lw_all := lw_g (lw_at lw_m6 214 rfl) rfl
theorem q1488 : (Jvm.Cond.code ({ cls := "StairOnSticks", name := "back", desc := "()I" } : Jvm.MethodName) prog_1_method_71_code (3 : Nat) (Option.some Jvm.ClassFile.FieldType.int)) ∈ lw_all := lw_g (lw_at lw_m6 215 rfl) rfl
theorem q1490 : (Jvm.Cond.instanceMethod ({ cls := "StairOnSticks", name := "status", desc := "(I)I" } : Jvm.MethodName)) ∈ lw_all := lw_g (lw_at lw_m6 217 rfl) rfl
theorem q1491 : (Jvm.Cond.selects "StairOnSticks" ({ cls := "StairOnSticks", name := "status", desc := "(I)I" } : Jvm.MethodName) ({ cls := "StairOnSticks", name := "status", desc := "(I)I" } : Jvm.MethodName)) ∈ lw_all := lw_g (lw_at lw_m6 218 rfl) rfl
theorem q1492 : (Jvm.Cond.code ({ cls := "StairOnSticks", name := "status", desc := "(I)I" } : Jvm.MethodName) prog_1_method_74_code (2 : Nat) (Option.some Jvm.ClassFile.FieldType.int)) ∈ lw_all := lw_g (lw_at lw_m6 219 rfl) rfl
theorem q1493 : (Jvm.Cond.methodLink "StairOnSticks" (368 : Nat) ({ cls := "StairOnSticks", name := "high", desc := "()I" } : Jvm.MethodName)) ∈ lw_all := lw_g (lw_at lw_m6 220 rfl) rfl
theorem q1494 : (Jvm.Cond.privateMethod ({ cls := "StairOnSticks", name := "high", desc := "()I" } : Jvm.MethodName)) ∈ lw_tbl := lw_at lw_m6 221 rfl
theorem q1495 : (Jvm.Cond.instanceMethod ({ cls := "StairOnSticks", name := "high", desc := "()I" } : Jvm.MethodName)) ∈ lw_all := lw_g (lw_at lw_m6 222 rfl) rfl
theorem q1496 : (Jvm.Cond.code ({ cls := "StairOnSticks", name := "high", desc := "()I" } : Jvm.MethodName) prog_1_method_73_code (3 : Nat) (Option.some Jvm.ClassFile.FieldType.int)) ∈ lw_all := lw_g (lw_at lw_m6 223 rfl) rfl
theorem q1497 : (Jvm.Cond.methodLink "StairOnSticks" (371 : Nat) ({ cls := "StairOnSticks", name := "held", desc := "()I" } : Jvm.MethodName)) ∈ lw_all := lw_g (lw_at lw_m6 224 rfl) rfl
theorem q1498 : (Jvm.Cond.privateMethod ({ cls := "StairOnSticks", name := "held", desc := "()I" } : Jvm.MethodName)) ∈ lw_tbl := lw_at lw_m6 225 rfl
theorem q1499 : (Jvm.Cond.instanceMethod ({ cls := "StairOnSticks", name := "held", desc := "()I" } : Jvm.MethodName)) ∈ lw_all := lw_g (lw_at lw_m6 226 rfl) rfl
theorem q1500 : (Jvm.Cond.code ({ cls := "StairOnSticks", name := "held", desc := "()I" } : Jvm.MethodName) prog_1_method_72_code (3 : Nat) (Option.some Jvm.ClassFile.FieldType.int)) ∈ lw_all := lw_g (lw_at lw_m6 227 rfl) rfl
theorem in_X0 : ∀ w ∈ wsX00, w ∈ lw_all := lw_in wsX00 [233, 235, 237, 239, 241, 243, 245] (by decide +kernel) (by decide +kernel)
