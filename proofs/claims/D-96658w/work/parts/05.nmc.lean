/-! CakesToTheWatched -/
set_option maxRecDepth 100000
def RX1 : String := "CakesToTheWatched"
def TX1 : u_T := fun k => match k with
  | 0 => ("CakesToTheWatched", "now", "LCakesToTheWatched$Fete;", true)
  | 1 => ("CakesToTheWatched", "kept", "LCakesToTheWatched$Fete;", true)
  | 2 => ("CakesToTheWatched", "mind", "LCakesToTheWatched$Fete;", true)
  | 3 => ("CakesToTheWatched", "hasImage", "Z", false)
  | 4 => ("CakesToTheWatched", "told", "[LCakesToTheWatched$Told;", true)
  | 5 => ("CakesToTheWatched", "value", "[I", true)
  | 6 => ("CakesToTheWatched", "by", "[I", true)
  | 7 => ("CakesToTheWatched", "lots", "I", false)
  | _ => ("CakesToTheWatched", "shelves", "[LCakesToTheWatched$Shelf;", true)
def tyX1 : Nat → FieldType := fun k => match k with
  | 0 => .object "CakesToTheWatched$Fete"
  | 1 => .object "CakesToTheWatched$Fete"
  | 2 => .object "CakesToTheWatched$Fete"
  | 3 => .boolean
  | 4 => .array (.object "CakesToTheWatched$Told")
  | 5 => .array .int
  | 6 => .array .int
  | 7 => .int
  | _ => .array (.object "CakesToTheWatched$Shelf")
abbrev wsX10 : List Cond := u_ws RX1 TX1 9
theorem nmX1 : ∀ a, a < 9 → ∀ b, b < 9 → a ≠ b → (TX1 a).2.1 ≠ (TX1 b).2.1 := by decide +kernel
theorem tyX1_ok : ∀ k, k < 9 → parseFieldDescriptor (TX1 k).2.2.1 = some (tyX1 k) := by decide +kernel
abbrev cX1_fete : ByteArray := prog_1_method_11_code
def yX1_fete : MethodName := ⟨RX1, "fete", "(I)I"⟩
def dkwX1_fete_1 : List UInt8 := [199, 0, 8, 16, 245, 167, 0, 8, 42, 44, 182, 0, 140, 172, 77, 16, 244, 172, 77, 44, 180, 0, 146, 172]
abbrev dktX1_fete_1 : List UInt8 := dkwX1_fete_1 ++ []
def dkwX1_fete_0 : List UInt8 := [42, 27, 182, 0, 125, 154, 0, 5, 2, 172, 42, 180, 0, 128, 27, 50, 180, 0, 132, 192, 0, 138, 77, 44]
abbrev dktX1_fete_0 : List UInt8 := dkwX1_fete_0 ++ dktX1_fete_1
theorem dksX1_fete_0 : cX1_fete.data.toList.drop 0 = dktX1_fete_0 := by decide +kernel
theorem dksX1_fete_1 : cX1_fete.data.toList.drop 24 = dktX1_fete_1 := dk_seg dksX1_fete_0 24 rfl rfl
theorem dX1_fete_0 : decode cX1_fete 0 = .ok (.aload_n 0, 1) := dk_42 (dk_at dksX1_fete_0 0 rfl rfl)
theorem dX1_fete_1 : decode cX1_fete 1 = .ok (.iload_n 1, 1) := dk_27 (dk_at dksX1_fete_0 1 rfl rfl)
theorem dX1_fete_2 : decode cX1_fete 2 = .ok (.invokevirtual 125, 3) := dk_182 0 125 (dk_at dksX1_fete_0 2 rfl rfl)
theorem dX1_fete_5 : decode cX1_fete 5 = .ok (.ifCond .ne 5, 3) := dk_154 0 5 (dk_at dksX1_fete_0 5 rfl rfl)
theorem dX1_fete_8 : decode cX1_fete 8 = .ok (.iconst (-1), 1) := dk_2 (dk_at dksX1_fete_0 8 rfl rfl)
theorem dX1_fete_9 : decode cX1_fete 9 = .ok (.ireturn, 1) := dk_172 (dk_at dksX1_fete_0 9 rfl rfl)
theorem dX1_fete_10 : decode cX1_fete 10 = .ok (.aload_n 0, 1) := dk_42 (dk_at dksX1_fete_0 10 rfl rfl)
theorem dX1_fete_11 : decode cX1_fete 11 = .ok (.getfield 128, 3) := dk_180 0 128 (dk_at dksX1_fete_0 11 rfl rfl)
theorem dX1_fete_14 : decode cX1_fete 14 = .ok (.iload_n 1, 1) := dk_27 (dk_at dksX1_fete_0 14 rfl rfl)
theorem dX1_fete_15 : decode cX1_fete 15 = .ok (.aaload, 1) := dk_50 (dk_at dksX1_fete_0 15 rfl rfl)
theorem dX1_fete_16 : decode cX1_fete 16 = .ok (.getfield 132, 3) := dk_180 0 132 (dk_at dksX1_fete_0 16 rfl rfl)
theorem dX1_fete_19 : decode cX1_fete 19 = .ok (.checkcast 138, 3) := dk_192 0 138 (dk_at dksX1_fete_0 19 rfl rfl)
theorem dX1_fete_22 : decode cX1_fete 22 = .ok (.astore_n 2, 1) := dk_77 (dk_at dksX1_fete_0 22 rfl rfl)
theorem dX1_fete_23 : decode cX1_fete 23 = .ok (.aload_n 2, 1) := dk_44 (dk_at dksX1_fete_0 23 rfl rfl)
theorem dX1_fete_24 : decode cX1_fete 24 = .ok (.ifnonnull 8, 3) := dk_199 0 8 (dk_at dksX1_fete_1 0 rfl rfl)
theorem dX1_fete_27 : decode cX1_fete 27 = .ok (.bipush (-11), 2) := dk_16 245 (dk_at dksX1_fete_1 3 rfl rfl)
theorem dX1_fete_29 : decode cX1_fete 29 = .ok (.goto 8, 3) := dk_167 0 8 (dk_at dksX1_fete_1 5 rfl rfl)
theorem dX1_fete_32 : decode cX1_fete 32 = .ok (.aload_n 0, 1) := dk_42 (dk_at dksX1_fete_1 8 rfl rfl)
theorem dX1_fete_33 : decode cX1_fete 33 = .ok (.aload_n 2, 1) := dk_44 (dk_at dksX1_fete_1 9 rfl rfl)
theorem dX1_fete_34 : decode cX1_fete 34 = .ok (.invokevirtual 140, 3) := dk_182 0 140 (dk_at dksX1_fete_1 10 rfl rfl)
theorem dX1_fete_37 : decode cX1_fete 37 = .ok (.ireturn, 1) := dk_172 (dk_at dksX1_fete_1 13 rfl rfl)
theorem dX1_fete_38 : decode cX1_fete 38 = .ok (.astore_n 2, 1) := dk_77 (dk_at dksX1_fete_1 14 rfl rfl)
theorem dX1_fete_39 : decode cX1_fete 39 = .ok (.bipush (-12), 2) := dk_16 244 (dk_at dksX1_fete_1 15 rfl rfl)
theorem dX1_fete_41 : decode cX1_fete 41 = .ok (.ireturn, 1) := dk_172 (dk_at dksX1_fete_1 17 rfl rfl)
theorem dX1_fete_42 : decode cX1_fete 42 = .ok (.astore_n 2, 1) := dk_77 (dk_at dksX1_fete_1 18 rfl rfl)
theorem dX1_fete_43 : decode cX1_fete 43 = .ok (.aload_n 2, 1) := dk_44 (dk_at dksX1_fete_1 19 rfl rfl)
theorem dX1_fete_44 : decode cX1_fete 44 = .ok (.getfield 146, 3) := dk_180 0 146 (dk_at dksX1_fete_1 20 rfl rfl)
theorem dX1_fete_47 : decode cX1_fete 47 = .ok (.ireturn, 1) := dk_172 (dk_at dksX1_fete_1 23 rfl rfl)
abbrev cX1_isShelf : ByteArray := prog_1_method_4_code
def yX1_isShelf : MethodName := ⟨RX1, "isShelf", "(I)Z"⟩
def dkwX1_isShelf_0 : List UInt8 := [27, 3, 16, 7, 184, 0, 30, 172]
abbrev dktX1_isShelf_0 : List UInt8 := dkwX1_isShelf_0 ++ []
theorem dksX1_isShelf_0 : cX1_isShelf.data.toList.drop 0 = dktX1_isShelf_0 := by decide +kernel
theorem dX1_isShelf_0 : decode cX1_isShelf 0 = .ok (.iload_n 1, 1) := dk_27 (dk_at dksX1_isShelf_0 0 rfl rfl)
theorem dX1_isShelf_1 : decode cX1_isShelf 1 = .ok (.iconst 0, 1) := dk_3 (dk_at dksX1_isShelf_0 1 rfl rfl)
theorem dX1_isShelf_2 : decode cX1_isShelf 2 = .ok (.bipush 7, 2) := dk_16 7 (dk_at dksX1_isShelf_0 2 rfl rfl)
theorem dX1_isShelf_4 : decode cX1_isShelf 4 = .ok (.invokestatic 30, 3) := dk_184 0 30 (dk_at dksX1_isShelf_0 4 rfl rfl)
theorem dX1_isShelf_7 : decode cX1_isShelf 7 = .ok (.ireturn, 1) := dk_172 (dk_at dksX1_isShelf_0 7 rfl rfl)
abbrev cX1_isIn : ByteArray := prog_1_method_1_code
def yX1_isIn : MethodName := ⟨RX1, "isIn", "(III)Z"⟩
def dkwX1_isIn_0 : List UInt8 := [26, 27, 161, 0, 12, 26, 28, 163, 0, 7, 4, 167, 0, 4, 3, 172]
abbrev dktX1_isIn_0 : List UInt8 := dkwX1_isIn_0 ++ []
theorem dksX1_isIn_0 : cX1_isIn.data.toList.drop 0 = dktX1_isIn_0 := by decide +kernel
theorem dX1_isIn_0 : decode cX1_isIn 0 = .ok (.iload_n 0, 1) := dk_26 (dk_at dksX1_isIn_0 0 rfl rfl)
theorem dX1_isIn_1 : decode cX1_isIn 1 = .ok (.iload_n 1, 1) := dk_27 (dk_at dksX1_isIn_0 1 rfl rfl)
theorem dX1_isIn_2 : decode cX1_isIn 2 = .ok (.if_icmp .lt 12, 3) := dk_161 0 12 (dk_at dksX1_isIn_0 2 rfl rfl)
theorem dX1_isIn_5 : decode cX1_isIn 5 = .ok (.iload_n 0, 1) := dk_26 (dk_at dksX1_isIn_0 5 rfl rfl)
theorem dX1_isIn_6 : decode cX1_isIn 6 = .ok (.iload_n 2, 1) := dk_28 (dk_at dksX1_isIn_0 6 rfl rfl)
theorem dX1_isIn_7 : decode cX1_isIn 7 = .ok (.if_icmp .gt 7, 3) := dk_163 0 7 (dk_at dksX1_isIn_0 7 rfl rfl)
theorem dX1_isIn_10 : decode cX1_isIn 10 = .ok (.iconst 1, 1) := dk_4 (dk_at dksX1_isIn_0 10 rfl rfl)
theorem dX1_isIn_11 : decode cX1_isIn 11 = .ok (.goto 4, 3) := dk_167 0 4 (dk_at dksX1_isIn_0 11 rfl rfl)
theorem dX1_isIn_14 : decode cX1_isIn 14 = .ok (.iconst 0, 1) := dk_3 (dk_at dksX1_isIn_0 14 rfl rfl)
theorem dX1_isIn_15 : decode cX1_isIn 15 = .ok (.ireturn, 1) := dk_172 (dk_at dksX1_isIn_0 15 rfl rfl)
abbrev cX1_reads : ByteArray := prog_1_method_10_code
def yX1_reads : MethodName := ⟨RX1, "reads", "([B)I"⟩
def dkwX1_reads_3 : List UInt8 := [167, 255, 214, 42, 180, 0, 109, 42, 180, 0, 66, 182, 0, 112, 28, 172]
abbrev dktX1_reads_3 : List UInt8 := dkwX1_reads_3 ++ []
def dkwX1_reads_2 : List UInt8 := [187, 0, 119, 89, 17, 248, 48, 42, 180, 0, 101, 29, 50, 180, 0, 121, 100, 183, 0, 124, 191, 132, 3, 1]
abbrev dktX1_reads_2 : List UInt8 := dkwX1_reads_2 ++ dktX1_reads_3
def dkwX1_reads_1 : List UInt8 := [182, 0, 112, 3, 62, 29, 28, 162, 0, 43, 42, 42, 180, 0, 101, 29, 50, 182, 0, 116, 154, 0, 24]
abbrev dktX1_reads_1 : List UInt8 := dkwX1_reads_1 ++ dktX1_reads_2
def dkwX1_reads_0 : List UInt8 := [187, 0, 96, 89, 43, 183, 0, 98, 42, 180, 0, 101, 182, 0, 105, 61, 42, 180, 0, 66, 42, 180, 0, 109]
abbrev dktX1_reads_0 : List UInt8 := dkwX1_reads_0 ++ dktX1_reads_1
theorem dksX1_reads_0 : cX1_reads.data.toList.drop 0 = dktX1_reads_0 := by decide +kernel
theorem dksX1_reads_1 : cX1_reads.data.toList.drop 24 = dktX1_reads_1 := dk_seg dksX1_reads_0 24 rfl rfl
theorem dksX1_reads_2 : cX1_reads.data.toList.drop 47 = dktX1_reads_2 := dk_seg dksX1_reads_1 23 rfl rfl
theorem dksX1_reads_3 : cX1_reads.data.toList.drop 71 = dktX1_reads_3 := dk_seg dksX1_reads_2 24 rfl rfl
theorem dX1_reads_0 : decode cX1_reads 0 = .ok (.new 96, 3) := dk_187 0 96 (dk_at dksX1_reads_0 0 rfl rfl)
theorem dX1_reads_3 : decode cX1_reads 3 = .ok (.dup, 1) := dk_89 (dk_at dksX1_reads_0 3 rfl rfl)
theorem dX1_reads_4 : decode cX1_reads 4 = .ok (.aload_n 1, 1) := dk_43 (dk_at dksX1_reads_0 4 rfl rfl)
theorem dX1_reads_5 : decode cX1_reads 5 = .ok (.invokespecial 98, 3) := dk_183 0 98 (dk_at dksX1_reads_0 5 rfl rfl)
theorem dX1_reads_8 : decode cX1_reads 8 = .ok (.aload_n 0, 1) := dk_42 (dk_at dksX1_reads_0 8 rfl rfl)
theorem dX1_reads_9 : decode cX1_reads 9 = .ok (.getfield 101, 3) := dk_180 0 101 (dk_at dksX1_reads_0 9 rfl rfl)
theorem dX1_reads_12 : decode cX1_reads 12 = .ok (.invokevirtual 105, 3) := dk_182 0 105 (dk_at dksX1_reads_0 12 rfl rfl)
theorem dX1_reads_15 : decode cX1_reads 15 = .ok (.istore_n 2, 1) := dk_61 (dk_at dksX1_reads_0 15 rfl rfl)
theorem dX1_reads_16 : decode cX1_reads 16 = .ok (.aload_n 0, 1) := dk_42 (dk_at dksX1_reads_0 16 rfl rfl)
theorem dX1_reads_17 : decode cX1_reads 17 = .ok (.getfield 66, 3) := dk_180 0 66 (dk_at dksX1_reads_0 17 rfl rfl)
theorem dX1_reads_20 : decode cX1_reads 20 = .ok (.aload_n 0, 1) := dk_42 (dk_at dksX1_reads_0 20 rfl rfl)
theorem dX1_reads_21 : decode cX1_reads 21 = .ok (.getfield 109, 3) := dk_180 0 109 (dk_at dksX1_reads_0 21 rfl rfl)
theorem dX1_reads_24 : decode cX1_reads 24 = .ok (.invokevirtual 112, 3) := dk_182 0 112 (dk_at dksX1_reads_1 0 rfl rfl)
theorem dX1_reads_27 : decode cX1_reads 27 = .ok (.iconst 0, 1) := dk_3 (dk_at dksX1_reads_1 3 rfl rfl)
theorem dX1_reads_28 : decode cX1_reads 28 = .ok (.istore_n 3, 1) := dk_62 (dk_at dksX1_reads_1 4 rfl rfl)
theorem dX1_reads_29 : decode cX1_reads 29 = .ok (.iload_n 3, 1) := dk_29 (dk_at dksX1_reads_1 5 rfl rfl)
theorem dX1_reads_30 : decode cX1_reads 30 = .ok (.iload_n 2, 1) := dk_28 (dk_at dksX1_reads_1 6 rfl rfl)
theorem dX1_reads_31 : decode cX1_reads 31 = .ok (.if_icmp .ge 43, 3) := dk_162 0 43 (dk_at dksX1_reads_1 7 rfl rfl)
theorem dX1_reads_34 : decode cX1_reads 34 = .ok (.aload_n 0, 1) := dk_42 (dk_at dksX1_reads_1 10 rfl rfl)
theorem dX1_reads_35 : decode cX1_reads 35 = .ok (.aload_n 0, 1) := dk_42 (dk_at dksX1_reads_1 11 rfl rfl)
theorem dX1_reads_36 : decode cX1_reads 36 = .ok (.getfield 101, 3) := dk_180 0 101 (dk_at dksX1_reads_1 12 rfl rfl)
theorem dX1_reads_39 : decode cX1_reads 39 = .ok (.iload_n 3, 1) := dk_29 (dk_at dksX1_reads_1 15 rfl rfl)
theorem dX1_reads_40 : decode cX1_reads 40 = .ok (.aaload, 1) := dk_50 (dk_at dksX1_reads_1 16 rfl rfl)
theorem dX1_reads_41 : decode cX1_reads 41 = .ok (.invokevirtual 116, 3) := dk_182 0 116 (dk_at dksX1_reads_1 17 rfl rfl)
theorem dX1_reads_44 : decode cX1_reads 44 = .ok (.ifCond .ne 24, 3) := dk_154 0 24 (dk_at dksX1_reads_1 20 rfl rfl)
theorem dX1_reads_47 : decode cX1_reads 47 = .ok (.new 119, 3) := dk_187 0 119 (dk_at dksX1_reads_2 0 rfl rfl)
theorem dX1_reads_50 : decode cX1_reads 50 = .ok (.dup, 1) := dk_89 (dk_at dksX1_reads_2 3 rfl rfl)
theorem dX1_reads_51 : decode cX1_reads 51 = .ok (.sipush (-2000), 3) := dk_17 248 48 (dk_at dksX1_reads_2 4 rfl rfl)
theorem dX1_reads_54 : decode cX1_reads 54 = .ok (.aload_n 0, 1) := dk_42 (dk_at dksX1_reads_2 7 rfl rfl)
theorem dX1_reads_55 : decode cX1_reads 55 = .ok (.getfield 101, 3) := dk_180 0 101 (dk_at dksX1_reads_2 8 rfl rfl)
theorem dX1_reads_58 : decode cX1_reads 58 = .ok (.iload_n 3, 1) := dk_29 (dk_at dksX1_reads_2 11 rfl rfl)
theorem dX1_reads_59 : decode cX1_reads 59 = .ok (.aaload, 1) := dk_50 (dk_at dksX1_reads_2 12 rfl rfl)
theorem dX1_reads_60 : decode cX1_reads 60 = .ok (.getfield 121, 3) := dk_180 0 121 (dk_at dksX1_reads_2 13 rfl rfl)
theorem dX1_reads_63 : decode cX1_reads 63 = .ok (.isub, 1) := dk_100 (dk_at dksX1_reads_2 16 rfl rfl)
theorem dX1_reads_64 : decode cX1_reads 64 = .ok (.invokespecial 124, 3) := dk_183 0 124 (dk_at dksX1_reads_2 17 rfl rfl)
theorem dX1_reads_67 : decode cX1_reads 67 = .ok (.athrow, 1) := dk_191 (dk_at dksX1_reads_2 20 rfl rfl)
theorem dX1_reads_68 : decode cX1_reads 68 = .ok (.iinc 3 1, 3) := dk_132 3 1 (dk_at dksX1_reads_2 21 rfl rfl)
theorem dX1_reads_71 : decode cX1_reads 71 = .ok (.goto (-42), 3) := dk_167 255 214 (dk_at dksX1_reads_3 0 rfl rfl)
theorem dX1_reads_74 : decode cX1_reads 74 = .ok (.aload_n 0, 1) := dk_42 (dk_at dksX1_reads_3 3 rfl rfl)
theorem dX1_reads_75 : decode cX1_reads 75 = .ok (.getfield 109, 3) := dk_180 0 109 (dk_at dksX1_reads_3 4 rfl rfl)
theorem dX1_reads_78 : decode cX1_reads 78 = .ok (.aload_n 0, 1) := dk_42 (dk_at dksX1_reads_3 7 rfl rfl)
theorem dX1_reads_79 : decode cX1_reads 79 = .ok (.getfield 66, 3) := dk_180 0 66 (dk_at dksX1_reads_3 8 rfl rfl)
theorem dX1_reads_82 : decode cX1_reads 82 = .ok (.invokevirtual 112, 3) := dk_182 0 112 (dk_at dksX1_reads_3 11 rfl rfl)
theorem dX1_reads_85 : decode cX1_reads 85 = .ok (.iload_n 2, 1) := dk_28 (dk_at dksX1_reads_3 14 rfl rfl)
theorem dX1_reads_86 : decode cX1_reads 86 = .ok (.ireturn, 1) := dk_172 (dk_at dksX1_reads_3 15 rfl rfl)
abbrev cX1_comes : ByteArray := prog_1_method_9_code
def yX1_comes : MethodName := ⟨RX1, "comes", "(LCakesToTheWatched$Told;)Z"⟩
def dkwX1_comes_7 : List UInt8 := [180, 0, 63, 16, 104, 160, 0, 7, 3, 167, 0, 4, 4, 44, 4, 46, 184, 0, 92, 172]
abbrev dktX1_comes_7 : List UInt8 := dkwX1_comes_7 ++ []
def dkwX1_comes_6 : List UInt8 := [42, 180, 0, 66, 44, 3, 46, 44, 4, 46, 182, 0, 88, 87, 4, 172, 42, 180, 0, 66, 44, 3, 46, 43]
abbrev dktX1_comes_6 : List UInt8 := dkwX1_comes_6 ++ dktX1_comes_7
def dkwX1_comes_5 : List UInt8 := [46, 181, 0, 81, 4, 172, 42, 180, 0, 66, 44, 3, 46, 44, 4, 46, 184, 0, 84, 154, 0, 5, 3, 172]
abbrev dktX1_comes_5 : List UInt8 := dkwX1_comes_5 ++ dktX1_comes_6
def dkwX1_comes_4 : List UInt8 := [44, 4, 46, 184, 0, 73, 44, 5, 46, 44, 6, 46, 182, 0, 77, 87, 4, 172, 42, 180, 0, 66, 44, 3]
abbrev dktX1_comes_4 : List UInt8 := dkwX1_comes_4 ++ dktX1_comes_5
def dkwX1_comes_3 : List UInt8 := [153, 0, 15, 42, 180, 0, 66, 180, 0, 70, 16, 8, 160, 0, 5, 3, 172, 42, 180, 0, 66, 44, 3, 46]
abbrev dktX1_comes_3 : List UInt8 := dkwX1_comes_3 ++ dktX1_comes_4
def dkwX1_comes_2 : List UInt8 := [44, 3, 46, 16, 8, 162, 0, 33, 44, 5, 46, 184, 0, 40, 153, 0, 24, 44, 6, 46, 184, 0, 40]
abbrev dktX1_comes_2 : List UInt8 := dkwX1_comes_2 ++ dktX1_comes_3
def dkwX1_comes_1 : List UInt8 := [171, 0, 0, 0, 0, 0, 146, 0, 0, 0, 3, 0, 0, 0, 99, 0, 0, 0, 100, 0, 0, 0, 112, 0, 0, 0, 35, 0, 0, 0, 116, 0, 0, 0, 112]
abbrev dktX1_comes_1 : List UInt8 := dkwX1_comes_1 ++ dktX1_comes_2
def dkwX1_comes_0 : List UInt8 := [43, 180, 0, 58, 77, 43, 180, 0, 63]
abbrev dktX1_comes_0 : List UInt8 := dkwX1_comes_0 ++ dktX1_comes_1
theorem dksX1_comes_0 : cX1_comes.data.toList.drop 0 = dktX1_comes_0 := by decide +kernel
theorem dksX1_comes_1 : cX1_comes.data.toList.drop 9 = dktX1_comes_1 := dk_seg dksX1_comes_0 9 rfl rfl
theorem dksX1_comes_2 : cX1_comes.data.toList.drop 44 = dktX1_comes_2 := dk_seg dksX1_comes_1 35 rfl rfl
theorem dksX1_comes_3 : cX1_comes.data.toList.drop 67 = dktX1_comes_3 := dk_seg dksX1_comes_2 23 rfl rfl
theorem dksX1_comes_4 : cX1_comes.data.toList.drop 91 = dktX1_comes_4 := dk_seg dksX1_comes_3 24 rfl rfl
theorem dksX1_comes_5 : cX1_comes.data.toList.drop 115 = dktX1_comes_5 := dk_seg dksX1_comes_4 24 rfl rfl
theorem dksX1_comes_6 : cX1_comes.data.toList.drop 139 = dktX1_comes_6 := dk_seg dksX1_comes_5 24 rfl rfl
theorem dksX1_comes_7 : cX1_comes.data.toList.drop 163 = dktX1_comes_7 := dk_seg dksX1_comes_6 24 rfl rfl
theorem dX1_comes_0 : decode cX1_comes 0 = .ok (.aload_n 1, 1) := dk_43 (dk_at dksX1_comes_0 0 rfl rfl)
theorem dX1_comes_1 : decode cX1_comes 1 = .ok (.getfield 58, 3) := dk_180 0 58 (dk_at dksX1_comes_0 1 rfl rfl)
theorem dX1_comes_4 : decode cX1_comes 4 = .ok (.astore_n 2, 1) := dk_77 (dk_at dksX1_comes_0 4 rfl rfl)
theorem dX1_comes_5 : decode cX1_comes 5 = .ok (.aload_n 1, 1) := dk_43 (dk_at dksX1_comes_0 5 rfl rfl)
theorem dX1_comes_6 : decode cX1_comes 6 = .ok (.getfield 63, 3) := dk_180 0 63 (dk_at dksX1_comes_0 6 rfl rfl)
theorem dX1_comes_9 : decode cX1_comes 9 = .ok (.lookupswitch 146 #[(99, 100), (112, 35), (116, 112)], 35) := by decide +kernel
theorem dX1_comes_44 : decode cX1_comes 44 = .ok (.aload_n 2, 1) := dk_44 (dk_at dksX1_comes_2 0 rfl rfl)
theorem dX1_comes_45 : decode cX1_comes 45 = .ok (.iconst 0, 1) := dk_3 (dk_at dksX1_comes_2 1 rfl rfl)
theorem dX1_comes_46 : decode cX1_comes 46 = .ok (.iaload, 1) := dk_46 (dk_at dksX1_comes_2 2 rfl rfl)
theorem dX1_comes_47 : decode cX1_comes 47 = .ok (.bipush 8, 2) := dk_16 8 (dk_at dksX1_comes_2 3 rfl rfl)
theorem dX1_comes_49 : decode cX1_comes 49 = .ok (.if_icmp .ge 33, 3) := dk_162 0 33 (dk_at dksX1_comes_2 5 rfl rfl)
theorem dX1_comes_52 : decode cX1_comes 52 = .ok (.aload_n 2, 1) := dk_44 (dk_at dksX1_comes_2 8 rfl rfl)
theorem dX1_comes_53 : decode cX1_comes 53 = .ok (.iconst 2, 1) := dk_5 (dk_at dksX1_comes_2 9 rfl rfl)
theorem dX1_comes_54 : decode cX1_comes 54 = .ok (.iaload, 1) := dk_46 (dk_at dksX1_comes_2 10 rfl rfl)
theorem dX1_comes_55 : decode cX1_comes 55 = .ok (.invokestatic 40, 3) := dk_184 0 40 (dk_at dksX1_comes_2 11 rfl rfl)
theorem dX1_comes_58 : decode cX1_comes 58 = .ok (.ifCond .eq 24, 3) := dk_153 0 24 (dk_at dksX1_comes_2 14 rfl rfl)
theorem dX1_comes_61 : decode cX1_comes 61 = .ok (.aload_n 2, 1) := dk_44 (dk_at dksX1_comes_2 17 rfl rfl)
theorem dX1_comes_62 : decode cX1_comes 62 = .ok (.iconst 3, 1) := dk_6 (dk_at dksX1_comes_2 18 rfl rfl)
theorem dX1_comes_63 : decode cX1_comes 63 = .ok (.iaload, 1) := dk_46 (dk_at dksX1_comes_2 19 rfl rfl)
theorem dX1_comes_64 : decode cX1_comes 64 = .ok (.invokestatic 40, 3) := dk_184 0 40 (dk_at dksX1_comes_2 20 rfl rfl)
theorem dX1_comes_67 : decode cX1_comes 67 = .ok (.ifCond .eq 15, 3) := dk_153 0 15 (dk_at dksX1_comes_3 0 rfl rfl)
theorem dX1_comes_70 : decode cX1_comes 70 = .ok (.aload_n 0, 1) := dk_42 (dk_at dksX1_comes_3 3 rfl rfl)
theorem dX1_comes_71 : decode cX1_comes 71 = .ok (.getfield 66, 3) := dk_180 0 66 (dk_at dksX1_comes_3 4 rfl rfl)
theorem dX1_comes_74 : decode cX1_comes 74 = .ok (.getfield 70, 3) := dk_180 0 70 (dk_at dksX1_comes_3 7 rfl rfl)
theorem dX1_comes_77 : decode cX1_comes 77 = .ok (.bipush 8, 2) := dk_16 8 (dk_at dksX1_comes_3 10 rfl rfl)
theorem dX1_comes_79 : decode cX1_comes 79 = .ok (.if_icmp .ne 5, 3) := dk_160 0 5 (dk_at dksX1_comes_3 12 rfl rfl)
theorem dX1_comes_82 : decode cX1_comes 82 = .ok (.iconst 0, 1) := dk_3 (dk_at dksX1_comes_3 15 rfl rfl)
theorem dX1_comes_83 : decode cX1_comes 83 = .ok (.ireturn, 1) := dk_172 (dk_at dksX1_comes_3 16 rfl rfl)
theorem dX1_comes_84 : decode cX1_comes 84 = .ok (.aload_n 0, 1) := dk_42 (dk_at dksX1_comes_3 17 rfl rfl)
theorem dX1_comes_85 : decode cX1_comes 85 = .ok (.getfield 66, 3) := dk_180 0 66 (dk_at dksX1_comes_3 18 rfl rfl)
theorem dX1_comes_88 : decode cX1_comes 88 = .ok (.aload_n 2, 1) := dk_44 (dk_at dksX1_comes_3 21 rfl rfl)
theorem dX1_comes_89 : decode cX1_comes 89 = .ok (.iconst 0, 1) := dk_3 (dk_at dksX1_comes_3 22 rfl rfl)
theorem dX1_comes_90 : decode cX1_comes 90 = .ok (.iaload, 1) := dk_46 (dk_at dksX1_comes_3 23 rfl rfl)
theorem dX1_comes_91 : decode cX1_comes 91 = .ok (.aload_n 2, 1) := dk_44 (dk_at dksX1_comes_4 0 rfl rfl)
theorem dX1_comes_92 : decode cX1_comes 92 = .ok (.iconst 1, 1) := dk_4 (dk_at dksX1_comes_4 1 rfl rfl)
theorem dX1_comes_93 : decode cX1_comes 93 = .ok (.iaload, 1) := dk_46 (dk_at dksX1_comes_4 2 rfl rfl)
theorem dX1_comes_94 : decode cX1_comes 94 = .ok (.invokestatic 73, 3) := dk_184 0 73 (dk_at dksX1_comes_4 3 rfl rfl)
theorem dX1_comes_97 : decode cX1_comes 97 = .ok (.aload_n 2, 1) := dk_44 (dk_at dksX1_comes_4 6 rfl rfl)
theorem dX1_comes_98 : decode cX1_comes 98 = .ok (.iconst 2, 1) := dk_5 (dk_at dksX1_comes_4 7 rfl rfl)
theorem dX1_comes_99 : decode cX1_comes 99 = .ok (.iaload, 1) := dk_46 (dk_at dksX1_comes_4 8 rfl rfl)
theorem dX1_comes_100 : decode cX1_comes 100 = .ok (.aload_n 2, 1) := dk_44 (dk_at dksX1_comes_4 9 rfl rfl)
theorem dX1_comes_101 : decode cX1_comes 101 = .ok (.iconst 3, 1) := dk_6 (dk_at dksX1_comes_4 10 rfl rfl)
theorem dX1_comes_102 : decode cX1_comes 102 = .ok (.iaload, 1) := dk_46 (dk_at dksX1_comes_4 11 rfl rfl)
theorem dX1_comes_103 : decode cX1_comes 103 = .ok (.invokevirtual 77, 3) := dk_182 0 77 (dk_at dksX1_comes_4 12 rfl rfl)
theorem dX1_comes_106 : decode cX1_comes 106 = .ok (.pop, 1) := dk_87 (dk_at dksX1_comes_4 15 rfl rfl)
theorem dX1_comes_107 : decode cX1_comes 107 = .ok (.iconst 1, 1) := dk_4 (dk_at dksX1_comes_4 16 rfl rfl)
theorem dX1_comes_108 : decode cX1_comes 108 = .ok (.ireturn, 1) := dk_172 (dk_at dksX1_comes_4 17 rfl rfl)
theorem dX1_comes_109 : decode cX1_comes 109 = .ok (.aload_n 0, 1) := dk_42 (dk_at dksX1_comes_4 18 rfl rfl)
theorem dX1_comes_110 : decode cX1_comes 110 = .ok (.getfield 66, 3) := dk_180 0 66 (dk_at dksX1_comes_4 19 rfl rfl)
theorem dX1_comes_113 : decode cX1_comes 113 = .ok (.aload_n 2, 1) := dk_44 (dk_at dksX1_comes_4 22 rfl rfl)
theorem dX1_comes_114 : decode cX1_comes 114 = .ok (.iconst 0, 1) := dk_3 (dk_at dksX1_comes_4 23 rfl rfl)
theorem dX1_comes_115 : decode cX1_comes 115 = .ok (.iaload, 1) := dk_46 (dk_at dksX1_comes_5 0 rfl rfl)
theorem dX1_comes_116 : decode cX1_comes 116 = .ok (.putfield 81, 3) := dk_181 0 81 (dk_at dksX1_comes_5 1 rfl rfl)
theorem dX1_comes_119 : decode cX1_comes 119 = .ok (.iconst 1, 1) := dk_4 (dk_at dksX1_comes_5 4 rfl rfl)
theorem dX1_comes_120 : decode cX1_comes 120 = .ok (.ireturn, 1) := dk_172 (dk_at dksX1_comes_5 5 rfl rfl)
theorem dX1_comes_121 : decode cX1_comes 121 = .ok (.aload_n 0, 1) := dk_42 (dk_at dksX1_comes_5 6 rfl rfl)
theorem dX1_comes_122 : decode cX1_comes 122 = .ok (.getfield 66, 3) := dk_180 0 66 (dk_at dksX1_comes_5 7 rfl rfl)
theorem dX1_comes_125 : decode cX1_comes 125 = .ok (.aload_n 2, 1) := dk_44 (dk_at dksX1_comes_5 10 rfl rfl)
theorem dX1_comes_126 : decode cX1_comes 126 = .ok (.iconst 0, 1) := dk_3 (dk_at dksX1_comes_5 11 rfl rfl)
theorem dX1_comes_127 : decode cX1_comes 127 = .ok (.iaload, 1) := dk_46 (dk_at dksX1_comes_5 12 rfl rfl)
theorem dX1_comes_128 : decode cX1_comes 128 = .ok (.aload_n 2, 1) := dk_44 (dk_at dksX1_comes_5 13 rfl rfl)
theorem dX1_comes_129 : decode cX1_comes 129 = .ok (.iconst 1, 1) := dk_4 (dk_at dksX1_comes_5 14 rfl rfl)
theorem dX1_comes_130 : decode cX1_comes 130 = .ok (.iaload, 1) := dk_46 (dk_at dksX1_comes_5 15 rfl rfl)
theorem dX1_comes_131 : decode cX1_comes 131 = .ok (.invokestatic 84, 3) := dk_184 0 84 (dk_at dksX1_comes_5 16 rfl rfl)
theorem dX1_comes_134 : decode cX1_comes 134 = .ok (.ifCond .ne 5, 3) := dk_154 0 5 (dk_at dksX1_comes_5 19 rfl rfl)
theorem dX1_comes_137 : decode cX1_comes 137 = .ok (.iconst 0, 1) := dk_3 (dk_at dksX1_comes_5 22 rfl rfl)
theorem dX1_comes_138 : decode cX1_comes 138 = .ok (.ireturn, 1) := dk_172 (dk_at dksX1_comes_5 23 rfl rfl)
theorem dX1_comes_139 : decode cX1_comes 139 = .ok (.aload_n 0, 1) := dk_42 (dk_at dksX1_comes_6 0 rfl rfl)
theorem dX1_comes_140 : decode cX1_comes 140 = .ok (.getfield 66, 3) := dk_180 0 66 (dk_at dksX1_comes_6 1 rfl rfl)
theorem dX1_comes_143 : decode cX1_comes 143 = .ok (.aload_n 2, 1) := dk_44 (dk_at dksX1_comes_6 4 rfl rfl)
theorem dX1_comes_144 : decode cX1_comes 144 = .ok (.iconst 0, 1) := dk_3 (dk_at dksX1_comes_6 5 rfl rfl)
theorem dX1_comes_145 : decode cX1_comes 145 = .ok (.iaload, 1) := dk_46 (dk_at dksX1_comes_6 6 rfl rfl)
theorem dX1_comes_146 : decode cX1_comes 146 = .ok (.aload_n 2, 1) := dk_44 (dk_at dksX1_comes_6 7 rfl rfl)
theorem dX1_comes_147 : decode cX1_comes 147 = .ok (.iconst 1, 1) := dk_4 (dk_at dksX1_comes_6 8 rfl rfl)
theorem dX1_comes_148 : decode cX1_comes 148 = .ok (.iaload, 1) := dk_46 (dk_at dksX1_comes_6 9 rfl rfl)
theorem dX1_comes_149 : decode cX1_comes 149 = .ok (.invokevirtual 88, 3) := dk_182 0 88 (dk_at dksX1_comes_6 10 rfl rfl)
theorem dX1_comes_152 : decode cX1_comes 152 = .ok (.pop, 1) := dk_87 (dk_at dksX1_comes_6 13 rfl rfl)
theorem dX1_comes_153 : decode cX1_comes 153 = .ok (.iconst 1, 1) := dk_4 (dk_at dksX1_comes_6 14 rfl rfl)
theorem dX1_comes_154 : decode cX1_comes 154 = .ok (.ireturn, 1) := dk_172 (dk_at dksX1_comes_6 15 rfl rfl)
theorem dX1_comes_155 : decode cX1_comes 155 = .ok (.aload_n 0, 1) := dk_42 (dk_at dksX1_comes_6 16 rfl rfl)
theorem dX1_comes_156 : decode cX1_comes 156 = .ok (.getfield 66, 3) := dk_180 0 66 (dk_at dksX1_comes_6 17 rfl rfl)
theorem dX1_comes_159 : decode cX1_comes 159 = .ok (.aload_n 2, 1) := dk_44 (dk_at dksX1_comes_6 20 rfl rfl)
theorem dX1_comes_160 : decode cX1_comes 160 = .ok (.iconst 0, 1) := dk_3 (dk_at dksX1_comes_6 21 rfl rfl)
theorem dX1_comes_161 : decode cX1_comes 161 = .ok (.iaload, 1) := dk_46 (dk_at dksX1_comes_6 22 rfl rfl)
theorem dX1_comes_162 : decode cX1_comes 162 = .ok (.aload_n 1, 1) := dk_43 (dk_at dksX1_comes_6 23 rfl rfl)
theorem dX1_comes_163 : decode cX1_comes 163 = .ok (.getfield 63, 3) := dk_180 0 63 (dk_at dksX1_comes_7 0 rfl rfl)
theorem dX1_comes_166 : decode cX1_comes 166 = .ok (.bipush 104, 2) := dk_16 104 (dk_at dksX1_comes_7 3 rfl rfl)
theorem dX1_comes_168 : decode cX1_comes 168 = .ok (.if_icmp .ne 7, 3) := dk_160 0 7 (dk_at dksX1_comes_7 5 rfl rfl)
theorem dX1_comes_171 : decode cX1_comes 171 = .ok (.iconst 0, 1) := dk_3 (dk_at dksX1_comes_7 8 rfl rfl)
theorem dX1_comes_172 : decode cX1_comes 172 = .ok (.goto 4, 3) := dk_167 0 4 (dk_at dksX1_comes_7 9 rfl rfl)
theorem dX1_comes_175 : decode cX1_comes 175 = .ok (.iconst 1, 1) := dk_4 (dk_at dksX1_comes_7 12 rfl rfl)
theorem dX1_comes_176 : decode cX1_comes 176 = .ok (.aload_n 2, 1) := dk_44 (dk_at dksX1_comes_7 13 rfl rfl)
theorem dX1_comes_177 : decode cX1_comes 177 = .ok (.iconst 1, 1) := dk_4 (dk_at dksX1_comes_7 14 rfl rfl)
theorem dX1_comes_178 : decode cX1_comes 178 = .ok (.iaload, 1) := dk_46 (dk_at dksX1_comes_7 15 rfl rfl)
theorem dX1_comes_179 : decode cX1_comes 179 = .ok (.invokestatic 92, 3) := dk_184 0 92 (dk_at dksX1_comes_7 16 rfl rfl)
theorem dX1_comes_182 : decode cX1_comes 182 = .ok (.ireturn, 1) := dk_172 (dk_at dksX1_comes_7 19 rfl rfl)
abbrev cX1_isFeeling : ByteArray := prog_1_method_6_code
def yX1_isFeeling : MethodName := ⟨RX1, "isFeeling", "(I)Z"⟩
def dkwX1_isFeeling_0 : List UInt8 := [26, 3, 16, 30, 184, 0, 30, 172]
abbrev dktX1_isFeeling_0 : List UInt8 := dkwX1_isFeeling_0 ++ []
theorem dksX1_isFeeling_0 : cX1_isFeeling.data.toList.drop 0 = dktX1_isFeeling_0 := by decide +kernel
theorem dX1_isFeeling_0 : decode cX1_isFeeling 0 = .ok (.iload_n 0, 1) := dk_26 (dk_at dksX1_isFeeling_0 0 rfl rfl)
theorem dX1_isFeeling_1 : decode cX1_isFeeling 1 = .ok (.iconst 0, 1) := dk_3 (dk_at dksX1_isFeeling_0 1 rfl rfl)
theorem dX1_isFeeling_2 : decode cX1_isFeeling 2 = .ok (.bipush 30, 2) := dk_16 30 (dk_at dksX1_isFeeling_0 2 rfl rfl)
theorem dX1_isFeeling_4 : decode cX1_isFeeling 4 = .ok (.invokestatic 30, 3) := dk_184 0 30 (dk_at dksX1_isFeeling_0 4 rfl rfl)
theorem dX1_isFeeling_7 : decode cX1_isFeeling 7 = .ok (.ireturn, 1) := dk_172 (dk_at dksX1_isFeeling_0 7 rfl rfl)
abbrev cX1_guestOf : ByteArray := prog_1_method_3_code
def yX1_guestOf : MethodName := ⟨RX1, "guestOf", "(II)LCakesToTheWatched$Guest;"⟩
def dkwX1_guestOf_5 : List UInt8 := [183, 0, 27, 176]
abbrev dktX1_guestOf_5 : List UInt8 := dkwX1_guestOf_5 ++ []
def dkwX1_guestOf_4 : List UInt8 := [187, 0, 19, 89, 27, 183, 0, 21, 176, 187, 0, 22, 89, 27, 183, 0, 24, 176, 187, 0, 25, 89, 27]
abbrev dktX1_guestOf_4 : List UInt8 := dkwX1_guestOf_4 ++ dktX1_guestOf_5
def dkwX1_guestOf_3 : List UInt8 := [183, 0, 12, 176, 187, 0, 13, 89, 27, 183, 0, 15, 176, 187, 0, 16, 89, 27, 183, 0, 18, 176]
abbrev dktX1_guestOf_3 : List UInt8 := dkwX1_guestOf_3 ++ dktX1_guestOf_4
def dkwX1_guestOf_2 : List UInt8 := [187, 0, 1, 89, 27, 183, 0, 3, 176, 187, 0, 7, 89, 27, 183, 0, 9, 176, 187, 0, 10, 89, 27]
abbrev dktX1_guestOf_2 : List UInt8 := dkwX1_guestOf_2 ++ dktX1_guestOf_3
def dkwX1_guestOf_1 : List UInt8 := [170, 0, 0, 0, 0, 0, 106, 0, 0, 0, 0, 0, 0, 0, 6, 0, 0, 0, 43, 0, 0, 0, 52, 0, 0, 0, 61, 0, 0, 0, 70, 0, 0, 0, 79, 0, 0, 0, 88, 0, 0, 0, 97]
abbrev dktX1_guestOf_1 : List UInt8 := dkwX1_guestOf_1 ++ dktX1_guestOf_2
def dkwX1_guestOf_0 : List UInt8 := [26]
abbrev dktX1_guestOf_0 : List UInt8 := dkwX1_guestOf_0 ++ dktX1_guestOf_1
theorem dksX1_guestOf_0 : cX1_guestOf.data.toList.drop 0 = dktX1_guestOf_0 := by decide +kernel
theorem dksX1_guestOf_1 : cX1_guestOf.data.toList.drop 1 = dktX1_guestOf_1 := dk_seg dksX1_guestOf_0 1 rfl rfl
theorem dksX1_guestOf_2 : cX1_guestOf.data.toList.drop 44 = dktX1_guestOf_2 := dk_seg dksX1_guestOf_1 43 rfl rfl
theorem dksX1_guestOf_3 : cX1_guestOf.data.toList.drop 67 = dktX1_guestOf_3 := dk_seg dksX1_guestOf_2 23 rfl rfl
theorem dksX1_guestOf_4 : cX1_guestOf.data.toList.drop 89 = dktX1_guestOf_4 := dk_seg dksX1_guestOf_3 22 rfl rfl
theorem dksX1_guestOf_5 : cX1_guestOf.data.toList.drop 112 = dktX1_guestOf_5 := dk_seg dksX1_guestOf_4 23 rfl rfl
theorem dX1_guestOf_0 : decode cX1_guestOf 0 = .ok (.iload_n 0, 1) := dk_26 (dk_at dksX1_guestOf_0 0 rfl rfl)
theorem dX1_guestOf_1 : decode cX1_guestOf 1 = .ok (.tableswitch 106 0 6 #[43, 52, 61, 70, 79, 88, 97], 43) := by decide +kernel
theorem dX1_guestOf_44 : decode cX1_guestOf 44 = .ok (.new 1, 3) := dk_187 0 1 (dk_at dksX1_guestOf_2 0 rfl rfl)
theorem dX1_guestOf_47 : decode cX1_guestOf 47 = .ok (.dup, 1) := dk_89 (dk_at dksX1_guestOf_2 3 rfl rfl)
theorem dX1_guestOf_48 : decode cX1_guestOf 48 = .ok (.iload_n 1, 1) := dk_27 (dk_at dksX1_guestOf_2 4 rfl rfl)
theorem dX1_guestOf_49 : decode cX1_guestOf 49 = .ok (.invokespecial 3, 3) := dk_183 0 3 (dk_at dksX1_guestOf_2 5 rfl rfl)
theorem dX1_guestOf_52 : decode cX1_guestOf 52 = .ok (.areturn, 1) := dk_176 (dk_at dksX1_guestOf_2 8 rfl rfl)
theorem dX1_guestOf_53 : decode cX1_guestOf 53 = .ok (.new 7, 3) := dk_187 0 7 (dk_at dksX1_guestOf_2 9 rfl rfl)
theorem dX1_guestOf_56 : decode cX1_guestOf 56 = .ok (.dup, 1) := dk_89 (dk_at dksX1_guestOf_2 12 rfl rfl)
theorem dX1_guestOf_57 : decode cX1_guestOf 57 = .ok (.iload_n 1, 1) := dk_27 (dk_at dksX1_guestOf_2 13 rfl rfl)
theorem dX1_guestOf_58 : decode cX1_guestOf 58 = .ok (.invokespecial 9, 3) := dk_183 0 9 (dk_at dksX1_guestOf_2 14 rfl rfl)
theorem dX1_guestOf_61 : decode cX1_guestOf 61 = .ok (.areturn, 1) := dk_176 (dk_at dksX1_guestOf_2 17 rfl rfl)
theorem dX1_guestOf_62 : decode cX1_guestOf 62 = .ok (.new 10, 3) := dk_187 0 10 (dk_at dksX1_guestOf_2 18 rfl rfl)
theorem dX1_guestOf_65 : decode cX1_guestOf 65 = .ok (.dup, 1) := dk_89 (dk_at dksX1_guestOf_2 21 rfl rfl)
theorem dX1_guestOf_66 : decode cX1_guestOf 66 = .ok (.iload_n 1, 1) := dk_27 (dk_at dksX1_guestOf_2 22 rfl rfl)
theorem dX1_guestOf_67 : decode cX1_guestOf 67 = .ok (.invokespecial 12, 3) := dk_183 0 12 (dk_at dksX1_guestOf_3 0 rfl rfl)
theorem dX1_guestOf_70 : decode cX1_guestOf 70 = .ok (.areturn, 1) := dk_176 (dk_at dksX1_guestOf_3 3 rfl rfl)
theorem dX1_guestOf_71 : decode cX1_guestOf 71 = .ok (.new 13, 3) := dk_187 0 13 (dk_at dksX1_guestOf_3 4 rfl rfl)
theorem dX1_guestOf_74 : decode cX1_guestOf 74 = .ok (.dup, 1) := dk_89 (dk_at dksX1_guestOf_3 7 rfl rfl)
theorem dX1_guestOf_75 : decode cX1_guestOf 75 = .ok (.iload_n 1, 1) := dk_27 (dk_at dksX1_guestOf_3 8 rfl rfl)
theorem dX1_guestOf_76 : decode cX1_guestOf 76 = .ok (.invokespecial 15, 3) := dk_183 0 15 (dk_at dksX1_guestOf_3 9 rfl rfl)
theorem dX1_guestOf_79 : decode cX1_guestOf 79 = .ok (.areturn, 1) := dk_176 (dk_at dksX1_guestOf_3 12 rfl rfl)
theorem dX1_guestOf_80 : decode cX1_guestOf 80 = .ok (.new 16, 3) := dk_187 0 16 (dk_at dksX1_guestOf_3 13 rfl rfl)
theorem dX1_guestOf_83 : decode cX1_guestOf 83 = .ok (.dup, 1) := dk_89 (dk_at dksX1_guestOf_3 16 rfl rfl)
theorem dX1_guestOf_84 : decode cX1_guestOf 84 = .ok (.iload_n 1, 1) := dk_27 (dk_at dksX1_guestOf_3 17 rfl rfl)
theorem dX1_guestOf_85 : decode cX1_guestOf 85 = .ok (.invokespecial 18, 3) := dk_183 0 18 (dk_at dksX1_guestOf_3 18 rfl rfl)
theorem dX1_guestOf_88 : decode cX1_guestOf 88 = .ok (.areturn, 1) := dk_176 (dk_at dksX1_guestOf_3 21 rfl rfl)
theorem dX1_guestOf_89 : decode cX1_guestOf 89 = .ok (.new 19, 3) := dk_187 0 19 (dk_at dksX1_guestOf_4 0 rfl rfl)
theorem dX1_guestOf_92 : decode cX1_guestOf 92 = .ok (.dup, 1) := dk_89 (dk_at dksX1_guestOf_4 3 rfl rfl)
theorem dX1_guestOf_93 : decode cX1_guestOf 93 = .ok (.iload_n 1, 1) := dk_27 (dk_at dksX1_guestOf_4 4 rfl rfl)
theorem dX1_guestOf_94 : decode cX1_guestOf 94 = .ok (.invokespecial 21, 3) := dk_183 0 21 (dk_at dksX1_guestOf_4 5 rfl rfl)
theorem dX1_guestOf_97 : decode cX1_guestOf 97 = .ok (.areturn, 1) := dk_176 (dk_at dksX1_guestOf_4 8 rfl rfl)
theorem dX1_guestOf_98 : decode cX1_guestOf 98 = .ok (.new 22, 3) := dk_187 0 22 (dk_at dksX1_guestOf_4 9 rfl rfl)
theorem dX1_guestOf_101 : decode cX1_guestOf 101 = .ok (.dup, 1) := dk_89 (dk_at dksX1_guestOf_4 12 rfl rfl)
theorem dX1_guestOf_102 : decode cX1_guestOf 102 = .ok (.iload_n 1, 1) := dk_27 (dk_at dksX1_guestOf_4 13 rfl rfl)
theorem dX1_guestOf_103 : decode cX1_guestOf 103 = .ok (.invokespecial 24, 3) := dk_183 0 24 (dk_at dksX1_guestOf_4 14 rfl rfl)
theorem dX1_guestOf_106 : decode cX1_guestOf 106 = .ok (.areturn, 1) := dk_176 (dk_at dksX1_guestOf_4 17 rfl rfl)
theorem dX1_guestOf_107 : decode cX1_guestOf 107 = .ok (.new 25, 3) := dk_187 0 25 (dk_at dksX1_guestOf_4 18 rfl rfl)
theorem dX1_guestOf_110 : decode cX1_guestOf 110 = .ok (.dup, 1) := dk_89 (dk_at dksX1_guestOf_4 21 rfl rfl)
theorem dX1_guestOf_111 : decode cX1_guestOf 111 = .ok (.iload_n 1, 1) := dk_27 (dk_at dksX1_guestOf_4 22 rfl rfl)
theorem dX1_guestOf_112 : decode cX1_guestOf 112 = .ok (.invokespecial 27, 3) := dk_183 0 27 (dk_at dksX1_guestOf_5 0 rfl rfl)
theorem dX1_guestOf_115 : decode cX1_guestOf 115 = .ok (.areturn, 1) := dk_176 (dk_at dksX1_guestOf_5 3 rfl rfl)
abbrev cX1_mayEat : ByteArray := prog_1_method_8_code
def yX1_mayEat : MethodName := ⟨RX1, "mayEat", "(LCakesToTheWatched$Fete;II)Z"⟩
def dkwX1_mayEat_1 : List UInt8 := [172]
abbrev dktX1_mayEat_1 : List UInt8 := dkwX1_mayEat_1 ++ []
def dkwX1_mayEat_0 : List UInt8 := [42, 27, 28, 182, 0, 50, 153, 0, 17, 42, 180, 0, 54, 17, 3, 231, 162, 0, 7, 4, 167, 0, 4, 3]
abbrev dktX1_mayEat_0 : List UInt8 := dkwX1_mayEat_0 ++ dktX1_mayEat_1
theorem dksX1_mayEat_0 : cX1_mayEat.data.toList.drop 0 = dktX1_mayEat_0 := by decide +kernel
theorem dksX1_mayEat_1 : cX1_mayEat.data.toList.drop 24 = dktX1_mayEat_1 := dk_seg dksX1_mayEat_0 24 rfl rfl
theorem dX1_mayEat_0 : decode cX1_mayEat 0 = .ok (.aload_n 0, 1) := dk_42 (dk_at dksX1_mayEat_0 0 rfl rfl)
theorem dX1_mayEat_1 : decode cX1_mayEat 1 = .ok (.iload_n 1, 1) := dk_27 (dk_at dksX1_mayEat_0 1 rfl rfl)
theorem dX1_mayEat_2 : decode cX1_mayEat 2 = .ok (.iload_n 2, 1) := dk_28 (dk_at dksX1_mayEat_0 2 rfl rfl)
theorem dX1_mayEat_3 : decode cX1_mayEat 3 = .ok (.invokevirtual 50, 3) := dk_182 0 50 (dk_at dksX1_mayEat_0 3 rfl rfl)
theorem dX1_mayEat_6 : decode cX1_mayEat 6 = .ok (.ifCond .eq 17, 3) := dk_153 0 17 (dk_at dksX1_mayEat_0 6 rfl rfl)
theorem dX1_mayEat_9 : decode cX1_mayEat 9 = .ok (.aload_n 0, 1) := dk_42 (dk_at dksX1_mayEat_0 9 rfl rfl)
theorem dX1_mayEat_10 : decode cX1_mayEat 10 = .ok (.getfield 54, 3) := dk_180 0 54 (dk_at dksX1_mayEat_0 10 rfl rfl)
theorem dX1_mayEat_13 : decode cX1_mayEat 13 = .ok (.sipush 999, 3) := dk_17 3 231 (dk_at dksX1_mayEat_0 13 rfl rfl)
theorem dX1_mayEat_16 : decode cX1_mayEat 16 = .ok (.if_icmp .ge 7, 3) := dk_162 0 7 (dk_at dksX1_mayEat_0 16 rfl rfl)
theorem dX1_mayEat_19 : decode cX1_mayEat 19 = .ok (.iconst 1, 1) := dk_4 (dk_at dksX1_mayEat_0 19 rfl rfl)
theorem dX1_mayEat_20 : decode cX1_mayEat 20 = .ok (.goto 4, 3) := dk_167 0 4 (dk_at dksX1_mayEat_0 20 rfl rfl)
theorem dX1_mayEat_23 : decode cX1_mayEat 23 = .ok (.iconst 0, 1) := dk_3 (dk_at dksX1_mayEat_0 23 rfl rfl)
theorem dX1_mayEat_24 : decode cX1_mayEat 24 = .ok (.ireturn, 1) := dk_172 (dk_at dksX1_mayEat_1 0 rfl rfl)
abbrev cX1_feels : ByteArray := prog_1_method_7_code
def yX1_feels : MethodName := ⟨RX1, "feels", "(LCakesToTheWatched$Fete;III)Z"⟩
def dkwX1_feels_1 : List UInt8 := [180, 0, 43, 27, 29, 79, 167, 0, 10, 42, 180, 0, 47, 27, 29, 79, 4, 172]
abbrev dktX1_feels_1 : List UInt8 := dkwX1_feels_1 ++ []
def dkwX1_feels_0 : List UInt8 := [42, 27, 182, 0, 34, 153, 0, 10, 29, 184, 0, 40, 154, 0, 5, 3, 172, 28, 154, 0, 13, 42]
abbrev dktX1_feels_0 : List UInt8 := dkwX1_feels_0 ++ dktX1_feels_1
theorem dksX1_feels_0 : cX1_feels.data.toList.drop 0 = dktX1_feels_0 := by decide +kernel
theorem dksX1_feels_1 : cX1_feels.data.toList.drop 22 = dktX1_feels_1 := dk_seg dksX1_feels_0 22 rfl rfl
theorem dX1_feels_0 : decode cX1_feels 0 = .ok (.aload_n 0, 1) := dk_42 (dk_at dksX1_feels_0 0 rfl rfl)
theorem dX1_feels_1 : decode cX1_feels 1 = .ok (.iload_n 1, 1) := dk_27 (dk_at dksX1_feels_0 1 rfl rfl)
theorem dX1_feels_2 : decode cX1_feels 2 = .ok (.invokevirtual 34, 3) := dk_182 0 34 (dk_at dksX1_feels_0 2 rfl rfl)
theorem dX1_feels_5 : decode cX1_feels 5 = .ok (.ifCond .eq 10, 3) := dk_153 0 10 (dk_at dksX1_feels_0 5 rfl rfl)
theorem dX1_feels_8 : decode cX1_feels 8 = .ok (.iload_n 3, 1) := dk_29 (dk_at dksX1_feels_0 8 rfl rfl)
theorem dX1_feels_9 : decode cX1_feels 9 = .ok (.invokestatic 40, 3) := dk_184 0 40 (dk_at dksX1_feels_0 9 rfl rfl)
theorem dX1_feels_12 : decode cX1_feels 12 = .ok (.ifCond .ne 5, 3) := dk_154 0 5 (dk_at dksX1_feels_0 12 rfl rfl)
theorem dX1_feels_15 : decode cX1_feels 15 = .ok (.iconst 0, 1) := dk_3 (dk_at dksX1_feels_0 15 rfl rfl)
theorem dX1_feels_16 : decode cX1_feels 16 = .ok (.ireturn, 1) := dk_172 (dk_at dksX1_feels_0 16 rfl rfl)
theorem dX1_feels_17 : decode cX1_feels 17 = .ok (.iload_n 2, 1) := dk_28 (dk_at dksX1_feels_0 17 rfl rfl)
theorem dX1_feels_18 : decode cX1_feels 18 = .ok (.ifCond .ne 13, 3) := dk_154 0 13 (dk_at dksX1_feels_0 18 rfl rfl)
theorem dX1_feels_21 : decode cX1_feels 21 = .ok (.aload_n 0, 1) := dk_42 (dk_at dksX1_feels_0 21 rfl rfl)
theorem dX1_feels_22 : decode cX1_feels 22 = .ok (.getfield 43, 3) := dk_180 0 43 (dk_at dksX1_feels_1 0 rfl rfl)
theorem dX1_feels_25 : decode cX1_feels 25 = .ok (.iload_n 1, 1) := dk_27 (dk_at dksX1_feels_1 3 rfl rfl)
theorem dX1_feels_26 : decode cX1_feels 26 = .ok (.iload_n 3, 1) := dk_29 (dk_at dksX1_feels_1 4 rfl rfl)
theorem dX1_feels_27 : decode cX1_feels 27 = .ok (.iastore, 1) := dk_79 (dk_at dksX1_feels_1 5 rfl rfl)
theorem dX1_feels_28 : decode cX1_feels 28 = .ok (.goto 10, 3) := dk_167 0 10 (dk_at dksX1_feels_1 6 rfl rfl)
theorem dX1_feels_31 : decode cX1_feels 31 = .ok (.aload_n 0, 1) := dk_42 (dk_at dksX1_feels_1 9 rfl rfl)
theorem dX1_feels_32 : decode cX1_feels 32 = .ok (.getfield 47, 3) := dk_180 0 47 (dk_at dksX1_feels_1 10 rfl rfl)
theorem dX1_feels_35 : decode cX1_feels 35 = .ok (.iload_n 1, 1) := dk_27 (dk_at dksX1_feels_1 13 rfl rfl)
theorem dX1_feels_36 : decode cX1_feels 36 = .ok (.iload_n 3, 1) := dk_29 (dk_at dksX1_feels_1 14 rfl rfl)
theorem dX1_feels_37 : decode cX1_feels 37 = .ok (.iastore, 1) := dk_79 (dk_at dksX1_feels_1 15 rfl rfl)
theorem dX1_feels_38 : decode cX1_feels 38 = .ok (.iconst 1, 1) := dk_4 (dk_at dksX1_feels_1 16 rfl rfl)
theorem dX1_feels_39 : decode cX1_feels 39 = .ok (.ireturn, 1) := dk_172 (dk_at dksX1_feels_1 17 rfl rfl)
abbrev cX1_person : ByteArray := prog_1_method_12_code
def yX1_person : MethodName := ⟨RX1, "person", "(II)I"⟩
def dkwX1_person_4 : List UInt8 := [46, 172, 45, 182, 0, 166, 172, 45, 182, 0, 169, 172, 45, 182, 0, 172, 172, 2, 172]
abbrev dktX1_person_4 : List UInt8 := dkwX1_person_4 ++ []
def dkwX1_person_3 : List UInt8 := [180, 0, 47, 27, 46, 172, 42, 180, 0, 109, 180, 0, 160, 27, 46, 172, 42, 180, 0, 109, 180, 0, 163, 27]
abbrev dktX1_person_3 : List UInt8 := dkwX1_person_3 ++ dktX1_person_4
def dkwX1_person_2 : List UInt8 := [45, 182, 0, 153, 172, 45, 180, 0, 157, 172, 42, 180, 0, 109, 180, 0, 43, 27, 46, 172, 42, 180, 0, 109]
abbrev dktX1_person_2 : List UInt8 := dkwX1_person_2 ++ dktX1_person_3
def dkwX1_person_1 : List UInt8 := [170, 0, 0, 0, 0, 0, 0, 117, 0, 0, 0, 0, 0, 0, 0, 8, 0, 0, 0, 52, 0, 0, 0, 57, 0, 0, 0, 62, 0, 0, 0, 72, 0, 0, 0, 82, 0, 0, 0, 92, 0, 0, 0, 102, 0, 0, 0, 107, 0, 0, 0, 112]
abbrev dktX1_person_1 : List UInt8 := dkwX1_person_1 ++ dktX1_person_2
def dkwX1_person_0 : List UInt8 := [42, 180, 0, 109, 27, 182, 0, 34, 154, 0, 5, 2, 172, 42, 180, 0, 109, 180, 0, 149, 27, 50, 78, 28]
abbrev dktX1_person_0 : List UInt8 := dkwX1_person_0 ++ dktX1_person_1
theorem dksX1_person_0 : cX1_person.data.toList.drop 0 = dktX1_person_0 := by decide +kernel
theorem dksX1_person_1 : cX1_person.data.toList.drop 24 = dktX1_person_1 := dk_seg dksX1_person_0 24 rfl rfl
theorem dksX1_person_2 : cX1_person.data.toList.drop 76 = dktX1_person_2 := dk_seg dksX1_person_1 52 rfl rfl
theorem dksX1_person_3 : cX1_person.data.toList.drop 100 = dktX1_person_3 := dk_seg dksX1_person_2 24 rfl rfl
theorem dksX1_person_4 : cX1_person.data.toList.drop 124 = dktX1_person_4 := dk_seg dksX1_person_3 24 rfl rfl
theorem dX1_person_0 : decode cX1_person 0 = .ok (.aload_n 0, 1) := dk_42 (dk_at dksX1_person_0 0 rfl rfl)
theorem dX1_person_1 : decode cX1_person 1 = .ok (.getfield 109, 3) := dk_180 0 109 (dk_at dksX1_person_0 1 rfl rfl)
theorem dX1_person_4 : decode cX1_person 4 = .ok (.iload_n 1, 1) := dk_27 (dk_at dksX1_person_0 4 rfl rfl)
theorem dX1_person_5 : decode cX1_person 5 = .ok (.invokevirtual 34, 3) := dk_182 0 34 (dk_at dksX1_person_0 5 rfl rfl)
theorem dX1_person_8 : decode cX1_person 8 = .ok (.ifCond .ne 5, 3) := dk_154 0 5 (dk_at dksX1_person_0 8 rfl rfl)
theorem dX1_person_11 : decode cX1_person 11 = .ok (.iconst (-1), 1) := dk_2 (dk_at dksX1_person_0 11 rfl rfl)
theorem dX1_person_12 : decode cX1_person 12 = .ok (.ireturn, 1) := dk_172 (dk_at dksX1_person_0 12 rfl rfl)
theorem dX1_person_13 : decode cX1_person 13 = .ok (.aload_n 0, 1) := dk_42 (dk_at dksX1_person_0 13 rfl rfl)
theorem dX1_person_14 : decode cX1_person 14 = .ok (.getfield 109, 3) := dk_180 0 109 (dk_at dksX1_person_0 14 rfl rfl)
theorem dX1_person_17 : decode cX1_person 17 = .ok (.getfield 149, 3) := dk_180 0 149 (dk_at dksX1_person_0 17 rfl rfl)
theorem dX1_person_20 : decode cX1_person 20 = .ok (.iload_n 1, 1) := dk_27 (dk_at dksX1_person_0 20 rfl rfl)
theorem dX1_person_21 : decode cX1_person 21 = .ok (.aaload, 1) := dk_50 (dk_at dksX1_person_0 21 rfl rfl)
theorem dX1_person_22 : decode cX1_person 22 = .ok (.astore_n 3, 1) := dk_78 (dk_at dksX1_person_0 22 rfl rfl)
theorem dX1_person_23 : decode cX1_person 23 = .ok (.iload_n 2, 1) := dk_28 (dk_at dksX1_person_0 23 rfl rfl)
theorem dX1_person_24 : decode cX1_person 24 = .ok (.tableswitch 117 0 8 #[52, 57, 62, 72, 82, 92, 102, 107, 112], 52) := by decide +kernel
theorem dX1_person_76 : decode cX1_person 76 = .ok (.aload_n 3, 1) := dk_45 (dk_at dksX1_person_2 0 rfl rfl)
theorem dX1_person_77 : decode cX1_person 77 = .ok (.invokevirtual 153, 3) := dk_182 0 153 (dk_at dksX1_person_2 1 rfl rfl)
theorem dX1_person_80 : decode cX1_person 80 = .ok (.ireturn, 1) := dk_172 (dk_at dksX1_person_2 4 rfl rfl)
theorem dX1_person_81 : decode cX1_person 81 = .ok (.aload_n 3, 1) := dk_45 (dk_at dksX1_person_2 5 rfl rfl)
theorem dX1_person_82 : decode cX1_person 82 = .ok (.getfield 157, 3) := dk_180 0 157 (dk_at dksX1_person_2 6 rfl rfl)
theorem dX1_person_85 : decode cX1_person 85 = .ok (.ireturn, 1) := dk_172 (dk_at dksX1_person_2 9 rfl rfl)
theorem dX1_person_86 : decode cX1_person 86 = .ok (.aload_n 0, 1) := dk_42 (dk_at dksX1_person_2 10 rfl rfl)
theorem dX1_person_87 : decode cX1_person 87 = .ok (.getfield 109, 3) := dk_180 0 109 (dk_at dksX1_person_2 11 rfl rfl)
theorem dX1_person_90 : decode cX1_person 90 = .ok (.getfield 43, 3) := dk_180 0 43 (dk_at dksX1_person_2 14 rfl rfl)
theorem dX1_person_93 : decode cX1_person 93 = .ok (.iload_n 1, 1) := dk_27 (dk_at dksX1_person_2 17 rfl rfl)
theorem dX1_person_94 : decode cX1_person 94 = .ok (.iaload, 1) := dk_46 (dk_at dksX1_person_2 18 rfl rfl)
theorem dX1_person_95 : decode cX1_person 95 = .ok (.ireturn, 1) := dk_172 (dk_at dksX1_person_2 19 rfl rfl)
theorem dX1_person_96 : decode cX1_person 96 = .ok (.aload_n 0, 1) := dk_42 (dk_at dksX1_person_2 20 rfl rfl)
theorem dX1_person_97 : decode cX1_person 97 = .ok (.getfield 109, 3) := dk_180 0 109 (dk_at dksX1_person_2 21 rfl rfl)
theorem dX1_person_100 : decode cX1_person 100 = .ok (.getfield 47, 3) := dk_180 0 47 (dk_at dksX1_person_3 0 rfl rfl)
theorem dX1_person_103 : decode cX1_person 103 = .ok (.iload_n 1, 1) := dk_27 (dk_at dksX1_person_3 3 rfl rfl)
theorem dX1_person_104 : decode cX1_person 104 = .ok (.iaload, 1) := dk_46 (dk_at dksX1_person_3 4 rfl rfl)
theorem dX1_person_105 : decode cX1_person 105 = .ok (.ireturn, 1) := dk_172 (dk_at dksX1_person_3 5 rfl rfl)
theorem dX1_person_106 : decode cX1_person 106 = .ok (.aload_n 0, 1) := dk_42 (dk_at dksX1_person_3 6 rfl rfl)
theorem dX1_person_107 : decode cX1_person 107 = .ok (.getfield 109, 3) := dk_180 0 109 (dk_at dksX1_person_3 7 rfl rfl)
theorem dX1_person_110 : decode cX1_person 110 = .ok (.getfield 160, 3) := dk_180 0 160 (dk_at dksX1_person_3 10 rfl rfl)
theorem dX1_person_113 : decode cX1_person 113 = .ok (.iload_n 1, 1) := dk_27 (dk_at dksX1_person_3 13 rfl rfl)
theorem dX1_person_114 : decode cX1_person 114 = .ok (.iaload, 1) := dk_46 (dk_at dksX1_person_3 14 rfl rfl)
theorem dX1_person_115 : decode cX1_person 115 = .ok (.ireturn, 1) := dk_172 (dk_at dksX1_person_3 15 rfl rfl)
theorem dX1_person_116 : decode cX1_person 116 = .ok (.aload_n 0, 1) := dk_42 (dk_at dksX1_person_3 16 rfl rfl)
theorem dX1_person_117 : decode cX1_person 117 = .ok (.getfield 109, 3) := dk_180 0 109 (dk_at dksX1_person_3 17 rfl rfl)
theorem dX1_person_120 : decode cX1_person 120 = .ok (.getfield 163, 3) := dk_180 0 163 (dk_at dksX1_person_3 20 rfl rfl)
theorem dX1_person_123 : decode cX1_person 123 = .ok (.iload_n 1, 1) := dk_27 (dk_at dksX1_person_3 23 rfl rfl)
theorem dX1_person_124 : decode cX1_person 124 = .ok (.iaload, 1) := dk_46 (dk_at dksX1_person_4 0 rfl rfl)
theorem dX1_person_125 : decode cX1_person 125 = .ok (.ireturn, 1) := dk_172 (dk_at dksX1_person_4 1 rfl rfl)
theorem dX1_person_126 : decode cX1_person 126 = .ok (.aload_n 3, 1) := dk_45 (dk_at dksX1_person_4 2 rfl rfl)
theorem dX1_person_127 : decode cX1_person 127 = .ok (.invokevirtual 166, 3) := dk_182 0 166 (dk_at dksX1_person_4 3 rfl rfl)
theorem dX1_person_130 : decode cX1_person 130 = .ok (.ireturn, 1) := dk_172 (dk_at dksX1_person_4 6 rfl rfl)
theorem dX1_person_131 : decode cX1_person 131 = .ok (.aload_n 3, 1) := dk_45 (dk_at dksX1_person_4 7 rfl rfl)
theorem dX1_person_132 : decode cX1_person 132 = .ok (.invokevirtual 169, 3) := dk_182 0 169 (dk_at dksX1_person_4 8 rfl rfl)
theorem dX1_person_135 : decode cX1_person 135 = .ok (.ireturn, 1) := dk_172 (dk_at dksX1_person_4 11 rfl rfl)
theorem dX1_person_136 : decode cX1_person 136 = .ok (.aload_n 3, 1) := dk_45 (dk_at dksX1_person_4 12 rfl rfl)
theorem dX1_person_137 : decode cX1_person 137 = .ok (.invokevirtual 172, 3) := dk_182 0 172 (dk_at dksX1_person_4 13 rfl rfl)
theorem dX1_person_140 : decode cX1_person 140 = .ok (.ireturn, 1) := dk_172 (dk_at dksX1_person_4 16 rfl rfl)
theorem dX1_person_141 : decode cX1_person 141 = .ok (.iconst (-1), 1) := dk_2 (dk_at dksX1_person_4 17 rfl rfl)
theorem dX1_person_142 : decode cX1_person 142 = .ok (.ireturn, 1) := dk_172 (dk_at dksX1_person_4 18 rfl rfl)
abbrev cX1_comes_2 : ByteArray := prog_1_method_13_code
def yX1_comes_2 : MethodName := ⟨RX1, "comes", "(III)I"⟩
def dkwX1_comes_2_3 : List UInt8 := [182, 0, 77, 172, 58, 4, 16, 244, 172]
abbrev dktX1_comes_2_3 : List UInt8 := dkwX1_comes_2_3 ++ []
def dkwX1_comes_2_2 : List UInt8 := [180, 0, 109, 180, 0, 70, 16, 8, 160, 0, 8, 16, 254, 167, 0, 14, 42, 180, 0, 109, 25, 4, 28, 29]
abbrev dktX1_comes_2_2 : List UInt8 := dkwX1_comes_2_2 ++ dktX1_comes_2_3
def dkwX1_comes_2_1 : List UInt8 := [42, 180, 0, 128, 27, 50, 180, 0, 132, 192, 0, 1, 58, 4, 25, 4, 199, 0, 6, 16, 245, 172, 42]
abbrev dktX1_comes_2_1 : List UInt8 := dkwX1_comes_2_1 ++ dktX1_comes_2_2
def dkwX1_comes_2_0 : List UInt8 := [42, 27, 182, 0, 125, 153, 0, 17, 28, 184, 0, 40, 153, 0, 10, 29, 184, 0, 40, 154, 0, 5, 2, 172]
abbrev dktX1_comes_2_0 : List UInt8 := dkwX1_comes_2_0 ++ dktX1_comes_2_1
theorem dksX1_comes_2_0 : cX1_comes_2.data.toList.drop 0 = dktX1_comes_2_0 := by decide +kernel
theorem dksX1_comes_2_1 : cX1_comes_2.data.toList.drop 24 = dktX1_comes_2_1 := dk_seg dksX1_comes_2_0 24 rfl rfl
theorem dksX1_comes_2_2 : cX1_comes_2.data.toList.drop 47 = dktX1_comes_2_2 := dk_seg dksX1_comes_2_1 23 rfl rfl
theorem dksX1_comes_2_3 : cX1_comes_2.data.toList.drop 71 = dktX1_comes_2_3 := dk_seg dksX1_comes_2_2 24 rfl rfl
theorem dX1_comes_2_0 : decode cX1_comes_2 0 = .ok (.aload_n 0, 1) := dk_42 (dk_at dksX1_comes_2_0 0 rfl rfl)
theorem dX1_comes_2_1 : decode cX1_comes_2 1 = .ok (.iload_n 1, 1) := dk_27 (dk_at dksX1_comes_2_0 1 rfl rfl)
theorem dX1_comes_2_2 : decode cX1_comes_2 2 = .ok (.invokevirtual 125, 3) := dk_182 0 125 (dk_at dksX1_comes_2_0 2 rfl rfl)
theorem dX1_comes_2_5 : decode cX1_comes_2 5 = .ok (.ifCond .eq 17, 3) := dk_153 0 17 (dk_at dksX1_comes_2_0 5 rfl rfl)
theorem dX1_comes_2_8 : decode cX1_comes_2 8 = .ok (.iload_n 2, 1) := dk_28 (dk_at dksX1_comes_2_0 8 rfl rfl)
theorem dX1_comes_2_9 : decode cX1_comes_2 9 = .ok (.invokestatic 40, 3) := dk_184 0 40 (dk_at dksX1_comes_2_0 9 rfl rfl)
theorem dX1_comes_2_12 : decode cX1_comes_2 12 = .ok (.ifCond .eq 10, 3) := dk_153 0 10 (dk_at dksX1_comes_2_0 12 rfl rfl)
theorem dX1_comes_2_15 : decode cX1_comes_2 15 = .ok (.iload_n 3, 1) := dk_29 (dk_at dksX1_comes_2_0 15 rfl rfl)
theorem dX1_comes_2_16 : decode cX1_comes_2 16 = .ok (.invokestatic 40, 3) := dk_184 0 40 (dk_at dksX1_comes_2_0 16 rfl rfl)
theorem dX1_comes_2_19 : decode cX1_comes_2 19 = .ok (.ifCond .ne 5, 3) := dk_154 0 5 (dk_at dksX1_comes_2_0 19 rfl rfl)
theorem dX1_comes_2_22 : decode cX1_comes_2 22 = .ok (.iconst (-1), 1) := dk_2 (dk_at dksX1_comes_2_0 22 rfl rfl)
theorem dX1_comes_2_23 : decode cX1_comes_2 23 = .ok (.ireturn, 1) := dk_172 (dk_at dksX1_comes_2_0 23 rfl rfl)
theorem dX1_comes_2_24 : decode cX1_comes_2 24 = .ok (.aload_n 0, 1) := dk_42 (dk_at dksX1_comes_2_1 0 rfl rfl)
theorem dX1_comes_2_25 : decode cX1_comes_2 25 = .ok (.getfield 128, 3) := dk_180 0 128 (dk_at dksX1_comes_2_1 1 rfl rfl)
theorem dX1_comes_2_28 : decode cX1_comes_2 28 = .ok (.iload_n 1, 1) := dk_27 (dk_at dksX1_comes_2_1 4 rfl rfl)
theorem dX1_comes_2_29 : decode cX1_comes_2 29 = .ok (.aaload, 1) := dk_50 (dk_at dksX1_comes_2_1 5 rfl rfl)
theorem dX1_comes_2_30 : decode cX1_comes_2 30 = .ok (.getfield 132, 3) := dk_180 0 132 (dk_at dksX1_comes_2_1 6 rfl rfl)
theorem dX1_comes_2_33 : decode cX1_comes_2 33 = .ok (.checkcast 1, 3) := dk_192 0 1 (dk_at dksX1_comes_2_1 9 rfl rfl)
theorem dX1_comes_2_36 : decode cX1_comes_2 36 = .ok (.astore 4, 2) := dk_58 4 (dk_at dksX1_comes_2_1 12 rfl rfl)
theorem dX1_comes_2_38 : decode cX1_comes_2 38 = .ok (.aload 4, 2) := dk_25 4 (dk_at dksX1_comes_2_1 14 rfl rfl)
theorem dX1_comes_2_40 : decode cX1_comes_2 40 = .ok (.ifnonnull 6, 3) := dk_199 0 6 (dk_at dksX1_comes_2_1 16 rfl rfl)
theorem dX1_comes_2_43 : decode cX1_comes_2 43 = .ok (.bipush (-11), 2) := dk_16 245 (dk_at dksX1_comes_2_1 19 rfl rfl)
theorem dX1_comes_2_45 : decode cX1_comes_2 45 = .ok (.ireturn, 1) := dk_172 (dk_at dksX1_comes_2_1 21 rfl rfl)
theorem dX1_comes_2_46 : decode cX1_comes_2 46 = .ok (.aload_n 0, 1) := dk_42 (dk_at dksX1_comes_2_1 22 rfl rfl)
theorem dX1_comes_2_47 : decode cX1_comes_2 47 = .ok (.getfield 109, 3) := dk_180 0 109 (dk_at dksX1_comes_2_2 0 rfl rfl)
theorem dX1_comes_2_50 : decode cX1_comes_2 50 = .ok (.getfield 70, 3) := dk_180 0 70 (dk_at dksX1_comes_2_2 3 rfl rfl)
theorem dX1_comes_2_53 : decode cX1_comes_2 53 = .ok (.bipush 8, 2) := dk_16 8 (dk_at dksX1_comes_2_2 6 rfl rfl)
theorem dX1_comes_2_55 : decode cX1_comes_2 55 = .ok (.if_icmp .ne 8, 3) := dk_160 0 8 (dk_at dksX1_comes_2_2 8 rfl rfl)
theorem dX1_comes_2_58 : decode cX1_comes_2 58 = .ok (.bipush (-2), 2) := dk_16 254 (dk_at dksX1_comes_2_2 11 rfl rfl)
theorem dX1_comes_2_60 : decode cX1_comes_2 60 = .ok (.goto 14, 3) := dk_167 0 14 (dk_at dksX1_comes_2_2 13 rfl rfl)
theorem dX1_comes_2_63 : decode cX1_comes_2 63 = .ok (.aload_n 0, 1) := dk_42 (dk_at dksX1_comes_2_2 16 rfl rfl)
theorem dX1_comes_2_64 : decode cX1_comes_2 64 = .ok (.getfield 109, 3) := dk_180 0 109 (dk_at dksX1_comes_2_2 17 rfl rfl)
theorem dX1_comes_2_67 : decode cX1_comes_2 67 = .ok (.aload 4, 2) := dk_25 4 (dk_at dksX1_comes_2_2 20 rfl rfl)
theorem dX1_comes_2_69 : decode cX1_comes_2 69 = .ok (.iload_n 2, 1) := dk_28 (dk_at dksX1_comes_2_2 22 rfl rfl)
theorem dX1_comes_2_70 : decode cX1_comes_2 70 = .ok (.iload_n 3, 1) := dk_29 (dk_at dksX1_comes_2_2 23 rfl rfl)
theorem dX1_comes_2_71 : decode cX1_comes_2 71 = .ok (.invokevirtual 77, 3) := dk_182 0 77 (dk_at dksX1_comes_2_3 0 rfl rfl)
theorem dX1_comes_2_74 : decode cX1_comes_2 74 = .ok (.ireturn, 1) := dk_172 (dk_at dksX1_comes_2_3 3 rfl rfl)
theorem dX1_comes_2_75 : decode cX1_comes_2 75 = .ok (.astore 4, 2) := dk_58 4 (dk_at dksX1_comes_2_3 4 rfl rfl)
theorem dX1_comes_2_77 : decode cX1_comes_2 77 = .ok (.bipush (-12), 2) := dk_16 244 (dk_at dksX1_comes_2_3 6 rfl rfl)
theorem dX1_comes_2_79 : decode cX1_comes_2 79 = .ok (.ireturn, 1) := dk_172 (dk_at dksX1_comes_2_3 8 rfl rfl)
abbrev cX1_feels_2 : ByteArray := prog_1_method_14_code
def yX1_feels_2 : MethodName := ⟨RX1, "feels", "(III)I"⟩
def dkwX1_feels_2_2 : List UInt8 := [180, 0, 109, 180, 0, 47, 27, 46, 54, 4, 42, 180, 0, 109, 27, 28, 29, 184, 0, 92, 87, 21, 4, 172]
abbrev dktX1_feels_2_2 : List UInt8 := dkwX1_feels_2_2 ++ []
def dkwX1_feels_2_1 : List UInt8 := [154, 0, 5, 2, 172, 28, 154, 0, 15, 42, 180, 0, 109, 180, 0, 43, 27, 46, 167, 0, 12, 42]
abbrev dktX1_feels_2_1 : List UInt8 := dkwX1_feels_2_1 ++ dktX1_feels_2_2
def dkwX1_feels_2_0 : List UInt8 := [42, 180, 0, 109, 27, 182, 0, 34, 153, 0, 19, 28, 3, 4, 184, 0, 30, 153, 0, 10, 29, 184, 0, 40]
abbrev dktX1_feels_2_0 : List UInt8 := dkwX1_feels_2_0 ++ dktX1_feels_2_1
theorem dksX1_feels_2_0 : cX1_feels_2.data.toList.drop 0 = dktX1_feels_2_0 := by decide +kernel
theorem dksX1_feels_2_1 : cX1_feels_2.data.toList.drop 24 = dktX1_feels_2_1 := dk_seg dksX1_feels_2_0 24 rfl rfl
theorem dksX1_feels_2_2 : cX1_feels_2.data.toList.drop 46 = dktX1_feels_2_2 := dk_seg dksX1_feels_2_1 22 rfl rfl
theorem dX1_feels_2_0 : decode cX1_feels_2 0 = .ok (.aload_n 0, 1) := dk_42 (dk_at dksX1_feels_2_0 0 rfl rfl)
theorem dX1_feels_2_1 : decode cX1_feels_2 1 = .ok (.getfield 109, 3) := dk_180 0 109 (dk_at dksX1_feels_2_0 1 rfl rfl)
theorem dX1_feels_2_4 : decode cX1_feels_2 4 = .ok (.iload_n 1, 1) := dk_27 (dk_at dksX1_feels_2_0 4 rfl rfl)
theorem dX1_feels_2_5 : decode cX1_feels_2 5 = .ok (.invokevirtual 34, 3) := dk_182 0 34 (dk_at dksX1_feels_2_0 5 rfl rfl)
theorem dX1_feels_2_8 : decode cX1_feels_2 8 = .ok (.ifCond .eq 19, 3) := dk_153 0 19 (dk_at dksX1_feels_2_0 8 rfl rfl)
theorem dX1_feels_2_11 : decode cX1_feels_2 11 = .ok (.iload_n 2, 1) := dk_28 (dk_at dksX1_feels_2_0 11 rfl rfl)
theorem dX1_feels_2_12 : decode cX1_feels_2 12 = .ok (.iconst 0, 1) := dk_3 (dk_at dksX1_feels_2_0 12 rfl rfl)
theorem dX1_feels_2_13 : decode cX1_feels_2 13 = .ok (.iconst 1, 1) := dk_4 (dk_at dksX1_feels_2_0 13 rfl rfl)
theorem dX1_feels_2_14 : decode cX1_feels_2 14 = .ok (.invokestatic 30, 3) := dk_184 0 30 (dk_at dksX1_feels_2_0 14 rfl rfl)
theorem dX1_feels_2_17 : decode cX1_feels_2 17 = .ok (.ifCond .eq 10, 3) := dk_153 0 10 (dk_at dksX1_feels_2_0 17 rfl rfl)
theorem dX1_feels_2_20 : decode cX1_feels_2 20 = .ok (.iload_n 3, 1) := dk_29 (dk_at dksX1_feels_2_0 20 rfl rfl)
theorem dX1_feels_2_21 : decode cX1_feels_2 21 = .ok (.invokestatic 40, 3) := dk_184 0 40 (dk_at dksX1_feels_2_0 21 rfl rfl)
theorem dX1_feels_2_24 : decode cX1_feels_2 24 = .ok (.ifCond .ne 5, 3) := dk_154 0 5 (dk_at dksX1_feels_2_1 0 rfl rfl)
theorem dX1_feels_2_27 : decode cX1_feels_2 27 = .ok (.iconst (-1), 1) := dk_2 (dk_at dksX1_feels_2_1 3 rfl rfl)
theorem dX1_feels_2_28 : decode cX1_feels_2 28 = .ok (.ireturn, 1) := dk_172 (dk_at dksX1_feels_2_1 4 rfl rfl)
theorem dX1_feels_2_29 : decode cX1_feels_2 29 = .ok (.iload_n 2, 1) := dk_28 (dk_at dksX1_feels_2_1 5 rfl rfl)
theorem dX1_feels_2_30 : decode cX1_feels_2 30 = .ok (.ifCond .ne 15, 3) := dk_154 0 15 (dk_at dksX1_feels_2_1 6 rfl rfl)
theorem dX1_feels_2_33 : decode cX1_feels_2 33 = .ok (.aload_n 0, 1) := dk_42 (dk_at dksX1_feels_2_1 9 rfl rfl)
theorem dX1_feels_2_34 : decode cX1_feels_2 34 = .ok (.getfield 109, 3) := dk_180 0 109 (dk_at dksX1_feels_2_1 10 rfl rfl)
theorem dX1_feels_2_37 : decode cX1_feels_2 37 = .ok (.getfield 43, 3) := dk_180 0 43 (dk_at dksX1_feels_2_1 13 rfl rfl)
theorem dX1_feels_2_40 : decode cX1_feels_2 40 = .ok (.iload_n 1, 1) := dk_27 (dk_at dksX1_feels_2_1 16 rfl rfl)
theorem dX1_feels_2_41 : decode cX1_feels_2 41 = .ok (.iaload, 1) := dk_46 (dk_at dksX1_feels_2_1 17 rfl rfl)
theorem dX1_feels_2_42 : decode cX1_feels_2 42 = .ok (.goto 12, 3) := dk_167 0 12 (dk_at dksX1_feels_2_1 18 rfl rfl)
theorem dX1_feels_2_45 : decode cX1_feels_2 45 = .ok (.aload_n 0, 1) := dk_42 (dk_at dksX1_feels_2_1 21 rfl rfl)
theorem dX1_feels_2_46 : decode cX1_feels_2 46 = .ok (.getfield 109, 3) := dk_180 0 109 (dk_at dksX1_feels_2_2 0 rfl rfl)
theorem dX1_feels_2_49 : decode cX1_feels_2 49 = .ok (.getfield 47, 3) := dk_180 0 47 (dk_at dksX1_feels_2_2 3 rfl rfl)
theorem dX1_feels_2_52 : decode cX1_feels_2 52 = .ok (.iload_n 1, 1) := dk_27 (dk_at dksX1_feels_2_2 6 rfl rfl)
theorem dX1_feels_2_53 : decode cX1_feels_2 53 = .ok (.iaload, 1) := dk_46 (dk_at dksX1_feels_2_2 7 rfl rfl)
theorem dX1_feels_2_54 : decode cX1_feels_2 54 = .ok (.istore 4, 2) := dk_54 4 (dk_at dksX1_feels_2_2 8 rfl rfl)
theorem dX1_feels_2_56 : decode cX1_feels_2 56 = .ok (.aload_n 0, 1) := dk_42 (dk_at dksX1_feels_2_2 10 rfl rfl)
theorem dX1_feels_2_57 : decode cX1_feels_2 57 = .ok (.getfield 109, 3) := dk_180 0 109 (dk_at dksX1_feels_2_2 11 rfl rfl)
theorem dX1_feels_2_60 : decode cX1_feels_2 60 = .ok (.iload_n 1, 1) := dk_27 (dk_at dksX1_feels_2_2 14 rfl rfl)
theorem dX1_feels_2_61 : decode cX1_feels_2 61 = .ok (.iload_n 2, 1) := dk_28 (dk_at dksX1_feels_2_2 15 rfl rfl)
theorem dX1_feels_2_62 : decode cX1_feels_2 62 = .ok (.iload_n 3, 1) := dk_29 (dk_at dksX1_feels_2_2 16 rfl rfl)
theorem dX1_feels_2_63 : decode cX1_feels_2 63 = .ok (.invokestatic 92, 3) := dk_184 0 92 (dk_at dksX1_feels_2_2 17 rfl rfl)
theorem dX1_feels_2_66 : decode cX1_feels_2 66 = .ok (.pop, 1) := dk_87 (dk_at dksX1_feels_2_2 20 rfl rfl)
theorem dX1_feels_2_67 : decode cX1_feels_2 67 = .ok (.iload 4, 2) := dk_21 4 (dk_at dksX1_feels_2_2 21 rfl rfl)
theorem dX1_feels_2_69 : decode cX1_feels_2 69 = .ok (.ireturn, 1) := dk_172 (dk_at dksX1_feels_2_2 23 rfl rfl)
abbrev cX1_slices : ByteArray := prog_1_method_15_code
def yX1_slices : MethodName := ⟨RX1, "slices", "(I)I"⟩
def dkwX1_slices_1 : List UInt8 := [27, 181, 0, 81, 28, 172]
abbrev dktX1_slices_1 : List UInt8 := dkwX1_slices_1 ++ []
def dkwX1_slices_0 : List UInt8 := [27, 3, 16, 99, 184, 0, 30, 154, 0, 5, 2, 172, 42, 180, 0, 109, 180, 0, 81, 61, 42, 180, 0, 109]
abbrev dktX1_slices_0 : List UInt8 := dkwX1_slices_0 ++ dktX1_slices_1
theorem dksX1_slices_0 : cX1_slices.data.toList.drop 0 = dktX1_slices_0 := by decide +kernel
theorem dksX1_slices_1 : cX1_slices.data.toList.drop 24 = dktX1_slices_1 := dk_seg dksX1_slices_0 24 rfl rfl
theorem dX1_slices_0 : decode cX1_slices 0 = .ok (.iload_n 1, 1) := dk_27 (dk_at dksX1_slices_0 0 rfl rfl)
theorem dX1_slices_1 : decode cX1_slices 1 = .ok (.iconst 0, 1) := dk_3 (dk_at dksX1_slices_0 1 rfl rfl)
theorem dX1_slices_2 : decode cX1_slices 2 = .ok (.bipush 99, 2) := dk_16 99 (dk_at dksX1_slices_0 2 rfl rfl)
theorem dX1_slices_4 : decode cX1_slices 4 = .ok (.invokestatic 30, 3) := dk_184 0 30 (dk_at dksX1_slices_0 4 rfl rfl)
theorem dX1_slices_7 : decode cX1_slices 7 = .ok (.ifCond .ne 5, 3) := dk_154 0 5 (dk_at dksX1_slices_0 7 rfl rfl)
theorem dX1_slices_10 : decode cX1_slices 10 = .ok (.iconst (-1), 1) := dk_2 (dk_at dksX1_slices_0 10 rfl rfl)
theorem dX1_slices_11 : decode cX1_slices 11 = .ok (.ireturn, 1) := dk_172 (dk_at dksX1_slices_0 11 rfl rfl)
theorem dX1_slices_12 : decode cX1_slices 12 = .ok (.aload_n 0, 1) := dk_42 (dk_at dksX1_slices_0 12 rfl rfl)
theorem dX1_slices_13 : decode cX1_slices 13 = .ok (.getfield 109, 3) := dk_180 0 109 (dk_at dksX1_slices_0 13 rfl rfl)
theorem dX1_slices_16 : decode cX1_slices 16 = .ok (.getfield 81, 3) := dk_180 0 81 (dk_at dksX1_slices_0 16 rfl rfl)
theorem dX1_slices_19 : decode cX1_slices 19 = .ok (.istore_n 2, 1) := dk_61 (dk_at dksX1_slices_0 19 rfl rfl)
theorem dX1_slices_20 : decode cX1_slices 20 = .ok (.aload_n 0, 1) := dk_42 (dk_at dksX1_slices_0 20 rfl rfl)
theorem dX1_slices_21 : decode cX1_slices 21 = .ok (.getfield 109, 3) := dk_180 0 109 (dk_at dksX1_slices_0 21 rfl rfl)
theorem dX1_slices_24 : decode cX1_slices 24 = .ok (.iload_n 1, 1) := dk_27 (dk_at dksX1_slices_1 0 rfl rfl)
theorem dX1_slices_25 : decode cX1_slices 25 = .ok (.putfield 81, 3) := dk_181 0 81 (dk_at dksX1_slices_1 1 rfl rfl)
theorem dX1_slices_28 : decode cX1_slices 28 = .ok (.iload_n 2, 1) := dk_28 (dk_at dksX1_slices_1 4 rfl rfl)
theorem dX1_slices_29 : decode cX1_slices 29 = .ok (.ireturn, 1) := dk_172 (dk_at dksX1_slices_1 5 rfl rfl)
abbrev cX1_eats : ByteArray := prog_1_method_16_code
def yX1_eats : MethodName := ⟨RX1, "eats", "(II)I"⟩
def dkwX1_eats_1 : List UInt8 := [153, 0, 15, 42, 180, 0, 109, 27, 28, 182, 0, 88, 167, 0, 5, 16, 253, 172]
abbrev dktX1_eats_1 : List UInt8 := dkwX1_eats_1 ++ []
def dkwX1_eats_0 : List UInt8 := [42, 180, 0, 109, 27, 28, 182, 0, 175, 154, 0, 5, 2, 172, 42, 180, 0, 109, 27, 28, 184, 0, 84]
abbrev dktX1_eats_0 : List UInt8 := dkwX1_eats_0 ++ dktX1_eats_1
theorem dksX1_eats_0 : cX1_eats.data.toList.drop 0 = dktX1_eats_0 := by decide +kernel
theorem dksX1_eats_1 : cX1_eats.data.toList.drop 23 = dktX1_eats_1 := dk_seg dksX1_eats_0 23 rfl rfl
theorem dX1_eats_0 : decode cX1_eats 0 = .ok (.aload_n 0, 1) := dk_42 (dk_at dksX1_eats_0 0 rfl rfl)
theorem dX1_eats_1 : decode cX1_eats 1 = .ok (.getfield 109, 3) := dk_180 0 109 (dk_at dksX1_eats_0 1 rfl rfl)
theorem dX1_eats_4 : decode cX1_eats 4 = .ok (.iload_n 1, 1) := dk_27 (dk_at dksX1_eats_0 4 rfl rfl)
theorem dX1_eats_5 : decode cX1_eats 5 = .ok (.iload_n 2, 1) := dk_28 (dk_at dksX1_eats_0 5 rfl rfl)
theorem dX1_eats_6 : decode cX1_eats 6 = .ok (.invokevirtual 175, 3) := dk_182 0 175 (dk_at dksX1_eats_0 6 rfl rfl)
theorem dX1_eats_9 : decode cX1_eats 9 = .ok (.ifCond .ne 5, 3) := dk_154 0 5 (dk_at dksX1_eats_0 9 rfl rfl)
theorem dX1_eats_12 : decode cX1_eats 12 = .ok (.iconst (-1), 1) := dk_2 (dk_at dksX1_eats_0 12 rfl rfl)
theorem dX1_eats_13 : decode cX1_eats 13 = .ok (.ireturn, 1) := dk_172 (dk_at dksX1_eats_0 13 rfl rfl)
theorem dX1_eats_14 : decode cX1_eats 14 = .ok (.aload_n 0, 1) := dk_42 (dk_at dksX1_eats_0 14 rfl rfl)
theorem dX1_eats_15 : decode cX1_eats 15 = .ok (.getfield 109, 3) := dk_180 0 109 (dk_at dksX1_eats_0 15 rfl rfl)
theorem dX1_eats_18 : decode cX1_eats 18 = .ok (.iload_n 1, 1) := dk_27 (dk_at dksX1_eats_0 18 rfl rfl)
theorem dX1_eats_19 : decode cX1_eats 19 = .ok (.iload_n 2, 1) := dk_28 (dk_at dksX1_eats_0 19 rfl rfl)
theorem dX1_eats_20 : decode cX1_eats 20 = .ok (.invokestatic 84, 3) := dk_184 0 84 (dk_at dksX1_eats_0 20 rfl rfl)
theorem dX1_eats_23 : decode cX1_eats 23 = .ok (.ifCond .eq 15, 3) := dk_153 0 15 (dk_at dksX1_eats_1 0 rfl rfl)
theorem dX1_eats_26 : decode cX1_eats 26 = .ok (.aload_n 0, 1) := dk_42 (dk_at dksX1_eats_1 3 rfl rfl)
theorem dX1_eats_27 : decode cX1_eats 27 = .ok (.getfield 109, 3) := dk_180 0 109 (dk_at dksX1_eats_1 4 rfl rfl)
theorem dX1_eats_30 : decode cX1_eats 30 = .ok (.iload_n 1, 1) := dk_27 (dk_at dksX1_eats_1 7 rfl rfl)
theorem dX1_eats_31 : decode cX1_eats 31 = .ok (.iload_n 2, 1) := dk_28 (dk_at dksX1_eats_1 8 rfl rfl)
theorem dX1_eats_32 : decode cX1_eats 32 = .ok (.invokevirtual 88, 3) := dk_182 0 88 (dk_at dksX1_eats_1 9 rfl rfl)
theorem dX1_eats_35 : decode cX1_eats 35 = .ok (.goto 5, 3) := dk_167 0 5 (dk_at dksX1_eats_1 12 rfl rfl)
theorem dX1_eats_38 : decode cX1_eats 38 = .ok (.bipush (-3), 2) := dk_16 253 (dk_at dksX1_eats_1 15 rfl rfl)
theorem dX1_eats_40 : decode cX1_eats 40 = .ok (.ireturn, 1) := dk_172 (dk_at dksX1_eats_1 17 rfl rfl)
abbrev cX1_joys : ByteArray := prog_1_method_17_code
def yX1_joys : MethodName := ⟨RX1, "joys", "(III)I"⟩
def dkwX1_joys_3 : List UInt8 := [180, 0, 109, 28, 182, 0, 184, 172]
abbrev dktX1_joys_3 : List UInt8 := dkwX1_joys_3 ++ []
def dkwX1_joys_2 : List UInt8 := [182, 0, 178, 167, 0, 28, 29, 4, 160, 0, 15, 42, 180, 0, 109, 27, 28, 182, 0, 181, 167, 0, 11, 42]
abbrev dktX1_joys_2 : List UInt8 := dkwX1_joys_2 ++ dktX1_joys_3
def dkwX1_joys_1 : List UInt8 := [180, 0, 109, 27, 28, 182, 0, 50, 154, 0, 6, 16, 253, 172, 29, 154, 0, 15, 42, 180, 0, 109, 27, 28]
abbrev dktX1_joys_1 : List UInt8 := dkwX1_joys_1 ++ dktX1_joys_2
def dkwX1_joys_0 : List UInt8 := [42, 180, 0, 109, 27, 28, 182, 0, 175, 153, 0, 12, 29, 3, 5, 184, 0, 30, 154, 0, 5, 2, 172, 42]
abbrev dktX1_joys_0 : List UInt8 := dkwX1_joys_0 ++ dktX1_joys_1
theorem dksX1_joys_0 : cX1_joys.data.toList.drop 0 = dktX1_joys_0 := by decide +kernel
theorem dksX1_joys_1 : cX1_joys.data.toList.drop 24 = dktX1_joys_1 := dk_seg dksX1_joys_0 24 rfl rfl
theorem dksX1_joys_2 : cX1_joys.data.toList.drop 48 = dktX1_joys_2 := dk_seg dksX1_joys_1 24 rfl rfl
theorem dksX1_joys_3 : cX1_joys.data.toList.drop 72 = dktX1_joys_3 := dk_seg dksX1_joys_2 24 rfl rfl
theorem dX1_joys_0 : decode cX1_joys 0 = .ok (.aload_n 0, 1) := dk_42 (dk_at dksX1_joys_0 0 rfl rfl)
theorem dX1_joys_1 : decode cX1_joys 1 = .ok (.getfield 109, 3) := dk_180 0 109 (dk_at dksX1_joys_0 1 rfl rfl)
theorem dX1_joys_4 : decode cX1_joys 4 = .ok (.iload_n 1, 1) := dk_27 (dk_at dksX1_joys_0 4 rfl rfl)
theorem dX1_joys_5 : decode cX1_joys 5 = .ok (.iload_n 2, 1) := dk_28 (dk_at dksX1_joys_0 5 rfl rfl)
theorem dX1_joys_6 : decode cX1_joys 6 = .ok (.invokevirtual 175, 3) := dk_182 0 175 (dk_at dksX1_joys_0 6 rfl rfl)
theorem dX1_joys_9 : decode cX1_joys 9 = .ok (.ifCond .eq 12, 3) := dk_153 0 12 (dk_at dksX1_joys_0 9 rfl rfl)
theorem dX1_joys_12 : decode cX1_joys 12 = .ok (.iload_n 3, 1) := dk_29 (dk_at dksX1_joys_0 12 rfl rfl)
theorem dX1_joys_13 : decode cX1_joys 13 = .ok (.iconst 0, 1) := dk_3 (dk_at dksX1_joys_0 13 rfl rfl)
theorem dX1_joys_14 : decode cX1_joys 14 = .ok (.iconst 2, 1) := dk_5 (dk_at dksX1_joys_0 14 rfl rfl)
theorem dX1_joys_15 : decode cX1_joys 15 = .ok (.invokestatic 30, 3) := dk_184 0 30 (dk_at dksX1_joys_0 15 rfl rfl)
theorem dX1_joys_18 : decode cX1_joys 18 = .ok (.ifCond .ne 5, 3) := dk_154 0 5 (dk_at dksX1_joys_0 18 rfl rfl)
theorem dX1_joys_21 : decode cX1_joys 21 = .ok (.iconst (-1), 1) := dk_2 (dk_at dksX1_joys_0 21 rfl rfl)
theorem dX1_joys_22 : decode cX1_joys 22 = .ok (.ireturn, 1) := dk_172 (dk_at dksX1_joys_0 22 rfl rfl)
theorem dX1_joys_23 : decode cX1_joys 23 = .ok (.aload_n 0, 1) := dk_42 (dk_at dksX1_joys_0 23 rfl rfl)
theorem dX1_joys_24 : decode cX1_joys 24 = .ok (.getfield 109, 3) := dk_180 0 109 (dk_at dksX1_joys_1 0 rfl rfl)
theorem dX1_joys_27 : decode cX1_joys 27 = .ok (.iload_n 1, 1) := dk_27 (dk_at dksX1_joys_1 3 rfl rfl)
theorem dX1_joys_28 : decode cX1_joys 28 = .ok (.iload_n 2, 1) := dk_28 (dk_at dksX1_joys_1 4 rfl rfl)
theorem dX1_joys_29 : decode cX1_joys 29 = .ok (.invokevirtual 50, 3) := dk_182 0 50 (dk_at dksX1_joys_1 5 rfl rfl)
theorem dX1_joys_32 : decode cX1_joys 32 = .ok (.ifCond .ne 6, 3) := dk_154 0 6 (dk_at dksX1_joys_1 8 rfl rfl)
theorem dX1_joys_35 : decode cX1_joys 35 = .ok (.bipush (-3), 2) := dk_16 253 (dk_at dksX1_joys_1 11 rfl rfl)
theorem dX1_joys_37 : decode cX1_joys 37 = .ok (.ireturn, 1) := dk_172 (dk_at dksX1_joys_1 13 rfl rfl)
theorem dX1_joys_38 : decode cX1_joys 38 = .ok (.iload_n 3, 1) := dk_29 (dk_at dksX1_joys_1 14 rfl rfl)
theorem dX1_joys_39 : decode cX1_joys 39 = .ok (.ifCond .ne 15, 3) := dk_154 0 15 (dk_at dksX1_joys_1 15 rfl rfl)
theorem dX1_joys_42 : decode cX1_joys 42 = .ok (.aload_n 0, 1) := dk_42 (dk_at dksX1_joys_1 18 rfl rfl)
theorem dX1_joys_43 : decode cX1_joys 43 = .ok (.getfield 109, 3) := dk_180 0 109 (dk_at dksX1_joys_1 19 rfl rfl)
theorem dX1_joys_46 : decode cX1_joys 46 = .ok (.iload_n 1, 1) := dk_27 (dk_at dksX1_joys_1 22 rfl rfl)
theorem dX1_joys_47 : decode cX1_joys 47 = .ok (.iload_n 2, 1) := dk_28 (dk_at dksX1_joys_1 23 rfl rfl)
theorem dX1_joys_48 : decode cX1_joys 48 = .ok (.invokevirtual 178, 3) := dk_182 0 178 (dk_at dksX1_joys_2 0 rfl rfl)
theorem dX1_joys_51 : decode cX1_joys 51 = .ok (.goto 28, 3) := dk_167 0 28 (dk_at dksX1_joys_2 3 rfl rfl)
theorem dX1_joys_54 : decode cX1_joys 54 = .ok (.iload_n 3, 1) := dk_29 (dk_at dksX1_joys_2 6 rfl rfl)
theorem dX1_joys_55 : decode cX1_joys 55 = .ok (.iconst 1, 1) := dk_4 (dk_at dksX1_joys_2 7 rfl rfl)
theorem dX1_joys_56 : decode cX1_joys 56 = .ok (.if_icmp .ne 15, 3) := dk_160 0 15 (dk_at dksX1_joys_2 8 rfl rfl)
theorem dX1_joys_59 : decode cX1_joys 59 = .ok (.aload_n 0, 1) := dk_42 (dk_at dksX1_joys_2 11 rfl rfl)
theorem dX1_joys_60 : decode cX1_joys 60 = .ok (.getfield 109, 3) := dk_180 0 109 (dk_at dksX1_joys_2 12 rfl rfl)
theorem dX1_joys_63 : decode cX1_joys 63 = .ok (.iload_n 1, 1) := dk_27 (dk_at dksX1_joys_2 15 rfl rfl)
theorem dX1_joys_64 : decode cX1_joys 64 = .ok (.iload_n 2, 1) := dk_28 (dk_at dksX1_joys_2 16 rfl rfl)
theorem dX1_joys_65 : decode cX1_joys 65 = .ok (.invokevirtual 181, 3) := dk_182 0 181 (dk_at dksX1_joys_2 17 rfl rfl)
theorem dX1_joys_68 : decode cX1_joys 68 = .ok (.goto 11, 3) := dk_167 0 11 (dk_at dksX1_joys_2 20 rfl rfl)
theorem dX1_joys_71 : decode cX1_joys 71 = .ok (.aload_n 0, 1) := dk_42 (dk_at dksX1_joys_2 23 rfl rfl)
theorem dX1_joys_72 : decode cX1_joys 72 = .ok (.getfield 109, 3) := dk_180 0 109 (dk_at dksX1_joys_3 0 rfl rfl)
theorem dX1_joys_75 : decode cX1_joys 75 = .ok (.iload_n 2, 1) := dk_28 (dk_at dksX1_joys_3 3 rfl rfl)
theorem dX1_joys_76 : decode cX1_joys 76 = .ok (.invokevirtual 184, 3) := dk_182 0 184 (dk_at dksX1_joys_3 4 rfl rfl)
theorem dX1_joys_79 : decode cX1_joys 79 = .ok (.ireturn, 1) := dk_172 (dk_at dksX1_joys_3 7 rfl rfl)
abbrev cX1_who : ByteArray := prog_1_method_18_code
def yX1_who : MethodName := ⟨RX1, "who", "(I)I"⟩
def dkwX1_who_3 : List UInt8 := [128, 61, 132, 4, 1, 167, 255, 209, 132, 3, 1, 167, 255, 189, 28, 172]
abbrev dktX1_who_3 : List UInt8 := dkwX1_who_3 ++ []
def dkwX1_who_2 : List UInt8 := [21, 4, 182, 0, 50, 153, 0, 18, 4, 27, 154, 0, 7, 29, 167, 0, 5, 21, 4, 120, 167, 0, 4, 3]
abbrev dktX1_who_2 : List UInt8 := dkwX1_who_2 ++ dktX1_who_3
def dkwX1_who_1 : List UInt8 := [162, 0, 62, 3, 54, 4, 21, 4, 42, 180, 0, 109, 180, 0, 70, 162, 0, 41, 28, 42, 180, 0, 109, 29]
abbrev dktX1_who_1 : List UInt8 := dkwX1_who_1 ++ dktX1_who_2
def dkwX1_who_0 : List UInt8 := [27, 3, 4, 184, 0, 30, 154, 0, 5, 2, 172, 3, 61, 3, 62, 29, 42, 180, 0, 109, 180, 0, 70]
abbrev dktX1_who_0 : List UInt8 := dkwX1_who_0 ++ dktX1_who_1
theorem dksX1_who_0 : cX1_who.data.toList.drop 0 = dktX1_who_0 := by decide +kernel
theorem dksX1_who_1 : cX1_who.data.toList.drop 23 = dktX1_who_1 := dk_seg dksX1_who_0 23 rfl rfl
theorem dksX1_who_2 : cX1_who.data.toList.drop 47 = dktX1_who_2 := dk_seg dksX1_who_1 24 rfl rfl
theorem dksX1_who_3 : cX1_who.data.toList.drop 71 = dktX1_who_3 := dk_seg dksX1_who_2 24 rfl rfl
theorem dX1_who_0 : decode cX1_who 0 = .ok (.iload_n 1, 1) := dk_27 (dk_at dksX1_who_0 0 rfl rfl)
theorem dX1_who_1 : decode cX1_who 1 = .ok (.iconst 0, 1) := dk_3 (dk_at dksX1_who_0 1 rfl rfl)
theorem dX1_who_2 : decode cX1_who 2 = .ok (.iconst 1, 1) := dk_4 (dk_at dksX1_who_0 2 rfl rfl)
theorem dX1_who_3 : decode cX1_who 3 = .ok (.invokestatic 30, 3) := dk_184 0 30 (dk_at dksX1_who_0 3 rfl rfl)
theorem dX1_who_6 : decode cX1_who 6 = .ok (.ifCond .ne 5, 3) := dk_154 0 5 (dk_at dksX1_who_0 6 rfl rfl)
theorem dX1_who_9 : decode cX1_who 9 = .ok (.iconst (-1), 1) := dk_2 (dk_at dksX1_who_0 9 rfl rfl)
theorem dX1_who_10 : decode cX1_who 10 = .ok (.ireturn, 1) := dk_172 (dk_at dksX1_who_0 10 rfl rfl)
theorem dX1_who_11 : decode cX1_who 11 = .ok (.iconst 0, 1) := dk_3 (dk_at dksX1_who_0 11 rfl rfl)
theorem dX1_who_12 : decode cX1_who 12 = .ok (.istore_n 2, 1) := dk_61 (dk_at dksX1_who_0 12 rfl rfl)
theorem dX1_who_13 : decode cX1_who 13 = .ok (.iconst 0, 1) := dk_3 (dk_at dksX1_who_0 13 rfl rfl)
theorem dX1_who_14 : decode cX1_who 14 = .ok (.istore_n 3, 1) := dk_62 (dk_at dksX1_who_0 14 rfl rfl)
theorem dX1_who_15 : decode cX1_who 15 = .ok (.iload_n 3, 1) := dk_29 (dk_at dksX1_who_0 15 rfl rfl)
theorem dX1_who_16 : decode cX1_who 16 = .ok (.aload_n 0, 1) := dk_42 (dk_at dksX1_who_0 16 rfl rfl)
theorem dX1_who_17 : decode cX1_who 17 = .ok (.getfield 109, 3) := dk_180 0 109 (dk_at dksX1_who_0 17 rfl rfl)
theorem dX1_who_20 : decode cX1_who 20 = .ok (.getfield 70, 3) := dk_180 0 70 (dk_at dksX1_who_0 20 rfl rfl)
theorem dX1_who_23 : decode cX1_who 23 = .ok (.if_icmp .ge 62, 3) := dk_162 0 62 (dk_at dksX1_who_1 0 rfl rfl)
theorem dX1_who_26 : decode cX1_who 26 = .ok (.iconst 0, 1) := dk_3 (dk_at dksX1_who_1 3 rfl rfl)
theorem dX1_who_27 : decode cX1_who 27 = .ok (.istore 4, 2) := dk_54 4 (dk_at dksX1_who_1 4 rfl rfl)
theorem dX1_who_29 : decode cX1_who 29 = .ok (.iload 4, 2) := dk_21 4 (dk_at dksX1_who_1 6 rfl rfl)
theorem dX1_who_31 : decode cX1_who 31 = .ok (.aload_n 0, 1) := dk_42 (dk_at dksX1_who_1 8 rfl rfl)
theorem dX1_who_32 : decode cX1_who 32 = .ok (.getfield 109, 3) := dk_180 0 109 (dk_at dksX1_who_1 9 rfl rfl)
theorem dX1_who_35 : decode cX1_who 35 = .ok (.getfield 70, 3) := dk_180 0 70 (dk_at dksX1_who_1 12 rfl rfl)
theorem dX1_who_38 : decode cX1_who 38 = .ok (.if_icmp .ge 41, 3) := dk_162 0 41 (dk_at dksX1_who_1 15 rfl rfl)
theorem dX1_who_41 : decode cX1_who 41 = .ok (.iload_n 2, 1) := dk_28 (dk_at dksX1_who_1 18 rfl rfl)
theorem dX1_who_42 : decode cX1_who 42 = .ok (.aload_n 0, 1) := dk_42 (dk_at dksX1_who_1 19 rfl rfl)
theorem dX1_who_43 : decode cX1_who 43 = .ok (.getfield 109, 3) := dk_180 0 109 (dk_at dksX1_who_1 20 rfl rfl)
theorem dX1_who_46 : decode cX1_who 46 = .ok (.iload_n 3, 1) := dk_29 (dk_at dksX1_who_1 23 rfl rfl)
theorem dX1_who_47 : decode cX1_who 47 = .ok (.iload 4, 2) := dk_21 4 (dk_at dksX1_who_2 0 rfl rfl)
theorem dX1_who_49 : decode cX1_who 49 = .ok (.invokevirtual 50, 3) := dk_182 0 50 (dk_at dksX1_who_2 2 rfl rfl)
theorem dX1_who_52 : decode cX1_who 52 = .ok (.ifCond .eq 18, 3) := dk_153 0 18 (dk_at dksX1_who_2 5 rfl rfl)
theorem dX1_who_55 : decode cX1_who 55 = .ok (.iconst 1, 1) := dk_4 (dk_at dksX1_who_2 8 rfl rfl)
theorem dX1_who_56 : decode cX1_who 56 = .ok (.iload_n 1, 1) := dk_27 (dk_at dksX1_who_2 9 rfl rfl)
theorem dX1_who_57 : decode cX1_who 57 = .ok (.ifCond .ne 7, 3) := dk_154 0 7 (dk_at dksX1_who_2 10 rfl rfl)
theorem dX1_who_60 : decode cX1_who 60 = .ok (.iload_n 3, 1) := dk_29 (dk_at dksX1_who_2 13 rfl rfl)
theorem dX1_who_61 : decode cX1_who 61 = .ok (.goto 5, 3) := dk_167 0 5 (dk_at dksX1_who_2 14 rfl rfl)
theorem dX1_who_64 : decode cX1_who 64 = .ok (.iload 4, 2) := dk_21 4 (dk_at dksX1_who_2 17 rfl rfl)
theorem dX1_who_66 : decode cX1_who 66 = .ok (.ishl, 1) := dk_120 (dk_at dksX1_who_2 19 rfl rfl)
theorem dX1_who_67 : decode cX1_who 67 = .ok (.goto 4, 3) := dk_167 0 4 (dk_at dksX1_who_2 20 rfl rfl)
theorem dX1_who_70 : decode cX1_who 70 = .ok (.iconst 0, 1) := dk_3 (dk_at dksX1_who_2 23 rfl rfl)
theorem dX1_who_71 : decode cX1_who 71 = .ok (.ior, 1) := dk_128 (dk_at dksX1_who_3 0 rfl rfl)
theorem dX1_who_72 : decode cX1_who 72 = .ok (.istore_n 2, 1) := dk_61 (dk_at dksX1_who_3 1 rfl rfl)
theorem dX1_who_73 : decode cX1_who 73 = .ok (.iinc 4 1, 3) := dk_132 4 1 (dk_at dksX1_who_3 2 rfl rfl)
theorem dX1_who_76 : decode cX1_who 76 = .ok (.goto (-47), 3) := dk_167 255 209 (dk_at dksX1_who_3 5 rfl rfl)
theorem dX1_who_79 : decode cX1_who 79 = .ok (.iinc 3 1, 3) := dk_132 3 1 (dk_at dksX1_who_3 8 rfl rfl)
theorem dX1_who_82 : decode cX1_who 82 = .ok (.goto (-67), 3) := dk_167 255 189 (dk_at dksX1_who_3 11 rfl rfl)
theorem dX1_who_85 : decode cX1_who 85 = .ok (.iload_n 2, 1) := dk_28 (dk_at dksX1_who_3 14 rfl rfl)
theorem dX1_who_86 : decode cX1_who 86 = .ok (.ireturn, 1) := dk_172 (dk_at dksX1_who_3 15 rfl rfl)
abbrev cX1_bestPair : ByteArray := prog_1_method_19_code
def yX1_bestPair : MethodName := ⟨RX1, "bestPair", "(I)I"⟩
def dkwX1_bestPair_1 : List UInt8 := [167, 0, 10, 42, 180, 0, 109, 182, 0, 191, 172]
abbrev dktX1_bestPair_1 : List UInt8 := dkwX1_bestPair_1 ++ []
def dkwX1_bestPair_0 : List UInt8 := [27, 3, 4, 184, 0, 30, 154, 0, 5, 2, 172, 27, 154, 0, 13, 42, 180, 0, 109, 182, 0, 188]
abbrev dktX1_bestPair_0 : List UInt8 := dkwX1_bestPair_0 ++ dktX1_bestPair_1
theorem dksX1_bestPair_0 : cX1_bestPair.data.toList.drop 0 = dktX1_bestPair_0 := by decide +kernel
theorem dksX1_bestPair_1 : cX1_bestPair.data.toList.drop 22 = dktX1_bestPair_1 := dk_seg dksX1_bestPair_0 22 rfl rfl
theorem dX1_bestPair_0 : decode cX1_bestPair 0 = .ok (.iload_n 1, 1) := dk_27 (dk_at dksX1_bestPair_0 0 rfl rfl)
theorem dX1_bestPair_1 : decode cX1_bestPair 1 = .ok (.iconst 0, 1) := dk_3 (dk_at dksX1_bestPair_0 1 rfl rfl)
theorem dX1_bestPair_2 : decode cX1_bestPair 2 = .ok (.iconst 1, 1) := dk_4 (dk_at dksX1_bestPair_0 2 rfl rfl)
theorem dX1_bestPair_3 : decode cX1_bestPair 3 = .ok (.invokestatic 30, 3) := dk_184 0 30 (dk_at dksX1_bestPair_0 3 rfl rfl)
theorem dX1_bestPair_6 : decode cX1_bestPair 6 = .ok (.ifCond .ne 5, 3) := dk_154 0 5 (dk_at dksX1_bestPair_0 6 rfl rfl)
theorem dX1_bestPair_9 : decode cX1_bestPair 9 = .ok (.iconst (-1), 1) := dk_2 (dk_at dksX1_bestPair_0 9 rfl rfl)
theorem dX1_bestPair_10 : decode cX1_bestPair 10 = .ok (.ireturn, 1) := dk_172 (dk_at dksX1_bestPair_0 10 rfl rfl)
theorem dX1_bestPair_11 : decode cX1_bestPair 11 = .ok (.iload_n 1, 1) := dk_27 (dk_at dksX1_bestPair_0 11 rfl rfl)
theorem dX1_bestPair_12 : decode cX1_bestPair 12 = .ok (.ifCond .ne 13, 3) := dk_154 0 13 (dk_at dksX1_bestPair_0 12 rfl rfl)
theorem dX1_bestPair_15 : decode cX1_bestPair 15 = .ok (.aload_n 0, 1) := dk_42 (dk_at dksX1_bestPair_0 15 rfl rfl)
theorem dX1_bestPair_16 : decode cX1_bestPair 16 = .ok (.getfield 109, 3) := dk_180 0 109 (dk_at dksX1_bestPair_0 16 rfl rfl)
theorem dX1_bestPair_19 : decode cX1_bestPair 19 = .ok (.invokevirtual 188, 3) := dk_182 0 188 (dk_at dksX1_bestPair_0 19 rfl rfl)
theorem dX1_bestPair_22 : decode cX1_bestPair 22 = .ok (.goto 10, 3) := dk_167 0 10 (dk_at dksX1_bestPair_1 0 rfl rfl)
theorem dX1_bestPair_25 : decode cX1_bestPair 25 = .ok (.aload_n 0, 1) := dk_42 (dk_at dksX1_bestPair_1 3 rfl rfl)
theorem dX1_bestPair_26 : decode cX1_bestPair 26 = .ok (.getfield 109, 3) := dk_180 0 109 (dk_at dksX1_bestPair_1 4 rfl rfl)
theorem dX1_bestPair_29 : decode cX1_bestPair 29 = .ok (.invokevirtual 191, 3) := dk_182 0 191 (dk_at dksX1_bestPair_1 7 rfl rfl)
theorem dX1_bestPair_32 : decode cX1_bestPair 32 = .ok (.ireturn, 1) := dk_172 (dk_at dksX1_bestPair_1 10 rfl rfl)
abbrev cX1_bestLooker : ByteArray := prog_1_method_20_code
def yX1_bestLooker : MethodName := ⟨RX1, "bestLooker", "(I)I"⟩
def dkwX1_bestLooker_3 : List UInt8 := [132, 3, 1, 167, 255, 203, 28, 172]
abbrev dktX1_bestLooker_3 : List UInt8 := dkwX1_bestLooker_3 ++ []
def dkwX1_bestLooker_2 : List UInt8 := [180, 0, 109, 27, 29, 182, 0, 178, 42, 180, 0, 109, 27, 28, 182, 0, 178, 164, 0, 5, 29, 61]
abbrev dktX1_bestLooker_2 : List UInt8 := dkwX1_bestLooker_2 ++ dktX1_bestLooker_3
def dkwX1_bestLooker_1 : List UInt8 := [180, 0, 70, 162, 0, 48, 42, 180, 0, 109, 27, 29, 182, 0, 50, 153, 0, 30, 28, 155, 0, 24, 42]
abbrev dktX1_bestLooker_1 : List UInt8 := dkwX1_bestLooker_1 ++ dktX1_bestLooker_2
def dkwX1_bestLooker_0 : List UInt8 := [42, 180, 0, 109, 27, 182, 0, 34, 154, 0, 5, 2, 172, 16, 252, 61, 3, 62, 29, 42, 180, 0, 109]
abbrev dktX1_bestLooker_0 : List UInt8 := dkwX1_bestLooker_0 ++ dktX1_bestLooker_1
theorem dksX1_bestLooker_0 : cX1_bestLooker.data.toList.drop 0 = dktX1_bestLooker_0 := by decide +kernel
theorem dksX1_bestLooker_1 : cX1_bestLooker.data.toList.drop 23 = dktX1_bestLooker_1 := dk_seg dksX1_bestLooker_0 23 rfl rfl
theorem dksX1_bestLooker_2 : cX1_bestLooker.data.toList.drop 46 = dktX1_bestLooker_2 := dk_seg dksX1_bestLooker_1 23 rfl rfl
theorem dksX1_bestLooker_3 : cX1_bestLooker.data.toList.drop 68 = dktX1_bestLooker_3 := dk_seg dksX1_bestLooker_2 22 rfl rfl
theorem dX1_bestLooker_0 : decode cX1_bestLooker 0 = .ok (.aload_n 0, 1) := dk_42 (dk_at dksX1_bestLooker_0 0 rfl rfl)
theorem dX1_bestLooker_1 : decode cX1_bestLooker 1 = .ok (.getfield 109, 3) := dk_180 0 109 (dk_at dksX1_bestLooker_0 1 rfl rfl)
theorem dX1_bestLooker_4 : decode cX1_bestLooker 4 = .ok (.iload_n 1, 1) := dk_27 (dk_at dksX1_bestLooker_0 4 rfl rfl)
theorem dX1_bestLooker_5 : decode cX1_bestLooker 5 = .ok (.invokevirtual 34, 3) := dk_182 0 34 (dk_at dksX1_bestLooker_0 5 rfl rfl)
theorem dX1_bestLooker_8 : decode cX1_bestLooker 8 = .ok (.ifCond .ne 5, 3) := dk_154 0 5 (dk_at dksX1_bestLooker_0 8 rfl rfl)
theorem dX1_bestLooker_11 : decode cX1_bestLooker 11 = .ok (.iconst (-1), 1) := dk_2 (dk_at dksX1_bestLooker_0 11 rfl rfl)
theorem dX1_bestLooker_12 : decode cX1_bestLooker 12 = .ok (.ireturn, 1) := dk_172 (dk_at dksX1_bestLooker_0 12 rfl rfl)
theorem dX1_bestLooker_13 : decode cX1_bestLooker 13 = .ok (.bipush (-4), 2) := dk_16 252 (dk_at dksX1_bestLooker_0 13 rfl rfl)
theorem dX1_bestLooker_15 : decode cX1_bestLooker 15 = .ok (.istore_n 2, 1) := dk_61 (dk_at dksX1_bestLooker_0 15 rfl rfl)
theorem dX1_bestLooker_16 : decode cX1_bestLooker 16 = .ok (.iconst 0, 1) := dk_3 (dk_at dksX1_bestLooker_0 16 rfl rfl)
theorem dX1_bestLooker_17 : decode cX1_bestLooker 17 = .ok (.istore_n 3, 1) := dk_62 (dk_at dksX1_bestLooker_0 17 rfl rfl)
theorem dX1_bestLooker_18 : decode cX1_bestLooker 18 = .ok (.iload_n 3, 1) := dk_29 (dk_at dksX1_bestLooker_0 18 rfl rfl)
theorem dX1_bestLooker_19 : decode cX1_bestLooker 19 = .ok (.aload_n 0, 1) := dk_42 (dk_at dksX1_bestLooker_0 19 rfl rfl)
theorem dX1_bestLooker_20 : decode cX1_bestLooker 20 = .ok (.getfield 109, 3) := dk_180 0 109 (dk_at dksX1_bestLooker_0 20 rfl rfl)
theorem dX1_bestLooker_23 : decode cX1_bestLooker 23 = .ok (.getfield 70, 3) := dk_180 0 70 (dk_at dksX1_bestLooker_1 0 rfl rfl)
theorem dX1_bestLooker_26 : decode cX1_bestLooker 26 = .ok (.if_icmp .ge 48, 3) := dk_162 0 48 (dk_at dksX1_bestLooker_1 3 rfl rfl)
theorem dX1_bestLooker_29 : decode cX1_bestLooker 29 = .ok (.aload_n 0, 1) := dk_42 (dk_at dksX1_bestLooker_1 6 rfl rfl)
theorem dX1_bestLooker_30 : decode cX1_bestLooker 30 = .ok (.getfield 109, 3) := dk_180 0 109 (dk_at dksX1_bestLooker_1 7 rfl rfl)
theorem dX1_bestLooker_33 : decode cX1_bestLooker 33 = .ok (.iload_n 1, 1) := dk_27 (dk_at dksX1_bestLooker_1 10 rfl rfl)
theorem dX1_bestLooker_34 : decode cX1_bestLooker 34 = .ok (.iload_n 3, 1) := dk_29 (dk_at dksX1_bestLooker_1 11 rfl rfl)
theorem dX1_bestLooker_35 : decode cX1_bestLooker 35 = .ok (.invokevirtual 50, 3) := dk_182 0 50 (dk_at dksX1_bestLooker_1 12 rfl rfl)
theorem dX1_bestLooker_38 : decode cX1_bestLooker 38 = .ok (.ifCond .eq 30, 3) := dk_153 0 30 (dk_at dksX1_bestLooker_1 15 rfl rfl)
theorem dX1_bestLooker_41 : decode cX1_bestLooker 41 = .ok (.iload_n 2, 1) := dk_28 (dk_at dksX1_bestLooker_1 18 rfl rfl)
theorem dX1_bestLooker_42 : decode cX1_bestLooker 42 = .ok (.ifCond .lt 24, 3) := dk_155 0 24 (dk_at dksX1_bestLooker_1 19 rfl rfl)
theorem dX1_bestLooker_45 : decode cX1_bestLooker 45 = .ok (.aload_n 0, 1) := dk_42 (dk_at dksX1_bestLooker_1 22 rfl rfl)
theorem dX1_bestLooker_46 : decode cX1_bestLooker 46 = .ok (.getfield 109, 3) := dk_180 0 109 (dk_at dksX1_bestLooker_2 0 rfl rfl)
theorem dX1_bestLooker_49 : decode cX1_bestLooker 49 = .ok (.iload_n 1, 1) := dk_27 (dk_at dksX1_bestLooker_2 3 rfl rfl)
theorem dX1_bestLooker_50 : decode cX1_bestLooker 50 = .ok (.iload_n 3, 1) := dk_29 (dk_at dksX1_bestLooker_2 4 rfl rfl)
theorem dX1_bestLooker_51 : decode cX1_bestLooker 51 = .ok (.invokevirtual 178, 3) := dk_182 0 178 (dk_at dksX1_bestLooker_2 5 rfl rfl)
theorem dX1_bestLooker_54 : decode cX1_bestLooker 54 = .ok (.aload_n 0, 1) := dk_42 (dk_at dksX1_bestLooker_2 8 rfl rfl)
theorem dX1_bestLooker_55 : decode cX1_bestLooker 55 = .ok (.getfield 109, 3) := dk_180 0 109 (dk_at dksX1_bestLooker_2 9 rfl rfl)
theorem dX1_bestLooker_58 : decode cX1_bestLooker 58 = .ok (.iload_n 1, 1) := dk_27 (dk_at dksX1_bestLooker_2 12 rfl rfl)
theorem dX1_bestLooker_59 : decode cX1_bestLooker 59 = .ok (.iload_n 2, 1) := dk_28 (dk_at dksX1_bestLooker_2 13 rfl rfl)
theorem dX1_bestLooker_60 : decode cX1_bestLooker 60 = .ok (.invokevirtual 178, 3) := dk_182 0 178 (dk_at dksX1_bestLooker_2 14 rfl rfl)
theorem dX1_bestLooker_63 : decode cX1_bestLooker 63 = .ok (.if_icmp .le 5, 3) := dk_164 0 5 (dk_at dksX1_bestLooker_2 17 rfl rfl)
theorem dX1_bestLooker_66 : decode cX1_bestLooker 66 = .ok (.iload_n 3, 1) := dk_29 (dk_at dksX1_bestLooker_2 20 rfl rfl)
theorem dX1_bestLooker_67 : decode cX1_bestLooker 67 = .ok (.istore_n 2, 1) := dk_61 (dk_at dksX1_bestLooker_2 21 rfl rfl)
theorem dX1_bestLooker_68 : decode cX1_bestLooker 68 = .ok (.iinc 3 1, 3) := dk_132 3 1 (dk_at dksX1_bestLooker_3 0 rfl rfl)
theorem dX1_bestLooker_71 : decode cX1_bestLooker 71 = .ok (.goto (-53), 3) := dk_167 255 203 (dk_at dksX1_bestLooker_3 3 rfl rfl)
theorem dX1_bestLooker_74 : decode cX1_bestLooker 74 = .ok (.iload_n 2, 1) := dk_28 (dk_at dksX1_bestLooker_3 6 rfl rfl)
theorem dX1_bestLooker_75 : decode cX1_bestLooker 75 = .ok (.ireturn, 1) := dk_172 (dk_at dksX1_bestLooker_3 7 rfl rfl)
abbrev cX1_twoTurns : ByteArray := prog_1_method_22_code
def yX1_twoTurns : MethodName := ⟨RX1, "twoTurns", "(I)I"⟩
def dkwX1_twoTurns_5 : List UInt8 := [167, 0, 4, 28, 172]
abbrev dktX1_twoTurns_5 : List UInt8 := dkwX1_twoTurns_5 ++ []
def dkwX1_twoTurns_4 : List UInt8 := [29, 163, 0, 6, 167, 0, 9, 21, 4, 61, 21, 5, 62, 132, 4, 1, 167, 255, 165, 27, 154, 0, 7, 29]
abbrev dktX1_twoTurns_4 : List UInt8 := dkwX1_twoTurns_4 ++ dktX1_twoTurns_5
def dkwX1_twoTurns_3 : List UInt8 := [54, 5, 21, 5, 3, 42, 180, 0, 66, 182, 0, 191, 184, 0, 198, 96, 54, 5, 28, 155, 0, 12, 21, 5]
abbrev dktX1_twoTurns_3 : List UInt8 := dkwX1_twoTurns_3 ++ dktX1_twoTurns_4
def dkwX1_twoTurns_2 : List UInt8 := [167, 0, 61, 42, 182, 0, 194, 42, 180, 0, 66, 21, 4, 16, 10, 108, 21, 4, 16, 10, 112, 182, 0, 88]
abbrev dktX1_twoTurns_2 : List UInt8 := dkwX1_twoTurns_2 ++ dktX1_twoTurns_3
def dkwX1_twoTurns_1 : List UInt8 := [162, 0, 90, 42, 180, 0, 109, 21, 4, 16, 10, 108, 21, 4, 16, 10, 112, 182, 0, 50, 154, 0, 6]
abbrev dktX1_twoTurns_1 : List UInt8 := dkwX1_twoTurns_1 ++ dktX1_twoTurns_2
def dkwX1_twoTurns_0 : List UInt8 := [27, 3, 4, 184, 0, 30, 154, 0, 5, 2, 172, 16, 252, 61, 3, 62, 3, 54, 4, 21, 4, 16, 80]
abbrev dktX1_twoTurns_0 : List UInt8 := dkwX1_twoTurns_0 ++ dktX1_twoTurns_1
theorem dksX1_twoTurns_0 : cX1_twoTurns.data.toList.drop 0 = dktX1_twoTurns_0 := by decide +kernel
theorem dksX1_twoTurns_1 : cX1_twoTurns.data.toList.drop 23 = dktX1_twoTurns_1 := dk_seg dksX1_twoTurns_0 23 rfl rfl
theorem dksX1_twoTurns_2 : cX1_twoTurns.data.toList.drop 46 = dktX1_twoTurns_2 := dk_seg dksX1_twoTurns_1 23 rfl rfl
theorem dksX1_twoTurns_3 : cX1_twoTurns.data.toList.drop 70 = dktX1_twoTurns_3 := dk_seg dksX1_twoTurns_2 24 rfl rfl
theorem dksX1_twoTurns_4 : cX1_twoTurns.data.toList.drop 94 = dktX1_twoTurns_4 := dk_seg dksX1_twoTurns_3 24 rfl rfl
theorem dksX1_twoTurns_5 : cX1_twoTurns.data.toList.drop 118 = dktX1_twoTurns_5 := dk_seg dksX1_twoTurns_4 24 rfl rfl
theorem dX1_twoTurns_0 : decode cX1_twoTurns 0 = .ok (.iload_n 1, 1) := dk_27 (dk_at dksX1_twoTurns_0 0 rfl rfl)
theorem dX1_twoTurns_1 : decode cX1_twoTurns 1 = .ok (.iconst 0, 1) := dk_3 (dk_at dksX1_twoTurns_0 1 rfl rfl)
theorem dX1_twoTurns_2 : decode cX1_twoTurns 2 = .ok (.iconst 1, 1) := dk_4 (dk_at dksX1_twoTurns_0 2 rfl rfl)
theorem dX1_twoTurns_3 : decode cX1_twoTurns 3 = .ok (.invokestatic 30, 3) := dk_184 0 30 (dk_at dksX1_twoTurns_0 3 rfl rfl)
theorem dX1_twoTurns_6 : decode cX1_twoTurns 6 = .ok (.ifCond .ne 5, 3) := dk_154 0 5 (dk_at dksX1_twoTurns_0 6 rfl rfl)
theorem dX1_twoTurns_9 : decode cX1_twoTurns 9 = .ok (.iconst (-1), 1) := dk_2 (dk_at dksX1_twoTurns_0 9 rfl rfl)
theorem dX1_twoTurns_10 : decode cX1_twoTurns 10 = .ok (.ireturn, 1) := dk_172 (dk_at dksX1_twoTurns_0 10 rfl rfl)
theorem dX1_twoTurns_11 : decode cX1_twoTurns 11 = .ok (.bipush (-4), 2) := dk_16 252 (dk_at dksX1_twoTurns_0 11 rfl rfl)
theorem dX1_twoTurns_13 : decode cX1_twoTurns 13 = .ok (.istore_n 2, 1) := dk_61 (dk_at dksX1_twoTurns_0 13 rfl rfl)
theorem dX1_twoTurns_14 : decode cX1_twoTurns 14 = .ok (.iconst 0, 1) := dk_3 (dk_at dksX1_twoTurns_0 14 rfl rfl)
theorem dX1_twoTurns_15 : decode cX1_twoTurns 15 = .ok (.istore_n 3, 1) := dk_62 (dk_at dksX1_twoTurns_0 15 rfl rfl)
theorem dX1_twoTurns_16 : decode cX1_twoTurns 16 = .ok (.iconst 0, 1) := dk_3 (dk_at dksX1_twoTurns_0 16 rfl rfl)
theorem dX1_twoTurns_17 : decode cX1_twoTurns 17 = .ok (.istore 4, 2) := dk_54 4 (dk_at dksX1_twoTurns_0 17 rfl rfl)
theorem dX1_twoTurns_19 : decode cX1_twoTurns 19 = .ok (.iload 4, 2) := dk_21 4 (dk_at dksX1_twoTurns_0 19 rfl rfl)
theorem dX1_twoTurns_21 : decode cX1_twoTurns 21 = .ok (.bipush 80, 2) := dk_16 80 (dk_at dksX1_twoTurns_0 21 rfl rfl)
theorem dX1_twoTurns_23 : decode cX1_twoTurns 23 = .ok (.if_icmp .ge 90, 3) := dk_162 0 90 (dk_at dksX1_twoTurns_1 0 rfl rfl)
theorem dX1_twoTurns_26 : decode cX1_twoTurns 26 = .ok (.aload_n 0, 1) := dk_42 (dk_at dksX1_twoTurns_1 3 rfl rfl)
theorem dX1_twoTurns_27 : decode cX1_twoTurns 27 = .ok (.getfield 109, 3) := dk_180 0 109 (dk_at dksX1_twoTurns_1 4 rfl rfl)
theorem dX1_twoTurns_30 : decode cX1_twoTurns 30 = .ok (.iload 4, 2) := dk_21 4 (dk_at dksX1_twoTurns_1 7 rfl rfl)
theorem dX1_twoTurns_32 : decode cX1_twoTurns 32 = .ok (.bipush 10, 2) := dk_16 10 (dk_at dksX1_twoTurns_1 9 rfl rfl)
theorem dX1_twoTurns_34 : decode cX1_twoTurns 34 = .ok (.idiv, 1) := dk_108 (dk_at dksX1_twoTurns_1 11 rfl rfl)
theorem dX1_twoTurns_35 : decode cX1_twoTurns 35 = .ok (.iload 4, 2) := dk_21 4 (dk_at dksX1_twoTurns_1 12 rfl rfl)
theorem dX1_twoTurns_37 : decode cX1_twoTurns 37 = .ok (.bipush 10, 2) := dk_16 10 (dk_at dksX1_twoTurns_1 14 rfl rfl)
theorem dX1_twoTurns_39 : decode cX1_twoTurns 39 = .ok (.irem, 1) := dk_112 (dk_at dksX1_twoTurns_1 16 rfl rfl)
theorem dX1_twoTurns_40 : decode cX1_twoTurns 40 = .ok (.invokevirtual 50, 3) := dk_182 0 50 (dk_at dksX1_twoTurns_1 17 rfl rfl)
theorem dX1_twoTurns_43 : decode cX1_twoTurns 43 = .ok (.ifCond .ne 6, 3) := dk_154 0 6 (dk_at dksX1_twoTurns_1 20 rfl rfl)
theorem dX1_twoTurns_46 : decode cX1_twoTurns 46 = .ok (.goto 61, 3) := dk_167 0 61 (dk_at dksX1_twoTurns_2 0 rfl rfl)
theorem dX1_twoTurns_49 : decode cX1_twoTurns 49 = .ok (.aload_n 0, 1) := dk_42 (dk_at dksX1_twoTurns_2 3 rfl rfl)
theorem dX1_twoTurns_50 : decode cX1_twoTurns 50 = .ok (.invokevirtual 194, 3) := dk_182 0 194 (dk_at dksX1_twoTurns_2 4 rfl rfl)
theorem dX1_twoTurns_53 : decode cX1_twoTurns 53 = .ok (.aload_n 0, 1) := dk_42 (dk_at dksX1_twoTurns_2 7 rfl rfl)
theorem dX1_twoTurns_54 : decode cX1_twoTurns 54 = .ok (.getfield 66, 3) := dk_180 0 66 (dk_at dksX1_twoTurns_2 8 rfl rfl)
theorem dX1_twoTurns_57 : decode cX1_twoTurns 57 = .ok (.iload 4, 2) := dk_21 4 (dk_at dksX1_twoTurns_2 11 rfl rfl)
theorem dX1_twoTurns_59 : decode cX1_twoTurns 59 = .ok (.bipush 10, 2) := dk_16 10 (dk_at dksX1_twoTurns_2 13 rfl rfl)
theorem dX1_twoTurns_61 : decode cX1_twoTurns 61 = .ok (.idiv, 1) := dk_108 (dk_at dksX1_twoTurns_2 15 rfl rfl)
theorem dX1_twoTurns_62 : decode cX1_twoTurns 62 = .ok (.iload 4, 2) := dk_21 4 (dk_at dksX1_twoTurns_2 16 rfl rfl)
theorem dX1_twoTurns_64 : decode cX1_twoTurns 64 = .ok (.bipush 10, 2) := dk_16 10 (dk_at dksX1_twoTurns_2 18 rfl rfl)
theorem dX1_twoTurns_66 : decode cX1_twoTurns 66 = .ok (.irem, 1) := dk_112 (dk_at dksX1_twoTurns_2 20 rfl rfl)
theorem dX1_twoTurns_67 : decode cX1_twoTurns 67 = .ok (.invokevirtual 88, 3) := dk_182 0 88 (dk_at dksX1_twoTurns_2 21 rfl rfl)
theorem dX1_twoTurns_70 : decode cX1_twoTurns 70 = .ok (.istore 5, 2) := dk_54 5 (dk_at dksX1_twoTurns_3 0 rfl rfl)
theorem dX1_twoTurns_72 : decode cX1_twoTurns 72 = .ok (.iload 5, 2) := dk_21 5 (dk_at dksX1_twoTurns_3 2 rfl rfl)
theorem dX1_twoTurns_74 : decode cX1_twoTurns 74 = .ok (.iconst 0, 1) := dk_3 (dk_at dksX1_twoTurns_3 4 rfl rfl)
theorem dX1_twoTurns_75 : decode cX1_twoTurns 75 = .ok (.aload_n 0, 1) := dk_42 (dk_at dksX1_twoTurns_3 5 rfl rfl)
theorem dX1_twoTurns_76 : decode cX1_twoTurns 76 = .ok (.getfield 66, 3) := dk_180 0 66 (dk_at dksX1_twoTurns_3 6 rfl rfl)
theorem dX1_twoTurns_79 : decode cX1_twoTurns 79 = .ok (.invokevirtual 191, 3) := dk_182 0 191 (dk_at dksX1_twoTurns_3 9 rfl rfl)
theorem dX1_twoTurns_82 : decode cX1_twoTurns 82 = .ok (.invokestatic 198, 3) := dk_184 0 198 (dk_at dksX1_twoTurns_3 12 rfl rfl)
theorem dX1_twoTurns_85 : decode cX1_twoTurns 85 = .ok (.iadd, 1) := dk_96 (dk_at dksX1_twoTurns_3 15 rfl rfl)
theorem dX1_twoTurns_86 : decode cX1_twoTurns 86 = .ok (.istore 5, 2) := dk_54 5 (dk_at dksX1_twoTurns_3 16 rfl rfl)
theorem dX1_twoTurns_88 : decode cX1_twoTurns 88 = .ok (.iload_n 2, 1) := dk_28 (dk_at dksX1_twoTurns_3 18 rfl rfl)
theorem dX1_twoTurns_89 : decode cX1_twoTurns 89 = .ok (.ifCond .lt 12, 3) := dk_155 0 12 (dk_at dksX1_twoTurns_3 19 rfl rfl)
theorem dX1_twoTurns_92 : decode cX1_twoTurns 92 = .ok (.iload 5, 2) := dk_21 5 (dk_at dksX1_twoTurns_3 22 rfl rfl)
theorem dX1_twoTurns_94 : decode cX1_twoTurns 94 = .ok (.iload_n 3, 1) := dk_29 (dk_at dksX1_twoTurns_4 0 rfl rfl)
theorem dX1_twoTurns_95 : decode cX1_twoTurns 95 = .ok (.if_icmp .gt 6, 3) := dk_163 0 6 (dk_at dksX1_twoTurns_4 1 rfl rfl)
theorem dX1_twoTurns_98 : decode cX1_twoTurns 98 = .ok (.goto 9, 3) := dk_167 0 9 (dk_at dksX1_twoTurns_4 4 rfl rfl)
theorem dX1_twoTurns_101 : decode cX1_twoTurns 101 = .ok (.iload 4, 2) := dk_21 4 (dk_at dksX1_twoTurns_4 7 rfl rfl)
theorem dX1_twoTurns_103 : decode cX1_twoTurns 103 = .ok (.istore_n 2, 1) := dk_61 (dk_at dksX1_twoTurns_4 9 rfl rfl)
theorem dX1_twoTurns_104 : decode cX1_twoTurns 104 = .ok (.iload 5, 2) := dk_21 5 (dk_at dksX1_twoTurns_4 10 rfl rfl)
theorem dX1_twoTurns_106 : decode cX1_twoTurns 106 = .ok (.istore_n 3, 1) := dk_62 (dk_at dksX1_twoTurns_4 12 rfl rfl)
theorem dX1_twoTurns_107 : decode cX1_twoTurns 107 = .ok (.iinc 4 1, 3) := dk_132 4 1 (dk_at dksX1_twoTurns_4 13 rfl rfl)
theorem dX1_twoTurns_110 : decode cX1_twoTurns 110 = .ok (.goto (-91), 3) := dk_167 255 165 (dk_at dksX1_twoTurns_4 16 rfl rfl)
theorem dX1_twoTurns_113 : decode cX1_twoTurns 113 = .ok (.iload_n 1, 1) := dk_27 (dk_at dksX1_twoTurns_4 19 rfl rfl)
theorem dX1_twoTurns_114 : decode cX1_twoTurns 114 = .ok (.ifCond .ne 7, 3) := dk_154 0 7 (dk_at dksX1_twoTurns_4 20 rfl rfl)
theorem dX1_twoTurns_117 : decode cX1_twoTurns 117 = .ok (.iload_n 3, 1) := dk_29 (dk_at dksX1_twoTurns_4 23 rfl rfl)
theorem dX1_twoTurns_118 : decode cX1_twoTurns 118 = .ok (.goto 4, 3) := dk_167 0 4 (dk_at dksX1_twoTurns_5 0 rfl rfl)
theorem dX1_twoTurns_121 : decode cX1_twoTurns 121 = .ok (.iload_n 2, 1) := dk_28 (dk_at dksX1_twoTurns_5 3 rfl rfl)
theorem dX1_twoTurns_122 : decode cX1_twoTurns 122 = .ok (.ireturn, 1) := dk_172 (dk_at dksX1_twoTurns_5 4 rfl rfl)
abbrev cX1_minds : ByteArray := prog_1_method_21_code
def yX1_minds : MethodName := ⟨RX1, "minds", "()V"⟩
def dkwX1_minds_0 : List UInt8 := [42, 180, 0, 66, 42, 180, 0, 109, 182, 0, 112, 177]
abbrev dktX1_minds_0 : List UInt8 := dkwX1_minds_0 ++ []
theorem dksX1_minds_0 : cX1_minds.data.toList.drop 0 = dktX1_minds_0 := by decide +kernel
theorem dX1_minds_0 : decode cX1_minds 0 = .ok (.aload_n 0, 1) := dk_42 (dk_at dksX1_minds_0 0 rfl rfl)
theorem dX1_minds_1 : decode cX1_minds 1 = .ok (.getfield 66, 3) := dk_180 0 66 (dk_at dksX1_minds_0 1 rfl rfl)
theorem dX1_minds_4 : decode cX1_minds 4 = .ok (.aload_n 0, 1) := dk_42 (dk_at dksX1_minds_0 4 rfl rfl)
theorem dX1_minds_5 : decode cX1_minds 5 = .ok (.getfield 109, 3) := dk_180 0 109 (dk_at dksX1_minds_0 5 rfl rfl)
theorem dX1_minds_8 : decode cX1_minds 8 = .ok (.invokevirtual 112, 3) := dk_182 0 112 (dk_at dksX1_minds_0 8 rfl rfl)
theorem dX1_minds_11 : decode cX1_minds 11 = .ok (.return_, 1) := dk_177 (dk_at dksX1_minds_0 11 rfl rfl)
abbrev cX1_pairs : ByteArray := prog_1_method_27_code
def yX1_pairs : MethodName := ⟨RX1, "pairs", "(I)I"⟩
def dkwX1_pairs_8 : List UInt8 := [27, 156, 0, 8, 21, 4, 167, 0, 9, 42, 180, 0, 228, 27, 46, 172]
abbrev dktX1_pairs_8 : List UInt8 := dkwX1_pairs_8 ++ []
def dkwX1_pairs_7 : List UInt8 := [21, 5, 21, 8, 184, 0, 206, 62, 28, 21, 8, 156, 0, 7, 3, 167, 0, 4, 4, 100, 61, 167, 255, 142]
abbrev dktX1_pairs_7 : List UInt8 := dkwX1_pairs_7 ++ dktX1_pairs_8
def dkwX1_pairs_6 : List UInt8 := [21, 6, 21, 7, 184, 0, 198, 54, 8, 21, 8, 156, 0, 11, 29, 29, 4, 100, 126, 167, 0, 11, 29]
abbrev dktX1_pairs_6 : List UInt8 := dkwX1_pairs_6 ++ dktX1_pairs_7
def dkwX1_pairs_5 : List UInt8 := [42, 180, 0, 228, 21, 5, 21, 6, 79, 21, 7, 155, 0, 12, 42, 180, 0, 228, 21, 7, 21, 5, 79]
abbrev dktX1_pairs_5 : List UInt8 := dkwX1_pairs_5 ++ dktX1_pairs_6
def dkwX1_pairs_4 : List UInt8 := [156, 0, 15, 42, 28, 29, 21, 5, 3, 182, 0, 237, 167, 0, 5, 16, 252, 54, 7, 21, 6, 155, 0, 12]
abbrev dktX1_pairs_4 : List UInt8 := dkwX1_pairs_4 ++ dktX1_pairs_5
def dkwX1_pairs_3 : List UInt8 := [153, 0, 116, 29, 184, 0, 210, 54, 5, 42, 28, 29, 21, 5, 4, 182, 0, 237, 54, 6, 21, 6]
abbrev dktX1_pairs_3 : List UInt8 := dkwX1_pairs_3 ++ dktX1_pairs_4
def dkwX1_pairs_2 : List UInt8 := [180, 0, 203, 17, 1, 0, 28, 104, 29, 96, 46, 54, 4, 42, 180, 0, 228, 16, 9, 184, 0, 231, 29]
abbrev dktX1_pairs_2 : List UInt8 := dkwX1_pairs_2 ++ dktX1_pairs_3
def dkwX1_pairs_1 : List UInt8 := [180, 0, 109, 180, 0, 81, 184, 0, 225, 61, 4, 42, 180, 0, 109, 180, 0, 70, 120, 4, 100, 62, 42]
abbrev dktX1_pairs_1 : List UInt8 := dkwX1_pairs_1 ++ dktX1_pairs_2
def dkwX1_pairs_0 : List UInt8 := [27, 2, 161, 0, 14, 27, 42, 180, 0, 109, 180, 0, 70, 161, 0, 5, 2, 172, 42, 182, 0, 222, 7, 42]
abbrev dktX1_pairs_0 : List UInt8 := dkwX1_pairs_0 ++ dktX1_pairs_1
theorem dksX1_pairs_0 : cX1_pairs.data.toList.drop 0 = dktX1_pairs_0 := by decide +kernel
theorem dksX1_pairs_1 : cX1_pairs.data.toList.drop 24 = dktX1_pairs_1 := dk_seg dksX1_pairs_0 24 rfl rfl
theorem dksX1_pairs_2 : cX1_pairs.data.toList.drop 47 = dktX1_pairs_2 := dk_seg dksX1_pairs_1 23 rfl rfl
theorem dksX1_pairs_3 : cX1_pairs.data.toList.drop 70 = dktX1_pairs_3 := dk_seg dksX1_pairs_2 23 rfl rfl
theorem dksX1_pairs_4 : cX1_pairs.data.toList.drop 92 = dktX1_pairs_4 := dk_seg dksX1_pairs_3 22 rfl rfl
theorem dksX1_pairs_5 : cX1_pairs.data.toList.drop 116 = dktX1_pairs_5 := dk_seg dksX1_pairs_4 24 rfl rfl
theorem dksX1_pairs_6 : cX1_pairs.data.toList.drop 139 = dktX1_pairs_6 := dk_seg dksX1_pairs_5 23 rfl rfl
theorem dksX1_pairs_7 : cX1_pairs.data.toList.drop 162 = dktX1_pairs_7 := dk_seg dksX1_pairs_6 23 rfl rfl
theorem dksX1_pairs_8 : cX1_pairs.data.toList.drop 186 = dktX1_pairs_8 := dk_seg dksX1_pairs_7 24 rfl rfl
theorem dX1_pairs_0 : decode cX1_pairs 0 = .ok (.iload_n 1, 1) := dk_27 (dk_at dksX1_pairs_0 0 rfl rfl)
theorem dX1_pairs_1 : decode cX1_pairs 1 = .ok (.iconst (-1), 1) := dk_2 (dk_at dksX1_pairs_0 1 rfl rfl)
theorem dX1_pairs_2 : decode cX1_pairs 2 = .ok (.if_icmp .lt 14, 3) := dk_161 0 14 (dk_at dksX1_pairs_0 2 rfl rfl)
theorem dX1_pairs_5 : decode cX1_pairs 5 = .ok (.iload_n 1, 1) := dk_27 (dk_at dksX1_pairs_0 5 rfl rfl)
theorem dX1_pairs_6 : decode cX1_pairs 6 = .ok (.aload_n 0, 1) := dk_42 (dk_at dksX1_pairs_0 6 rfl rfl)
theorem dX1_pairs_7 : decode cX1_pairs 7 = .ok (.getfield 109, 3) := dk_180 0 109 (dk_at dksX1_pairs_0 7 rfl rfl)
theorem dX1_pairs_10 : decode cX1_pairs 10 = .ok (.getfield 70, 3) := dk_180 0 70 (dk_at dksX1_pairs_0 10 rfl rfl)
theorem dX1_pairs_13 : decode cX1_pairs 13 = .ok (.if_icmp .lt 5, 3) := dk_161 0 5 (dk_at dksX1_pairs_0 13 rfl rfl)
theorem dX1_pairs_16 : decode cX1_pairs 16 = .ok (.iconst (-1), 1) := dk_2 (dk_at dksX1_pairs_0 16 rfl rfl)
theorem dX1_pairs_17 : decode cX1_pairs 17 = .ok (.ireturn, 1) := dk_172 (dk_at dksX1_pairs_0 17 rfl rfl)
theorem dX1_pairs_18 : decode cX1_pairs 18 = .ok (.aload_n 0, 1) := dk_42 (dk_at dksX1_pairs_0 18 rfl rfl)
theorem dX1_pairs_19 : decode cX1_pairs 19 = .ok (.invokevirtual 222, 3) := dk_182 0 222 (dk_at dksX1_pairs_0 19 rfl rfl)
theorem dX1_pairs_22 : decode cX1_pairs 22 = .ok (.iconst 4, 1) := dk_7 (dk_at dksX1_pairs_0 22 rfl rfl)
theorem dX1_pairs_23 : decode cX1_pairs 23 = .ok (.aload_n 0, 1) := dk_42 (dk_at dksX1_pairs_0 23 rfl rfl)
theorem dX1_pairs_24 : decode cX1_pairs 24 = .ok (.getfield 109, 3) := dk_180 0 109 (dk_at dksX1_pairs_1 0 rfl rfl)
theorem dX1_pairs_27 : decode cX1_pairs 27 = .ok (.getfield 81, 3) := dk_180 0 81 (dk_at dksX1_pairs_1 3 rfl rfl)
theorem dX1_pairs_30 : decode cX1_pairs 30 = .ok (.invokestatic 225, 3) := dk_184 0 225 (dk_at dksX1_pairs_1 6 rfl rfl)
theorem dX1_pairs_33 : decode cX1_pairs 33 = .ok (.istore_n 2, 1) := dk_61 (dk_at dksX1_pairs_1 9 rfl rfl)
theorem dX1_pairs_34 : decode cX1_pairs 34 = .ok (.iconst 1, 1) := dk_4 (dk_at dksX1_pairs_1 10 rfl rfl)
theorem dX1_pairs_35 : decode cX1_pairs 35 = .ok (.aload_n 0, 1) := dk_42 (dk_at dksX1_pairs_1 11 rfl rfl)
theorem dX1_pairs_36 : decode cX1_pairs 36 = .ok (.getfield 109, 3) := dk_180 0 109 (dk_at dksX1_pairs_1 12 rfl rfl)
theorem dX1_pairs_39 : decode cX1_pairs 39 = .ok (.getfield 70, 3) := dk_180 0 70 (dk_at dksX1_pairs_1 15 rfl rfl)
theorem dX1_pairs_42 : decode cX1_pairs 42 = .ok (.ishl, 1) := dk_120 (dk_at dksX1_pairs_1 18 rfl rfl)
theorem dX1_pairs_43 : decode cX1_pairs 43 = .ok (.iconst 1, 1) := dk_4 (dk_at dksX1_pairs_1 19 rfl rfl)
theorem dX1_pairs_44 : decode cX1_pairs 44 = .ok (.isub, 1) := dk_100 (dk_at dksX1_pairs_1 20 rfl rfl)
theorem dX1_pairs_45 : decode cX1_pairs 45 = .ok (.istore_n 3, 1) := dk_62 (dk_at dksX1_pairs_1 21 rfl rfl)
theorem dX1_pairs_46 : decode cX1_pairs 46 = .ok (.aload_n 0, 1) := dk_42 (dk_at dksX1_pairs_1 22 rfl rfl)
theorem dX1_pairs_47 : decode cX1_pairs 47 = .ok (.getfield 203, 3) := dk_180 0 203 (dk_at dksX1_pairs_2 0 rfl rfl)
theorem dX1_pairs_50 : decode cX1_pairs 50 = .ok (.sipush 256, 3) := dk_17 1 0 (dk_at dksX1_pairs_2 3 rfl rfl)
theorem dX1_pairs_53 : decode cX1_pairs 53 = .ok (.iload_n 2, 1) := dk_28 (dk_at dksX1_pairs_2 6 rfl rfl)
theorem dX1_pairs_54 : decode cX1_pairs 54 = .ok (.imul, 1) := dk_104 (dk_at dksX1_pairs_2 7 rfl rfl)
theorem dX1_pairs_55 : decode cX1_pairs 55 = .ok (.iload_n 3, 1) := dk_29 (dk_at dksX1_pairs_2 8 rfl rfl)
theorem dX1_pairs_56 : decode cX1_pairs 56 = .ok (.iadd, 1) := dk_96 (dk_at dksX1_pairs_2 9 rfl rfl)
theorem dX1_pairs_57 : decode cX1_pairs 57 = .ok (.iaload, 1) := dk_46 (dk_at dksX1_pairs_2 10 rfl rfl)
theorem dX1_pairs_58 : decode cX1_pairs 58 = .ok (.istore 4, 2) := dk_54 4 (dk_at dksX1_pairs_2 11 rfl rfl)
theorem dX1_pairs_60 : decode cX1_pairs 60 = .ok (.aload_n 0, 1) := dk_42 (dk_at dksX1_pairs_2 13 rfl rfl)
theorem dX1_pairs_61 : decode cX1_pairs 61 = .ok (.getfield 228, 3) := dk_180 0 228 (dk_at dksX1_pairs_2 14 rfl rfl)
theorem dX1_pairs_64 : decode cX1_pairs 64 = .ok (.bipush 9, 2) := dk_16 9 (dk_at dksX1_pairs_2 17 rfl rfl)
theorem dX1_pairs_66 : decode cX1_pairs 66 = .ok (.invokestatic 231, 3) := dk_184 0 231 (dk_at dksX1_pairs_2 19 rfl rfl)
theorem dX1_pairs_69 : decode cX1_pairs 69 = .ok (.iload_n 3, 1) := dk_29 (dk_at dksX1_pairs_2 22 rfl rfl)
theorem dX1_pairs_70 : decode cX1_pairs 70 = .ok (.ifCond .eq 116, 3) := dk_153 0 116 (dk_at dksX1_pairs_3 0 rfl rfl)
theorem dX1_pairs_73 : decode cX1_pairs 73 = .ok (.iload_n 3, 1) := dk_29 (dk_at dksX1_pairs_3 3 rfl rfl)
theorem dX1_pairs_74 : decode cX1_pairs 74 = .ok (.invokestatic 210, 3) := dk_184 0 210 (dk_at dksX1_pairs_3 4 rfl rfl)
theorem dX1_pairs_77 : decode cX1_pairs 77 = .ok (.istore 5, 2) := dk_54 5 (dk_at dksX1_pairs_3 7 rfl rfl)
theorem dX1_pairs_79 : decode cX1_pairs 79 = .ok (.aload_n 0, 1) := dk_42 (dk_at dksX1_pairs_3 9 rfl rfl)
theorem dX1_pairs_80 : decode cX1_pairs 80 = .ok (.iload_n 2, 1) := dk_28 (dk_at dksX1_pairs_3 10 rfl rfl)
theorem dX1_pairs_81 : decode cX1_pairs 81 = .ok (.iload_n 3, 1) := dk_29 (dk_at dksX1_pairs_3 11 rfl rfl)
theorem dX1_pairs_82 : decode cX1_pairs 82 = .ok (.iload 5, 2) := dk_21 5 (dk_at dksX1_pairs_3 12 rfl rfl)
theorem dX1_pairs_84 : decode cX1_pairs 84 = .ok (.iconst 1, 1) := dk_4 (dk_at dksX1_pairs_3 14 rfl rfl)
theorem dX1_pairs_85 : decode cX1_pairs 85 = .ok (.invokevirtual 237, 3) := dk_182 0 237 (dk_at dksX1_pairs_3 15 rfl rfl)
theorem dX1_pairs_88 : decode cX1_pairs 88 = .ok (.istore 6, 2) := dk_54 6 (dk_at dksX1_pairs_3 18 rfl rfl)
theorem dX1_pairs_90 : decode cX1_pairs 90 = .ok (.iload 6, 2) := dk_21 6 (dk_at dksX1_pairs_3 20 rfl rfl)
theorem dX1_pairs_92 : decode cX1_pairs 92 = .ok (.ifCond .ge 15, 3) := dk_156 0 15 (dk_at dksX1_pairs_4 0 rfl rfl)
theorem dX1_pairs_95 : decode cX1_pairs 95 = .ok (.aload_n 0, 1) := dk_42 (dk_at dksX1_pairs_4 3 rfl rfl)
theorem dX1_pairs_96 : decode cX1_pairs 96 = .ok (.iload_n 2, 1) := dk_28 (dk_at dksX1_pairs_4 4 rfl rfl)
theorem dX1_pairs_97 : decode cX1_pairs 97 = .ok (.iload_n 3, 1) := dk_29 (dk_at dksX1_pairs_4 5 rfl rfl)
theorem dX1_pairs_98 : decode cX1_pairs 98 = .ok (.iload 5, 2) := dk_21 5 (dk_at dksX1_pairs_4 6 rfl rfl)
theorem dX1_pairs_100 : decode cX1_pairs 100 = .ok (.iconst 0, 1) := dk_3 (dk_at dksX1_pairs_4 8 rfl rfl)
theorem dX1_pairs_101 : decode cX1_pairs 101 = .ok (.invokevirtual 237, 3) := dk_182 0 237 (dk_at dksX1_pairs_4 9 rfl rfl)
theorem dX1_pairs_104 : decode cX1_pairs 104 = .ok (.goto 5, 3) := dk_167 0 5 (dk_at dksX1_pairs_4 12 rfl rfl)
theorem dX1_pairs_107 : decode cX1_pairs 107 = .ok (.bipush (-4), 2) := dk_16 252 (dk_at dksX1_pairs_4 15 rfl rfl)
theorem dX1_pairs_109 : decode cX1_pairs 109 = .ok (.istore 7, 2) := dk_54 7 (dk_at dksX1_pairs_4 17 rfl rfl)
theorem dX1_pairs_111 : decode cX1_pairs 111 = .ok (.iload 6, 2) := dk_21 6 (dk_at dksX1_pairs_4 19 rfl rfl)
theorem dX1_pairs_113 : decode cX1_pairs 113 = .ok (.ifCond .lt 12, 3) := dk_155 0 12 (dk_at dksX1_pairs_4 21 rfl rfl)
theorem dX1_pairs_116 : decode cX1_pairs 116 = .ok (.aload_n 0, 1) := dk_42 (dk_at dksX1_pairs_5 0 rfl rfl)
theorem dX1_pairs_117 : decode cX1_pairs 117 = .ok (.getfield 228, 3) := dk_180 0 228 (dk_at dksX1_pairs_5 1 rfl rfl)
theorem dX1_pairs_120 : decode cX1_pairs 120 = .ok (.iload 5, 2) := dk_21 5 (dk_at dksX1_pairs_5 4 rfl rfl)
theorem dX1_pairs_122 : decode cX1_pairs 122 = .ok (.iload 6, 2) := dk_21 6 (dk_at dksX1_pairs_5 6 rfl rfl)
theorem dX1_pairs_124 : decode cX1_pairs 124 = .ok (.iastore, 1) := dk_79 (dk_at dksX1_pairs_5 8 rfl rfl)
theorem dX1_pairs_125 : decode cX1_pairs 125 = .ok (.iload 7, 2) := dk_21 7 (dk_at dksX1_pairs_5 9 rfl rfl)
theorem dX1_pairs_127 : decode cX1_pairs 127 = .ok (.ifCond .lt 12, 3) := dk_155 0 12 (dk_at dksX1_pairs_5 11 rfl rfl)
theorem dX1_pairs_130 : decode cX1_pairs 130 = .ok (.aload_n 0, 1) := dk_42 (dk_at dksX1_pairs_5 14 rfl rfl)
theorem dX1_pairs_131 : decode cX1_pairs 131 = .ok (.getfield 228, 3) := dk_180 0 228 (dk_at dksX1_pairs_5 15 rfl rfl)
theorem dX1_pairs_134 : decode cX1_pairs 134 = .ok (.iload 7, 2) := dk_21 7 (dk_at dksX1_pairs_5 18 rfl rfl)
theorem dX1_pairs_136 : decode cX1_pairs 136 = .ok (.iload 5, 2) := dk_21 5 (dk_at dksX1_pairs_5 20 rfl rfl)
theorem dX1_pairs_138 : decode cX1_pairs 138 = .ok (.iastore, 1) := dk_79 (dk_at dksX1_pairs_5 22 rfl rfl)
theorem dX1_pairs_139 : decode cX1_pairs 139 = .ok (.iload 6, 2) := dk_21 6 (dk_at dksX1_pairs_6 0 rfl rfl)
theorem dX1_pairs_141 : decode cX1_pairs 141 = .ok (.iload 7, 2) := dk_21 7 (dk_at dksX1_pairs_6 2 rfl rfl)
theorem dX1_pairs_143 : decode cX1_pairs 143 = .ok (.invokestatic 198, 3) := dk_184 0 198 (dk_at dksX1_pairs_6 4 rfl rfl)
theorem dX1_pairs_146 : decode cX1_pairs 146 = .ok (.istore 8, 2) := dk_54 8 (dk_at dksX1_pairs_6 7 rfl rfl)
theorem dX1_pairs_148 : decode cX1_pairs 148 = .ok (.iload 8, 2) := dk_21 8 (dk_at dksX1_pairs_6 9 rfl rfl)
theorem dX1_pairs_150 : decode cX1_pairs 150 = .ok (.ifCond .ge 11, 3) := dk_156 0 11 (dk_at dksX1_pairs_6 11 rfl rfl)
theorem dX1_pairs_153 : decode cX1_pairs 153 = .ok (.iload_n 3, 1) := dk_29 (dk_at dksX1_pairs_6 14 rfl rfl)
theorem dX1_pairs_154 : decode cX1_pairs 154 = .ok (.iload_n 3, 1) := dk_29 (dk_at dksX1_pairs_6 15 rfl rfl)
theorem dX1_pairs_155 : decode cX1_pairs 155 = .ok (.iconst 1, 1) := dk_4 (dk_at dksX1_pairs_6 16 rfl rfl)
theorem dX1_pairs_156 : decode cX1_pairs 156 = .ok (.isub, 1) := dk_100 (dk_at dksX1_pairs_6 17 rfl rfl)
theorem dX1_pairs_157 : decode cX1_pairs 157 = .ok (.iand, 1) := dk_126 (dk_at dksX1_pairs_6 18 rfl rfl)
theorem dX1_pairs_158 : decode cX1_pairs 158 = .ok (.goto 11, 3) := dk_167 0 11 (dk_at dksX1_pairs_6 19 rfl rfl)
theorem dX1_pairs_161 : decode cX1_pairs 161 = .ok (.iload_n 3, 1) := dk_29 (dk_at dksX1_pairs_6 22 rfl rfl)
theorem dX1_pairs_162 : decode cX1_pairs 162 = .ok (.iload 5, 2) := dk_21 5 (dk_at dksX1_pairs_7 0 rfl rfl)
theorem dX1_pairs_164 : decode cX1_pairs 164 = .ok (.iload 8, 2) := dk_21 8 (dk_at dksX1_pairs_7 2 rfl rfl)
theorem dX1_pairs_166 : decode cX1_pairs 166 = .ok (.invokestatic 206, 3) := dk_184 0 206 (dk_at dksX1_pairs_7 4 rfl rfl)
theorem dX1_pairs_169 : decode cX1_pairs 169 = .ok (.istore_n 3, 1) := dk_62 (dk_at dksX1_pairs_7 7 rfl rfl)
theorem dX1_pairs_170 : decode cX1_pairs 170 = .ok (.iload_n 2, 1) := dk_28 (dk_at dksX1_pairs_7 8 rfl rfl)
theorem dX1_pairs_171 : decode cX1_pairs 171 = .ok (.iload 8, 2) := dk_21 8 (dk_at dksX1_pairs_7 9 rfl rfl)
theorem dX1_pairs_173 : decode cX1_pairs 173 = .ok (.ifCond .ge 7, 3) := dk_156 0 7 (dk_at dksX1_pairs_7 11 rfl rfl)
theorem dX1_pairs_176 : decode cX1_pairs 176 = .ok (.iconst 0, 1) := dk_3 (dk_at dksX1_pairs_7 14 rfl rfl)
theorem dX1_pairs_177 : decode cX1_pairs 177 = .ok (.goto 4, 3) := dk_167 0 4 (dk_at dksX1_pairs_7 15 rfl rfl)
theorem dX1_pairs_180 : decode cX1_pairs 180 = .ok (.iconst 1, 1) := dk_4 (dk_at dksX1_pairs_7 18 rfl rfl)
theorem dX1_pairs_181 : decode cX1_pairs 181 = .ok (.isub, 1) := dk_100 (dk_at dksX1_pairs_7 19 rfl rfl)
theorem dX1_pairs_182 : decode cX1_pairs 182 = .ok (.istore_n 2, 1) := dk_61 (dk_at dksX1_pairs_7 20 rfl rfl)
theorem dX1_pairs_183 : decode cX1_pairs 183 = .ok (.goto (-114), 3) := dk_167 255 142 (dk_at dksX1_pairs_7 21 rfl rfl)
theorem dX1_pairs_186 : decode cX1_pairs 186 = .ok (.iload_n 1, 1) := dk_27 (dk_at dksX1_pairs_8 0 rfl rfl)
theorem dX1_pairs_187 : decode cX1_pairs 187 = .ok (.ifCond .ge 8, 3) := dk_156 0 8 (dk_at dksX1_pairs_8 1 rfl rfl)
theorem dX1_pairs_190 : decode cX1_pairs 190 = .ok (.iload 4, 2) := dk_21 4 (dk_at dksX1_pairs_8 4 rfl rfl)
theorem dX1_pairs_192 : decode cX1_pairs 192 = .ok (.goto 9, 3) := dk_167 0 9 (dk_at dksX1_pairs_8 6 rfl rfl)
theorem dX1_pairs_195 : decode cX1_pairs 195 = .ok (.aload_n 0, 1) := dk_42 (dk_at dksX1_pairs_8 9 rfl rfl)
theorem dX1_pairs_196 : decode cX1_pairs 196 = .ok (.getfield 228, 3) := dk_180 0 228 (dk_at dksX1_pairs_8 10 rfl rfl)
theorem dX1_pairs_199 : decode cX1_pairs 199 = .ok (.iload_n 1, 1) := dk_27 (dk_at dksX1_pairs_8 13 rfl rfl)
theorem dX1_pairs_200 : decode cX1_pairs 200 = .ok (.iaload, 1) := dk_46 (dk_at dksX1_pairs_8 14 rfl rfl)
theorem dX1_pairs_201 : decode cX1_pairs 201 = .ok (.ireturn, 1) := dk_172 (dk_at dksX1_pairs_8 15 rfl rfl)
abbrev cX1_findPairs : ByteArray := prog_1_method_25_code
def yX1_findPairs : MethodName := ⟨RX1, "findPairs", "()V"⟩
def dkwX1_findPairs_7 : List UInt8 := [79, 132, 2, 1, 167, 255, 98, 132, 1, 1, 167, 255, 85, 177]
abbrev dktX1_findPairs_7 : List UInt8 := dkwX1_findPairs_7 ++ []
def dkwX1_findPairs_6 : List UInt8 := [184, 0, 198, 54, 4, 132, 5, 1, 167, 255, 167, 42, 180, 0, 203, 17, 1, 0, 27, 104, 28, 96, 21, 4]
abbrev dktX1_findPairs_6 : List UInt8 := dkwX1_findPairs_6 ++ dktX1_findPairs_7
def dkwX1_findPairs_5 : List UInt8 := [180, 0, 109, 21, 5, 29, 182, 0, 50, 153, 0, 19, 21, 4, 42, 27, 28, 21, 5, 29, 182, 0, 218]
abbrev dktX1_findPairs_5 : List UInt8 := dkwX1_findPairs_5 ++ dktX1_findPairs_6
def dkwX1_findPairs_4 : List UInt8 := [182, 0, 50, 153, 0, 19, 21, 4, 42, 27, 28, 29, 21, 5, 182, 0, 218, 184, 0, 198, 54, 4, 42]
abbrev dktX1_findPairs_4 : List UInt8 := dkwX1_findPairs_4 ++ dktX1_findPairs_5
def dkwX1_findPairs_3 : List UInt8 := [158, 0, 79, 28, 21, 5, 184, 0, 215, 154, 0, 6, 167, 0, 61, 42, 180, 0, 109, 29, 21, 5]
abbrev dktX1_findPairs_3 : List UInt8 := dkwX1_findPairs_3 ++ dktX1_findPairs_4
def dkwX1_findPairs_2 : List UInt8 := [100, 126, 96, 46, 54, 4, 29, 4, 96, 54, 5, 21, 5, 42, 180, 0, 109, 180, 0, 70, 162, 0, 83, 27]
abbrev dktX1_findPairs_2 : List UInt8 := dkwX1_findPairs_2 ++ dktX1_findPairs_3
def dkwX1_findPairs_1 : List UInt8 := [184, 0, 210, 62, 28, 154, 0, 7, 3, 167, 0, 19, 42, 180, 0, 203, 17, 1, 0, 27, 104, 28, 28, 4]
abbrev dktX1_findPairs_1 : List UInt8 := dkwX1_findPairs_1 ++ dktX1_findPairs_2
def dkwX1_findPairs_0 : List UInt8 := [3, 60, 27, 7, 163, 0, 172, 3, 61, 28, 4, 42, 180, 0, 109, 180, 0, 70, 120, 162, 0, 151, 28]
abbrev dktX1_findPairs_0 : List UInt8 := dkwX1_findPairs_0 ++ dktX1_findPairs_1
theorem dksX1_findPairs_0 : cX1_findPairs.data.toList.drop 0 = dktX1_findPairs_0 := by decide +kernel
theorem dksX1_findPairs_1 : cX1_findPairs.data.toList.drop 23 = dktX1_findPairs_1 := dk_seg dksX1_findPairs_0 23 rfl rfl
theorem dksX1_findPairs_2 : cX1_findPairs.data.toList.drop 47 = dktX1_findPairs_2 := dk_seg dksX1_findPairs_1 24 rfl rfl
theorem dksX1_findPairs_3 : cX1_findPairs.data.toList.drop 71 = dktX1_findPairs_3 := dk_seg dksX1_findPairs_2 24 rfl rfl
theorem dksX1_findPairs_4 : cX1_findPairs.data.toList.drop 93 = dktX1_findPairs_4 := dk_seg dksX1_findPairs_3 22 rfl rfl
theorem dksX1_findPairs_5 : cX1_findPairs.data.toList.drop 116 = dktX1_findPairs_5 := dk_seg dksX1_findPairs_4 23 rfl rfl
theorem dksX1_findPairs_6 : cX1_findPairs.data.toList.drop 139 = dktX1_findPairs_6 := dk_seg dksX1_findPairs_5 23 rfl rfl
theorem dksX1_findPairs_7 : cX1_findPairs.data.toList.drop 163 = dktX1_findPairs_7 := dk_seg dksX1_findPairs_6 24 rfl rfl
theorem dX1_findPairs_0 : decode cX1_findPairs 0 = .ok (.iconst 0, 1) := dk_3 (dk_at dksX1_findPairs_0 0 rfl rfl)
theorem dX1_findPairs_1 : decode cX1_findPairs 1 = .ok (.istore_n 1, 1) := dk_60 (dk_at dksX1_findPairs_0 1 rfl rfl)
theorem dX1_findPairs_2 : decode cX1_findPairs 2 = .ok (.iload_n 1, 1) := dk_27 (dk_at dksX1_findPairs_0 2 rfl rfl)
theorem dX1_findPairs_3 : decode cX1_findPairs 3 = .ok (.iconst 4, 1) := dk_7 (dk_at dksX1_findPairs_0 3 rfl rfl)
theorem dX1_findPairs_4 : decode cX1_findPairs 4 = .ok (.if_icmp .gt 172, 3) := dk_163 0 172 (dk_at dksX1_findPairs_0 4 rfl rfl)
theorem dX1_findPairs_7 : decode cX1_findPairs 7 = .ok (.iconst 0, 1) := dk_3 (dk_at dksX1_findPairs_0 7 rfl rfl)
theorem dX1_findPairs_8 : decode cX1_findPairs 8 = .ok (.istore_n 2, 1) := dk_61 (dk_at dksX1_findPairs_0 8 rfl rfl)
theorem dX1_findPairs_9 : decode cX1_findPairs 9 = .ok (.iload_n 2, 1) := dk_28 (dk_at dksX1_findPairs_0 9 rfl rfl)
theorem dX1_findPairs_10 : decode cX1_findPairs 10 = .ok (.iconst 1, 1) := dk_4 (dk_at dksX1_findPairs_0 10 rfl rfl)
theorem dX1_findPairs_11 : decode cX1_findPairs 11 = .ok (.aload_n 0, 1) := dk_42 (dk_at dksX1_findPairs_0 11 rfl rfl)
theorem dX1_findPairs_12 : decode cX1_findPairs 12 = .ok (.getfield 109, 3) := dk_180 0 109 (dk_at dksX1_findPairs_0 12 rfl rfl)
theorem dX1_findPairs_15 : decode cX1_findPairs 15 = .ok (.getfield 70, 3) := dk_180 0 70 (dk_at dksX1_findPairs_0 15 rfl rfl)
theorem dX1_findPairs_18 : decode cX1_findPairs 18 = .ok (.ishl, 1) := dk_120 (dk_at dksX1_findPairs_0 18 rfl rfl)
theorem dX1_findPairs_19 : decode cX1_findPairs 19 = .ok (.if_icmp .ge 151, 3) := dk_162 0 151 (dk_at dksX1_findPairs_0 19 rfl rfl)
theorem dX1_findPairs_22 : decode cX1_findPairs 22 = .ok (.iload_n 2, 1) := dk_28 (dk_at dksX1_findPairs_0 22 rfl rfl)
theorem dX1_findPairs_23 : decode cX1_findPairs 23 = .ok (.invokestatic 210, 3) := dk_184 0 210 (dk_at dksX1_findPairs_1 0 rfl rfl)
theorem dX1_findPairs_26 : decode cX1_findPairs 26 = .ok (.istore_n 3, 1) := dk_62 (dk_at dksX1_findPairs_1 3 rfl rfl)
theorem dX1_findPairs_27 : decode cX1_findPairs 27 = .ok (.iload_n 2, 1) := dk_28 (dk_at dksX1_findPairs_1 4 rfl rfl)
theorem dX1_findPairs_28 : decode cX1_findPairs 28 = .ok (.ifCond .ne 7, 3) := dk_154 0 7 (dk_at dksX1_findPairs_1 5 rfl rfl)
theorem dX1_findPairs_31 : decode cX1_findPairs 31 = .ok (.iconst 0, 1) := dk_3 (dk_at dksX1_findPairs_1 8 rfl rfl)
theorem dX1_findPairs_32 : decode cX1_findPairs 32 = .ok (.goto 19, 3) := dk_167 0 19 (dk_at dksX1_findPairs_1 9 rfl rfl)
theorem dX1_findPairs_35 : decode cX1_findPairs 35 = .ok (.aload_n 0, 1) := dk_42 (dk_at dksX1_findPairs_1 12 rfl rfl)
theorem dX1_findPairs_36 : decode cX1_findPairs 36 = .ok (.getfield 203, 3) := dk_180 0 203 (dk_at dksX1_findPairs_1 13 rfl rfl)
theorem dX1_findPairs_39 : decode cX1_findPairs 39 = .ok (.sipush 256, 3) := dk_17 1 0 (dk_at dksX1_findPairs_1 16 rfl rfl)
theorem dX1_findPairs_42 : decode cX1_findPairs 42 = .ok (.iload_n 1, 1) := dk_27 (dk_at dksX1_findPairs_1 19 rfl rfl)
theorem dX1_findPairs_43 : decode cX1_findPairs 43 = .ok (.imul, 1) := dk_104 (dk_at dksX1_findPairs_1 20 rfl rfl)
theorem dX1_findPairs_44 : decode cX1_findPairs 44 = .ok (.iload_n 2, 1) := dk_28 (dk_at dksX1_findPairs_1 21 rfl rfl)
theorem dX1_findPairs_45 : decode cX1_findPairs 45 = .ok (.iload_n 2, 1) := dk_28 (dk_at dksX1_findPairs_1 22 rfl rfl)
theorem dX1_findPairs_46 : decode cX1_findPairs 46 = .ok (.iconst 1, 1) := dk_4 (dk_at dksX1_findPairs_1 23 rfl rfl)
theorem dX1_findPairs_47 : decode cX1_findPairs 47 = .ok (.isub, 1) := dk_100 (dk_at dksX1_findPairs_2 0 rfl rfl)
theorem dX1_findPairs_48 : decode cX1_findPairs 48 = .ok (.iand, 1) := dk_126 (dk_at dksX1_findPairs_2 1 rfl rfl)
theorem dX1_findPairs_49 : decode cX1_findPairs 49 = .ok (.iadd, 1) := dk_96 (dk_at dksX1_findPairs_2 2 rfl rfl)
theorem dX1_findPairs_50 : decode cX1_findPairs 50 = .ok (.iaload, 1) := dk_46 (dk_at dksX1_findPairs_2 3 rfl rfl)
theorem dX1_findPairs_51 : decode cX1_findPairs 51 = .ok (.istore 4, 2) := dk_54 4 (dk_at dksX1_findPairs_2 4 rfl rfl)
theorem dX1_findPairs_53 : decode cX1_findPairs 53 = .ok (.iload_n 3, 1) := dk_29 (dk_at dksX1_findPairs_2 6 rfl rfl)
theorem dX1_findPairs_54 : decode cX1_findPairs 54 = .ok (.iconst 1, 1) := dk_4 (dk_at dksX1_findPairs_2 7 rfl rfl)
theorem dX1_findPairs_55 : decode cX1_findPairs 55 = .ok (.iadd, 1) := dk_96 (dk_at dksX1_findPairs_2 8 rfl rfl)
theorem dX1_findPairs_56 : decode cX1_findPairs 56 = .ok (.istore 5, 2) := dk_54 5 (dk_at dksX1_findPairs_2 9 rfl rfl)
theorem dX1_findPairs_58 : decode cX1_findPairs 58 = .ok (.iload 5, 2) := dk_21 5 (dk_at dksX1_findPairs_2 11 rfl rfl)
theorem dX1_findPairs_60 : decode cX1_findPairs 60 = .ok (.aload_n 0, 1) := dk_42 (dk_at dksX1_findPairs_2 13 rfl rfl)
theorem dX1_findPairs_61 : decode cX1_findPairs 61 = .ok (.getfield 109, 3) := dk_180 0 109 (dk_at dksX1_findPairs_2 14 rfl rfl)
theorem dX1_findPairs_64 : decode cX1_findPairs 64 = .ok (.getfield 70, 3) := dk_180 0 70 (dk_at dksX1_findPairs_2 17 rfl rfl)
theorem dX1_findPairs_67 : decode cX1_findPairs 67 = .ok (.if_icmp .ge 83, 3) := dk_162 0 83 (dk_at dksX1_findPairs_2 20 rfl rfl)
theorem dX1_findPairs_70 : decode cX1_findPairs 70 = .ok (.iload_n 1, 1) := dk_27 (dk_at dksX1_findPairs_2 23 rfl rfl)
theorem dX1_findPairs_71 : decode cX1_findPairs 71 = .ok (.ifCond .le 79, 3) := dk_158 0 79 (dk_at dksX1_findPairs_3 0 rfl rfl)
theorem dX1_findPairs_74 : decode cX1_findPairs 74 = .ok (.iload_n 2, 1) := dk_28 (dk_at dksX1_findPairs_3 3 rfl rfl)
theorem dX1_findPairs_75 : decode cX1_findPairs 75 = .ok (.iload 5, 2) := dk_21 5 (dk_at dksX1_findPairs_3 4 rfl rfl)
theorem dX1_findPairs_77 : decode cX1_findPairs 77 = .ok (.invokestatic 215, 3) := dk_184 0 215 (dk_at dksX1_findPairs_3 6 rfl rfl)
theorem dX1_findPairs_80 : decode cX1_findPairs 80 = .ok (.ifCond .ne 6, 3) := dk_154 0 6 (dk_at dksX1_findPairs_3 9 rfl rfl)
theorem dX1_findPairs_83 : decode cX1_findPairs 83 = .ok (.goto 61, 3) := dk_167 0 61 (dk_at dksX1_findPairs_3 12 rfl rfl)
theorem dX1_findPairs_86 : decode cX1_findPairs 86 = .ok (.aload_n 0, 1) := dk_42 (dk_at dksX1_findPairs_3 15 rfl rfl)
theorem dX1_findPairs_87 : decode cX1_findPairs 87 = .ok (.getfield 109, 3) := dk_180 0 109 (dk_at dksX1_findPairs_3 16 rfl rfl)
theorem dX1_findPairs_90 : decode cX1_findPairs 90 = .ok (.iload_n 3, 1) := dk_29 (dk_at dksX1_findPairs_3 19 rfl rfl)
theorem dX1_findPairs_91 : decode cX1_findPairs 91 = .ok (.iload 5, 2) := dk_21 5 (dk_at dksX1_findPairs_3 20 rfl rfl)
theorem dX1_findPairs_93 : decode cX1_findPairs 93 = .ok (.invokevirtual 50, 3) := dk_182 0 50 (dk_at dksX1_findPairs_4 0 rfl rfl)
theorem dX1_findPairs_96 : decode cX1_findPairs 96 = .ok (.ifCond .eq 19, 3) := dk_153 0 19 (dk_at dksX1_findPairs_4 3 rfl rfl)
theorem dX1_findPairs_99 : decode cX1_findPairs 99 = .ok (.iload 4, 2) := dk_21 4 (dk_at dksX1_findPairs_4 6 rfl rfl)
theorem dX1_findPairs_101 : decode cX1_findPairs 101 = .ok (.aload_n 0, 1) := dk_42 (dk_at dksX1_findPairs_4 8 rfl rfl)
theorem dX1_findPairs_102 : decode cX1_findPairs 102 = .ok (.iload_n 1, 1) := dk_27 (dk_at dksX1_findPairs_4 9 rfl rfl)
theorem dX1_findPairs_103 : decode cX1_findPairs 103 = .ok (.iload_n 2, 1) := dk_28 (dk_at dksX1_findPairs_4 10 rfl rfl)
theorem dX1_findPairs_104 : decode cX1_findPairs 104 = .ok (.iload_n 3, 1) := dk_29 (dk_at dksX1_findPairs_4 11 rfl rfl)
theorem dX1_findPairs_105 : decode cX1_findPairs 105 = .ok (.iload 5, 2) := dk_21 5 (dk_at dksX1_findPairs_4 12 rfl rfl)
theorem dX1_findPairs_107 : decode cX1_findPairs 107 = .ok (.invokevirtual 218, 3) := dk_182 0 218 (dk_at dksX1_findPairs_4 14 rfl rfl)
theorem dX1_findPairs_110 : decode cX1_findPairs 110 = .ok (.invokestatic 198, 3) := dk_184 0 198 (dk_at dksX1_findPairs_4 17 rfl rfl)
theorem dX1_findPairs_113 : decode cX1_findPairs 113 = .ok (.istore 4, 2) := dk_54 4 (dk_at dksX1_findPairs_4 20 rfl rfl)
theorem dX1_findPairs_115 : decode cX1_findPairs 115 = .ok (.aload_n 0, 1) := dk_42 (dk_at dksX1_findPairs_4 22 rfl rfl)
theorem dX1_findPairs_116 : decode cX1_findPairs 116 = .ok (.getfield 109, 3) := dk_180 0 109 (dk_at dksX1_findPairs_5 0 rfl rfl)
theorem dX1_findPairs_119 : decode cX1_findPairs 119 = .ok (.iload 5, 2) := dk_21 5 (dk_at dksX1_findPairs_5 3 rfl rfl)
theorem dX1_findPairs_121 : decode cX1_findPairs 121 = .ok (.iload_n 3, 1) := dk_29 (dk_at dksX1_findPairs_5 5 rfl rfl)
theorem dX1_findPairs_122 : decode cX1_findPairs 122 = .ok (.invokevirtual 50, 3) := dk_182 0 50 (dk_at dksX1_findPairs_5 6 rfl rfl)
theorem dX1_findPairs_125 : decode cX1_findPairs 125 = .ok (.ifCond .eq 19, 3) := dk_153 0 19 (dk_at dksX1_findPairs_5 9 rfl rfl)
theorem dX1_findPairs_128 : decode cX1_findPairs 128 = .ok (.iload 4, 2) := dk_21 4 (dk_at dksX1_findPairs_5 12 rfl rfl)
theorem dX1_findPairs_130 : decode cX1_findPairs 130 = .ok (.aload_n 0, 1) := dk_42 (dk_at dksX1_findPairs_5 14 rfl rfl)
theorem dX1_findPairs_131 : decode cX1_findPairs 131 = .ok (.iload_n 1, 1) := dk_27 (dk_at dksX1_findPairs_5 15 rfl rfl)
theorem dX1_findPairs_132 : decode cX1_findPairs 132 = .ok (.iload_n 2, 1) := dk_28 (dk_at dksX1_findPairs_5 16 rfl rfl)
theorem dX1_findPairs_133 : decode cX1_findPairs 133 = .ok (.iload 5, 2) := dk_21 5 (dk_at dksX1_findPairs_5 17 rfl rfl)
theorem dX1_findPairs_135 : decode cX1_findPairs 135 = .ok (.iload_n 3, 1) := dk_29 (dk_at dksX1_findPairs_5 19 rfl rfl)
theorem dX1_findPairs_136 : decode cX1_findPairs 136 = .ok (.invokevirtual 218, 3) := dk_182 0 218 (dk_at dksX1_findPairs_5 20 rfl rfl)
theorem dX1_findPairs_139 : decode cX1_findPairs 139 = .ok (.invokestatic 198, 3) := dk_184 0 198 (dk_at dksX1_findPairs_6 0 rfl rfl)
theorem dX1_findPairs_142 : decode cX1_findPairs 142 = .ok (.istore 4, 2) := dk_54 4 (dk_at dksX1_findPairs_6 3 rfl rfl)
theorem dX1_findPairs_144 : decode cX1_findPairs 144 = .ok (.iinc 5 1, 3) := dk_132 5 1 (dk_at dksX1_findPairs_6 5 rfl rfl)
theorem dX1_findPairs_147 : decode cX1_findPairs 147 = .ok (.goto (-89), 3) := dk_167 255 167 (dk_at dksX1_findPairs_6 8 rfl rfl)
theorem dX1_findPairs_150 : decode cX1_findPairs 150 = .ok (.aload_n 0, 1) := dk_42 (dk_at dksX1_findPairs_6 11 rfl rfl)
theorem dX1_findPairs_151 : decode cX1_findPairs 151 = .ok (.getfield 203, 3) := dk_180 0 203 (dk_at dksX1_findPairs_6 12 rfl rfl)
theorem dX1_findPairs_154 : decode cX1_findPairs 154 = .ok (.sipush 256, 3) := dk_17 1 0 (dk_at dksX1_findPairs_6 15 rfl rfl)
theorem dX1_findPairs_157 : decode cX1_findPairs 157 = .ok (.iload_n 1, 1) := dk_27 (dk_at dksX1_findPairs_6 18 rfl rfl)
theorem dX1_findPairs_158 : decode cX1_findPairs 158 = .ok (.imul, 1) := dk_104 (dk_at dksX1_findPairs_6 19 rfl rfl)
theorem dX1_findPairs_159 : decode cX1_findPairs 159 = .ok (.iload_n 2, 1) := dk_28 (dk_at dksX1_findPairs_6 20 rfl rfl)
theorem dX1_findPairs_160 : decode cX1_findPairs 160 = .ok (.iadd, 1) := dk_96 (dk_at dksX1_findPairs_6 21 rfl rfl)
theorem dX1_findPairs_161 : decode cX1_findPairs 161 = .ok (.iload 4, 2) := dk_21 4 (dk_at dksX1_findPairs_6 22 rfl rfl)
theorem dX1_findPairs_163 : decode cX1_findPairs 163 = .ok (.iastore, 1) := dk_79 (dk_at dksX1_findPairs_7 0 rfl rfl)
theorem dX1_findPairs_164 : decode cX1_findPairs 164 = .ok (.iinc 2 1, 3) := dk_132 2 1 (dk_at dksX1_findPairs_7 1 rfl rfl)
theorem dX1_findPairs_167 : decode cX1_findPairs 167 = .ok (.goto (-158), 3) := dk_167 255 98 (dk_at dksX1_findPairs_7 4 rfl rfl)
theorem dX1_findPairs_170 : decode cX1_findPairs 170 = .ok (.iinc 1 1, 3) := dk_132 1 1 (dk_at dksX1_findPairs_7 7 rfl rfl)
theorem dX1_findPairs_173 : decode cX1_findPairs 173 = .ok (.goto (-171), 3) := dk_167 255 85 (dk_at dksX1_findPairs_7 10 rfl rfl)
theorem dX1_findPairs_176 : decode cX1_findPairs 176 = .ok (.return_, 1) := dk_177 (dk_at dksX1_findPairs_7 13 rfl rfl)
abbrev cX1_has : ByteArray := prog_1_method_2_code
def yX1_has : MethodName := ⟨RX1, "has", "(II)Z"⟩
def dkwX1_has_0 : List UInt8 := [26, 27, 122, 4, 126, 4, 160, 0, 7, 4, 167, 0, 4, 3, 172]
abbrev dktX1_has_0 : List UInt8 := dkwX1_has_0 ++ []
theorem dksX1_has_0 : cX1_has.data.toList.drop 0 = dktX1_has_0 := by decide +kernel
theorem dX1_has_0 : decode cX1_has 0 = .ok (.iload_n 0, 1) := dk_26 (dk_at dksX1_has_0 0 rfl rfl)
theorem dX1_has_1 : decode cX1_has 1 = .ok (.iload_n 1, 1) := dk_27 (dk_at dksX1_has_0 1 rfl rfl)
theorem dX1_has_2 : decode cX1_has 2 = .ok (.ishr, 1) := dk_122 (dk_at dksX1_has_0 2 rfl rfl)
theorem dX1_has_3 : decode cX1_has 3 = .ok (.iconst 1, 1) := dk_4 (dk_at dksX1_has_0 3 rfl rfl)
theorem dX1_has_4 : decode cX1_has 4 = .ok (.iand, 1) := dk_126 (dk_at dksX1_has_0 4 rfl rfl)
theorem dX1_has_5 : decode cX1_has 5 = .ok (.iconst 1, 1) := dk_4 (dk_at dksX1_has_0 5 rfl rfl)
theorem dX1_has_6 : decode cX1_has 6 = .ok (.if_icmp .ne 7, 3) := dk_160 0 7 (dk_at dksX1_has_0 6 rfl rfl)
theorem dX1_has_9 : decode cX1_has 9 = .ok (.iconst 1, 1) := dk_4 (dk_at dksX1_has_0 9 rfl rfl)
theorem dX1_has_10 : decode cX1_has 10 = .ok (.goto 4, 3) := dk_167 0 4 (dk_at dksX1_has_0 10 rfl rfl)
theorem dX1_has_13 : decode cX1_has 13 = .ok (.iconst 0, 1) := dk_3 (dk_at dksX1_has_0 13 rfl rfl)
theorem dX1_has_14 : decode cX1_has 14 = .ok (.ireturn, 1) := dk_172 (dk_at dksX1_has_0 14 rfl rfl)
abbrev cX1_pairValue : ByteArray := prog_1_method_24_code
def yX1_pairValue : MethodName := ⟨RX1, "pairValue", "(IIII)I"⟩
def dkwX1_pairValue_1 : List UInt8 := [21, 4, 184, 0, 206, 96, 46, 96, 172]
abbrev dktX1_pairValue_1 : List UInt8 := dkwX1_pairValue_1 ++ []
def dkwX1_pairValue_0 : List UInt8 := [42, 180, 0, 109, 29, 21, 4, 182, 0, 178, 42, 180, 0, 203, 17, 1, 0, 27, 4, 100, 104, 28, 29]
abbrev dktX1_pairValue_0 : List UInt8 := dkwX1_pairValue_0 ++ dktX1_pairValue_1
theorem dksX1_pairValue_0 : cX1_pairValue.data.toList.drop 0 = dktX1_pairValue_0 := by decide +kernel
theorem dksX1_pairValue_1 : cX1_pairValue.data.toList.drop 23 = dktX1_pairValue_1 := dk_seg dksX1_pairValue_0 23 rfl rfl
theorem dX1_pairValue_0 : decode cX1_pairValue 0 = .ok (.aload_n 0, 1) := dk_42 (dk_at dksX1_pairValue_0 0 rfl rfl)
theorem dX1_pairValue_1 : decode cX1_pairValue 1 = .ok (.getfield 109, 3) := dk_180 0 109 (dk_at dksX1_pairValue_0 1 rfl rfl)
theorem dX1_pairValue_4 : decode cX1_pairValue 4 = .ok (.iload_n 3, 1) := dk_29 (dk_at dksX1_pairValue_0 4 rfl rfl)
theorem dX1_pairValue_5 : decode cX1_pairValue 5 = .ok (.iload 4, 2) := dk_21 4 (dk_at dksX1_pairValue_0 5 rfl rfl)
theorem dX1_pairValue_7 : decode cX1_pairValue 7 = .ok (.invokevirtual 178, 3) := dk_182 0 178 (dk_at dksX1_pairValue_0 7 rfl rfl)
theorem dX1_pairValue_10 : decode cX1_pairValue 10 = .ok (.aload_n 0, 1) := dk_42 (dk_at dksX1_pairValue_0 10 rfl rfl)
theorem dX1_pairValue_11 : decode cX1_pairValue 11 = .ok (.getfield 203, 3) := dk_180 0 203 (dk_at dksX1_pairValue_0 11 rfl rfl)
theorem dX1_pairValue_14 : decode cX1_pairValue 14 = .ok (.sipush 256, 3) := dk_17 1 0 (dk_at dksX1_pairValue_0 14 rfl rfl)
theorem dX1_pairValue_17 : decode cX1_pairValue 17 = .ok (.iload_n 1, 1) := dk_27 (dk_at dksX1_pairValue_0 17 rfl rfl)
theorem dX1_pairValue_18 : decode cX1_pairValue 18 = .ok (.iconst 1, 1) := dk_4 (dk_at dksX1_pairValue_0 18 rfl rfl)
theorem dX1_pairValue_19 : decode cX1_pairValue 19 = .ok (.isub, 1) := dk_100 (dk_at dksX1_pairValue_0 19 rfl rfl)
theorem dX1_pairValue_20 : decode cX1_pairValue 20 = .ok (.imul, 1) := dk_104 (dk_at dksX1_pairValue_0 20 rfl rfl)
theorem dX1_pairValue_21 : decode cX1_pairValue 21 = .ok (.iload_n 2, 1) := dk_28 (dk_at dksX1_pairValue_0 21 rfl rfl)
theorem dX1_pairValue_22 : decode cX1_pairValue 22 = .ok (.iload_n 3, 1) := dk_29 (dk_at dksX1_pairValue_0 22 rfl rfl)
theorem dX1_pairValue_23 : decode cX1_pairValue 23 = .ok (.iload 4, 2) := dk_21 4 (dk_at dksX1_pairValue_1 0 rfl rfl)
theorem dX1_pairValue_25 : decode cX1_pairValue 25 = .ok (.invokestatic 206, 3) := dk_184 0 206 (dk_at dksX1_pairValue_1 2 rfl rfl)
theorem dX1_pairValue_28 : decode cX1_pairValue 28 = .ok (.iadd, 1) := dk_96 (dk_at dksX1_pairValue_1 5 rfl rfl)
theorem dX1_pairValue_29 : decode cX1_pairValue 29 = .ok (.iaload, 1) := dk_46 (dk_at dksX1_pairValue_1 6 rfl rfl)
theorem dX1_pairValue_30 : decode cX1_pairValue 30 = .ok (.iadd, 1) := dk_96 (dk_at dksX1_pairValue_1 7 rfl rfl)
theorem dX1_pairValue_31 : decode cX1_pairValue 31 = .ok (.ireturn, 1) := dk_172 (dk_at dksX1_pairValue_1 8 rfl rfl)
abbrev cX1_without : ByteArray := prog_1_method_23_code
def yX1_without : MethodName := ⟨RX1, "without", "(III)I"⟩
def dkwX1_without_0 : List UInt8 := [26, 4, 27, 120, 2, 130, 126, 4, 28, 120, 2, 130, 126, 172]
abbrev dktX1_without_0 : List UInt8 := dkwX1_without_0 ++ []
theorem dksX1_without_0 : cX1_without.data.toList.drop 0 = dktX1_without_0 := by decide +kernel
theorem dX1_without_0 : decode cX1_without 0 = .ok (.iload_n 0, 1) := dk_26 (dk_at dksX1_without_0 0 rfl rfl)
theorem dX1_without_1 : decode cX1_without 1 = .ok (.iconst 1, 1) := dk_4 (dk_at dksX1_without_0 1 rfl rfl)
theorem dX1_without_2 : decode cX1_without 2 = .ok (.iload_n 1, 1) := dk_27 (dk_at dksX1_without_0 2 rfl rfl)
theorem dX1_without_3 : decode cX1_without 3 = .ok (.ishl, 1) := dk_120 (dk_at dksX1_without_0 3 rfl rfl)
theorem dX1_without_4 : decode cX1_without 4 = .ok (.iconst (-1), 1) := dk_2 (dk_at dksX1_without_0 4 rfl rfl)
theorem dX1_without_5 : decode cX1_without 5 = .ok (.ixor, 1) := dk_130 (dk_at dksX1_without_0 5 rfl rfl)
theorem dX1_without_6 : decode cX1_without 6 = .ok (.iand, 1) := dk_126 (dk_at dksX1_without_0 6 rfl rfl)
theorem dX1_without_7 : decode cX1_without 7 = .ok (.iconst 1, 1) := dk_4 (dk_at dksX1_without_0 7 rfl rfl)
theorem dX1_without_8 : decode cX1_without 8 = .ok (.iload_n 2, 1) := dk_28 (dk_at dksX1_without_0 8 rfl rfl)
theorem dX1_without_9 : decode cX1_without 9 = .ok (.ishl, 1) := dk_120 (dk_at dksX1_without_0 9 rfl rfl)
theorem dX1_without_10 : decode cX1_without 10 = .ok (.iconst (-1), 1) := dk_2 (dk_at dksX1_without_0 10 rfl rfl)
theorem dX1_without_11 : decode cX1_without 11 = .ok (.ixor, 1) := dk_130 (dk_at dksX1_without_0 11 rfl rfl)
theorem dX1_without_12 : decode cX1_without 12 = .ok (.iand, 1) := dk_126 (dk_at dksX1_without_0 12 rfl rfl)
theorem dX1_without_13 : decode cX1_without 13 = .ok (.ireturn, 1) := dk_172 (dk_at dksX1_without_0 13 rfl rfl)
abbrev cX1_partner : ByteArray := prog_1_method_26_code
def yX1_partner : MethodName := ⟨RX1, "partner", "(IIIZ)I"⟩
def dkwX1_partner_5 : List UInt8 := [172, 132, 5, 1, 167, 255, 138, 16, 252, 172]
abbrev dktX1_partner_5 : List UInt8 := dkwX1_partner_5 ++ []
def dkwX1_partner_4 : List UInt8 := [28, 21, 5, 29, 182, 0, 218, 42, 180, 0, 203, 17, 1, 0, 27, 104, 28, 96, 46, 160, 0, 6, 21, 5]
abbrev dktX1_partner_4 : List UInt8 := dkwX1_partner_4 ++ dktX1_partner_5
def dkwX1_partner_3 : List UInt8 := [21, 6, 153, 0, 47, 21, 4, 153, 0, 15, 42, 27, 28, 29, 21, 5, 182, 0, 218, 167, 0, 12, 42, 27]
abbrev dktX1_partner_3 : List UInt8 := dkwX1_partner_3 ++ dktX1_partner_4
def dkwX1_partner_2 : List UInt8 := [167, 0, 16, 42, 180, 0, 109, 21, 5, 29, 182, 0, 50, 153, 0, 7, 4, 167, 0, 4, 3, 54, 6]
abbrev dktX1_partner_2 : List UInt8 := dkwX1_partner_2 ++ dktX1_partner_3
def dkwX1_partner_1 : List UInt8 := [184, 0, 215, 153, 0, 41, 21, 4, 153, 0, 19, 42, 180, 0, 109, 29, 21, 5, 182, 0, 50, 153, 0, 23]
abbrev dktX1_partner_1 : List UInt8 := dkwX1_partner_1 ++ dktX1_partner_2
def dkwX1_partner_0 : List UInt8 := [29, 4, 96, 54, 5, 21, 5, 42, 180, 0, 109, 180, 0, 70, 162, 0, 112, 27, 158, 0, 108, 28, 21, 5]
abbrev dktX1_partner_0 : List UInt8 := dkwX1_partner_0 ++ dktX1_partner_1
theorem dksX1_partner_0 : cX1_partner.data.toList.drop 0 = dktX1_partner_0 := by decide +kernel
theorem dksX1_partner_1 : cX1_partner.data.toList.drop 24 = dktX1_partner_1 := dk_seg dksX1_partner_0 24 rfl rfl
theorem dksX1_partner_2 : cX1_partner.data.toList.drop 48 = dktX1_partner_2 := dk_seg dksX1_partner_1 24 rfl rfl
theorem dksX1_partner_3 : cX1_partner.data.toList.drop 71 = dktX1_partner_3 := dk_seg dksX1_partner_2 23 rfl rfl
theorem dksX1_partner_4 : cX1_partner.data.toList.drop 95 = dktX1_partner_4 := dk_seg dksX1_partner_3 24 rfl rfl
theorem dksX1_partner_5 : cX1_partner.data.toList.drop 119 = dktX1_partner_5 := dk_seg dksX1_partner_4 24 rfl rfl
theorem dX1_partner_0 : decode cX1_partner 0 = .ok (.iload_n 3, 1) := dk_29 (dk_at dksX1_partner_0 0 rfl rfl)
theorem dX1_partner_1 : decode cX1_partner 1 = .ok (.iconst 1, 1) := dk_4 (dk_at dksX1_partner_0 1 rfl rfl)
theorem dX1_partner_2 : decode cX1_partner 2 = .ok (.iadd, 1) := dk_96 (dk_at dksX1_partner_0 2 rfl rfl)
theorem dX1_partner_3 : decode cX1_partner 3 = .ok (.istore 5, 2) := dk_54 5 (dk_at dksX1_partner_0 3 rfl rfl)
theorem dX1_partner_5 : decode cX1_partner 5 = .ok (.iload 5, 2) := dk_21 5 (dk_at dksX1_partner_0 5 rfl rfl)
theorem dX1_partner_7 : decode cX1_partner 7 = .ok (.aload_n 0, 1) := dk_42 (dk_at dksX1_partner_0 7 rfl rfl)
theorem dX1_partner_8 : decode cX1_partner 8 = .ok (.getfield 109, 3) := dk_180 0 109 (dk_at dksX1_partner_0 8 rfl rfl)
theorem dX1_partner_11 : decode cX1_partner 11 = .ok (.getfield 70, 3) := dk_180 0 70 (dk_at dksX1_partner_0 11 rfl rfl)
theorem dX1_partner_14 : decode cX1_partner 14 = .ok (.if_icmp .ge 112, 3) := dk_162 0 112 (dk_at dksX1_partner_0 14 rfl rfl)
theorem dX1_partner_17 : decode cX1_partner 17 = .ok (.iload_n 1, 1) := dk_27 (dk_at dksX1_partner_0 17 rfl rfl)
theorem dX1_partner_18 : decode cX1_partner 18 = .ok (.ifCond .le 108, 3) := dk_158 0 108 (dk_at dksX1_partner_0 18 rfl rfl)
theorem dX1_partner_21 : decode cX1_partner 21 = .ok (.iload_n 2, 1) := dk_28 (dk_at dksX1_partner_0 21 rfl rfl)
theorem dX1_partner_22 : decode cX1_partner 22 = .ok (.iload 5, 2) := dk_21 5 (dk_at dksX1_partner_0 22 rfl rfl)
theorem dX1_partner_24 : decode cX1_partner 24 = .ok (.invokestatic 215, 3) := dk_184 0 215 (dk_at dksX1_partner_1 0 rfl rfl)
theorem dX1_partner_27 : decode cX1_partner 27 = .ok (.ifCond .eq 41, 3) := dk_153 0 41 (dk_at dksX1_partner_1 3 rfl rfl)
theorem dX1_partner_30 : decode cX1_partner 30 = .ok (.iload 4, 2) := dk_21 4 (dk_at dksX1_partner_1 6 rfl rfl)
theorem dX1_partner_32 : decode cX1_partner 32 = .ok (.ifCond .eq 19, 3) := dk_153 0 19 (dk_at dksX1_partner_1 8 rfl rfl)
theorem dX1_partner_35 : decode cX1_partner 35 = .ok (.aload_n 0, 1) := dk_42 (dk_at dksX1_partner_1 11 rfl rfl)
theorem dX1_partner_36 : decode cX1_partner 36 = .ok (.getfield 109, 3) := dk_180 0 109 (dk_at dksX1_partner_1 12 rfl rfl)
theorem dX1_partner_39 : decode cX1_partner 39 = .ok (.iload_n 3, 1) := dk_29 (dk_at dksX1_partner_1 15 rfl rfl)
theorem dX1_partner_40 : decode cX1_partner 40 = .ok (.iload 5, 2) := dk_21 5 (dk_at dksX1_partner_1 16 rfl rfl)
theorem dX1_partner_42 : decode cX1_partner 42 = .ok (.invokevirtual 50, 3) := dk_182 0 50 (dk_at dksX1_partner_1 18 rfl rfl)
theorem dX1_partner_45 : decode cX1_partner 45 = .ok (.ifCond .eq 23, 3) := dk_153 0 23 (dk_at dksX1_partner_1 21 rfl rfl)
theorem dX1_partner_48 : decode cX1_partner 48 = .ok (.goto 16, 3) := dk_167 0 16 (dk_at dksX1_partner_2 0 rfl rfl)
theorem dX1_partner_51 : decode cX1_partner 51 = .ok (.aload_n 0, 1) := dk_42 (dk_at dksX1_partner_2 3 rfl rfl)
theorem dX1_partner_52 : decode cX1_partner 52 = .ok (.getfield 109, 3) := dk_180 0 109 (dk_at dksX1_partner_2 4 rfl rfl)
theorem dX1_partner_55 : decode cX1_partner 55 = .ok (.iload 5, 2) := dk_21 5 (dk_at dksX1_partner_2 7 rfl rfl)
theorem dX1_partner_57 : decode cX1_partner 57 = .ok (.iload_n 3, 1) := dk_29 (dk_at dksX1_partner_2 9 rfl rfl)
theorem dX1_partner_58 : decode cX1_partner 58 = .ok (.invokevirtual 50, 3) := dk_182 0 50 (dk_at dksX1_partner_2 10 rfl rfl)
theorem dX1_partner_61 : decode cX1_partner 61 = .ok (.ifCond .eq 7, 3) := dk_153 0 7 (dk_at dksX1_partner_2 13 rfl rfl)
theorem dX1_partner_64 : decode cX1_partner 64 = .ok (.iconst 1, 1) := dk_4 (dk_at dksX1_partner_2 16 rfl rfl)
theorem dX1_partner_65 : decode cX1_partner 65 = .ok (.goto 4, 3) := dk_167 0 4 (dk_at dksX1_partner_2 17 rfl rfl)
theorem dX1_partner_68 : decode cX1_partner 68 = .ok (.iconst 0, 1) := dk_3 (dk_at dksX1_partner_2 20 rfl rfl)
theorem dX1_partner_69 : decode cX1_partner 69 = .ok (.istore 6, 2) := dk_54 6 (dk_at dksX1_partner_2 21 rfl rfl)
theorem dX1_partner_71 : decode cX1_partner 71 = .ok (.iload 6, 2) := dk_21 6 (dk_at dksX1_partner_3 0 rfl rfl)
theorem dX1_partner_73 : decode cX1_partner 73 = .ok (.ifCond .eq 47, 3) := dk_153 0 47 (dk_at dksX1_partner_3 2 rfl rfl)
theorem dX1_partner_76 : decode cX1_partner 76 = .ok (.iload 4, 2) := dk_21 4 (dk_at dksX1_partner_3 5 rfl rfl)
theorem dX1_partner_78 : decode cX1_partner 78 = .ok (.ifCond .eq 15, 3) := dk_153 0 15 (dk_at dksX1_partner_3 7 rfl rfl)
theorem dX1_partner_81 : decode cX1_partner 81 = .ok (.aload_n 0, 1) := dk_42 (dk_at dksX1_partner_3 10 rfl rfl)
theorem dX1_partner_82 : decode cX1_partner 82 = .ok (.iload_n 1, 1) := dk_27 (dk_at dksX1_partner_3 11 rfl rfl)
theorem dX1_partner_83 : decode cX1_partner 83 = .ok (.iload_n 2, 1) := dk_28 (dk_at dksX1_partner_3 12 rfl rfl)
theorem dX1_partner_84 : decode cX1_partner 84 = .ok (.iload_n 3, 1) := dk_29 (dk_at dksX1_partner_3 13 rfl rfl)
theorem dX1_partner_85 : decode cX1_partner 85 = .ok (.iload 5, 2) := dk_21 5 (dk_at dksX1_partner_3 14 rfl rfl)
theorem dX1_partner_87 : decode cX1_partner 87 = .ok (.invokevirtual 218, 3) := dk_182 0 218 (dk_at dksX1_partner_3 16 rfl rfl)
theorem dX1_partner_90 : decode cX1_partner 90 = .ok (.goto 12, 3) := dk_167 0 12 (dk_at dksX1_partner_3 19 rfl rfl)
theorem dX1_partner_93 : decode cX1_partner 93 = .ok (.aload_n 0, 1) := dk_42 (dk_at dksX1_partner_3 22 rfl rfl)
theorem dX1_partner_94 : decode cX1_partner 94 = .ok (.iload_n 1, 1) := dk_27 (dk_at dksX1_partner_3 23 rfl rfl)
theorem dX1_partner_95 : decode cX1_partner 95 = .ok (.iload_n 2, 1) := dk_28 (dk_at dksX1_partner_4 0 rfl rfl)
theorem dX1_partner_96 : decode cX1_partner 96 = .ok (.iload 5, 2) := dk_21 5 (dk_at dksX1_partner_4 1 rfl rfl)
theorem dX1_partner_98 : decode cX1_partner 98 = .ok (.iload_n 3, 1) := dk_29 (dk_at dksX1_partner_4 3 rfl rfl)
theorem dX1_partner_99 : decode cX1_partner 99 = .ok (.invokevirtual 218, 3) := dk_182 0 218 (dk_at dksX1_partner_4 4 rfl rfl)
theorem dX1_partner_102 : decode cX1_partner 102 = .ok (.aload_n 0, 1) := dk_42 (dk_at dksX1_partner_4 7 rfl rfl)
theorem dX1_partner_103 : decode cX1_partner 103 = .ok (.getfield 203, 3) := dk_180 0 203 (dk_at dksX1_partner_4 8 rfl rfl)
theorem dX1_partner_106 : decode cX1_partner 106 = .ok (.sipush 256, 3) := dk_17 1 0 (dk_at dksX1_partner_4 11 rfl rfl)
theorem dX1_partner_109 : decode cX1_partner 109 = .ok (.iload_n 1, 1) := dk_27 (dk_at dksX1_partner_4 14 rfl rfl)
theorem dX1_partner_110 : decode cX1_partner 110 = .ok (.imul, 1) := dk_104 (dk_at dksX1_partner_4 15 rfl rfl)
theorem dX1_partner_111 : decode cX1_partner 111 = .ok (.iload_n 2, 1) := dk_28 (dk_at dksX1_partner_4 16 rfl rfl)
theorem dX1_partner_112 : decode cX1_partner 112 = .ok (.iadd, 1) := dk_96 (dk_at dksX1_partner_4 17 rfl rfl)
theorem dX1_partner_113 : decode cX1_partner 113 = .ok (.iaload, 1) := dk_46 (dk_at dksX1_partner_4 18 rfl rfl)
theorem dX1_partner_114 : decode cX1_partner 114 = .ok (.if_icmp .ne 6, 3) := dk_160 0 6 (dk_at dksX1_partner_4 19 rfl rfl)
theorem dX1_partner_117 : decode cX1_partner 117 = .ok (.iload 5, 2) := dk_21 5 (dk_at dksX1_partner_4 22 rfl rfl)
theorem dX1_partner_119 : decode cX1_partner 119 = .ok (.ireturn, 1) := dk_172 (dk_at dksX1_partner_5 0 rfl rfl)
theorem dX1_partner_120 : decode cX1_partner 120 = .ok (.iinc 5 1, 3) := dk_132 5 1 (dk_at dksX1_partner_5 1 rfl rfl)
theorem dX1_partner_123 : decode cX1_partner 123 = .ok (.goto (-118), 3) := dk_167 255 138 (dk_at dksX1_partner_5 4 rfl rfl)
theorem dX1_partner_126 : decode cX1_partner 126 = .ok (.bipush (-4), 2) := dk_16 252 (dk_at dksX1_partner_5 7 rfl rfl)
theorem dX1_partner_128 : decode cX1_partner 128 = .ok (.ireturn, 1) := dk_172 (dk_at dksX1_partner_5 9 rfl rfl)
abbrev cX1_greedily : ByteArray := prog_1_method_28_code
def yX1_greedily : MethodName := ⟨RX1, "greedily", "(II)I"⟩
def dkwX1_greedily_3 : List UInt8 := [182, 0, 88, 96, 62, 132, 4, 1, 167, 255, 210, 28, 154, 0, 7, 29, 167, 0, 5, 21, 4, 172]
abbrev dktX1_greedily_3 : List UInt8 := dkwX1_greedily_3 ++ []
def dkwX1_greedily_2 : List UInt8 := [21, 5, 156, 0, 6, 167, 0, 29, 29, 42, 180, 0, 66, 21, 5, 16, 10, 108, 21, 5, 16, 10, 112]
abbrev dktX1_greedily_2 : List UInt8 := dkwX1_greedily_2 ++ dktX1_greedily_3
def dkwX1_greedily_1 : List UInt8 := [182, 0, 194, 3, 62, 3, 54, 4, 21, 4, 27, 162, 0, 46, 42, 180, 0, 66, 182, 0, 188, 54, 5]
abbrev dktX1_greedily_1 : List UInt8 := dkwX1_greedily_1 ++ dktX1_greedily_2
def dkwX1_greedily_0 : List UInt8 := [27, 3, 16, 30, 184, 0, 30, 153, 0, 12, 28, 3, 4, 184, 0, 30, 154, 0, 5, 2, 172, 42]
abbrev dktX1_greedily_0 : List UInt8 := dkwX1_greedily_0 ++ dktX1_greedily_1
theorem dksX1_greedily_0 : cX1_greedily.data.toList.drop 0 = dktX1_greedily_0 := by decide +kernel
theorem dksX1_greedily_1 : cX1_greedily.data.toList.drop 22 = dktX1_greedily_1 := dk_seg dksX1_greedily_0 22 rfl rfl
theorem dksX1_greedily_2 : cX1_greedily.data.toList.drop 45 = dktX1_greedily_2 := dk_seg dksX1_greedily_1 23 rfl rfl
theorem dksX1_greedily_3 : cX1_greedily.data.toList.drop 68 = dktX1_greedily_3 := dk_seg dksX1_greedily_2 23 rfl rfl
theorem dX1_greedily_0 : decode cX1_greedily 0 = .ok (.iload_n 1, 1) := dk_27 (dk_at dksX1_greedily_0 0 rfl rfl)
theorem dX1_greedily_1 : decode cX1_greedily 1 = .ok (.iconst 0, 1) := dk_3 (dk_at dksX1_greedily_0 1 rfl rfl)
theorem dX1_greedily_2 : decode cX1_greedily 2 = .ok (.bipush 30, 2) := dk_16 30 (dk_at dksX1_greedily_0 2 rfl rfl)
theorem dX1_greedily_4 : decode cX1_greedily 4 = .ok (.invokestatic 30, 3) := dk_184 0 30 (dk_at dksX1_greedily_0 4 rfl rfl)
theorem dX1_greedily_7 : decode cX1_greedily 7 = .ok (.ifCond .eq 12, 3) := dk_153 0 12 (dk_at dksX1_greedily_0 7 rfl rfl)
theorem dX1_greedily_10 : decode cX1_greedily 10 = .ok (.iload_n 2, 1) := dk_28 (dk_at dksX1_greedily_0 10 rfl rfl)
theorem dX1_greedily_11 : decode cX1_greedily 11 = .ok (.iconst 0, 1) := dk_3 (dk_at dksX1_greedily_0 11 rfl rfl)
theorem dX1_greedily_12 : decode cX1_greedily 12 = .ok (.iconst 1, 1) := dk_4 (dk_at dksX1_greedily_0 12 rfl rfl)
theorem dX1_greedily_13 : decode cX1_greedily 13 = .ok (.invokestatic 30, 3) := dk_184 0 30 (dk_at dksX1_greedily_0 13 rfl rfl)
theorem dX1_greedily_16 : decode cX1_greedily 16 = .ok (.ifCond .ne 5, 3) := dk_154 0 5 (dk_at dksX1_greedily_0 16 rfl rfl)
theorem dX1_greedily_19 : decode cX1_greedily 19 = .ok (.iconst (-1), 1) := dk_2 (dk_at dksX1_greedily_0 19 rfl rfl)
theorem dX1_greedily_20 : decode cX1_greedily 20 = .ok (.ireturn, 1) := dk_172 (dk_at dksX1_greedily_0 20 rfl rfl)
theorem dX1_greedily_21 : decode cX1_greedily 21 = .ok (.aload_n 0, 1) := dk_42 (dk_at dksX1_greedily_0 21 rfl rfl)
theorem dX1_greedily_22 : decode cX1_greedily 22 = .ok (.invokevirtual 194, 3) := dk_182 0 194 (dk_at dksX1_greedily_1 0 rfl rfl)
theorem dX1_greedily_25 : decode cX1_greedily 25 = .ok (.iconst 0, 1) := dk_3 (dk_at dksX1_greedily_1 3 rfl rfl)
theorem dX1_greedily_26 : decode cX1_greedily 26 = .ok (.istore_n 3, 1) := dk_62 (dk_at dksX1_greedily_1 4 rfl rfl)
theorem dX1_greedily_27 : decode cX1_greedily 27 = .ok (.iconst 0, 1) := dk_3 (dk_at dksX1_greedily_1 5 rfl rfl)
theorem dX1_greedily_28 : decode cX1_greedily 28 = .ok (.istore 4, 2) := dk_54 4 (dk_at dksX1_greedily_1 6 rfl rfl)
theorem dX1_greedily_30 : decode cX1_greedily 30 = .ok (.iload 4, 2) := dk_21 4 (dk_at dksX1_greedily_1 8 rfl rfl)
theorem dX1_greedily_32 : decode cX1_greedily 32 = .ok (.iload_n 1, 1) := dk_27 (dk_at dksX1_greedily_1 10 rfl rfl)
theorem dX1_greedily_33 : decode cX1_greedily 33 = .ok (.if_icmp .ge 46, 3) := dk_162 0 46 (dk_at dksX1_greedily_1 11 rfl rfl)
theorem dX1_greedily_36 : decode cX1_greedily 36 = .ok (.aload_n 0, 1) := dk_42 (dk_at dksX1_greedily_1 14 rfl rfl)
theorem dX1_greedily_37 : decode cX1_greedily 37 = .ok (.getfield 66, 3) := dk_180 0 66 (dk_at dksX1_greedily_1 15 rfl rfl)
theorem dX1_greedily_40 : decode cX1_greedily 40 = .ok (.invokevirtual 188, 3) := dk_182 0 188 (dk_at dksX1_greedily_1 18 rfl rfl)
theorem dX1_greedily_43 : decode cX1_greedily 43 = .ok (.istore 5, 2) := dk_54 5 (dk_at dksX1_greedily_1 21 rfl rfl)
theorem dX1_greedily_45 : decode cX1_greedily 45 = .ok (.iload 5, 2) := dk_21 5 (dk_at dksX1_greedily_2 0 rfl rfl)
theorem dX1_greedily_47 : decode cX1_greedily 47 = .ok (.ifCond .ge 6, 3) := dk_156 0 6 (dk_at dksX1_greedily_2 2 rfl rfl)
theorem dX1_greedily_50 : decode cX1_greedily 50 = .ok (.goto 29, 3) := dk_167 0 29 (dk_at dksX1_greedily_2 5 rfl rfl)
theorem dX1_greedily_53 : decode cX1_greedily 53 = .ok (.iload_n 3, 1) := dk_29 (dk_at dksX1_greedily_2 8 rfl rfl)
theorem dX1_greedily_54 : decode cX1_greedily 54 = .ok (.aload_n 0, 1) := dk_42 (dk_at dksX1_greedily_2 9 rfl rfl)
theorem dX1_greedily_55 : decode cX1_greedily 55 = .ok (.getfield 66, 3) := dk_180 0 66 (dk_at dksX1_greedily_2 10 rfl rfl)
theorem dX1_greedily_58 : decode cX1_greedily 58 = .ok (.iload 5, 2) := dk_21 5 (dk_at dksX1_greedily_2 13 rfl rfl)
theorem dX1_greedily_60 : decode cX1_greedily 60 = .ok (.bipush 10, 2) := dk_16 10 (dk_at dksX1_greedily_2 15 rfl rfl)
theorem dX1_greedily_62 : decode cX1_greedily 62 = .ok (.idiv, 1) := dk_108 (dk_at dksX1_greedily_2 17 rfl rfl)
theorem dX1_greedily_63 : decode cX1_greedily 63 = .ok (.iload 5, 2) := dk_21 5 (dk_at dksX1_greedily_2 18 rfl rfl)
theorem dX1_greedily_65 : decode cX1_greedily 65 = .ok (.bipush 10, 2) := dk_16 10 (dk_at dksX1_greedily_2 20 rfl rfl)
theorem dX1_greedily_67 : decode cX1_greedily 67 = .ok (.irem, 1) := dk_112 (dk_at dksX1_greedily_2 22 rfl rfl)
theorem dX1_greedily_68 : decode cX1_greedily 68 = .ok (.invokevirtual 88, 3) := dk_182 0 88 (dk_at dksX1_greedily_3 0 rfl rfl)
theorem dX1_greedily_71 : decode cX1_greedily 71 = .ok (.iadd, 1) := dk_96 (dk_at dksX1_greedily_3 3 rfl rfl)
theorem dX1_greedily_72 : decode cX1_greedily 72 = .ok (.istore_n 3, 1) := dk_62 (dk_at dksX1_greedily_3 4 rfl rfl)
theorem dX1_greedily_73 : decode cX1_greedily 73 = .ok (.iinc 4 1, 3) := dk_132 4 1 (dk_at dksX1_greedily_3 5 rfl rfl)
theorem dX1_greedily_76 : decode cX1_greedily 76 = .ok (.goto (-46), 3) := dk_167 255 210 (dk_at dksX1_greedily_3 8 rfl rfl)
theorem dX1_greedily_79 : decode cX1_greedily 79 = .ok (.iload_n 2, 1) := dk_28 (dk_at dksX1_greedily_3 11 rfl rfl)
theorem dX1_greedily_80 : decode cX1_greedily 80 = .ok (.ifCond .ne 7, 3) := dk_154 0 7 (dk_at dksX1_greedily_3 12 rfl rfl)
theorem dX1_greedily_83 : decode cX1_greedily 83 = .ok (.iload_n 3, 1) := dk_29 (dk_at dksX1_greedily_3 15 rfl rfl)
theorem dX1_greedily_84 : decode cX1_greedily 84 = .ok (.goto 5, 3) := dk_167 0 5 (dk_at dksX1_greedily_3 16 rfl rfl)
theorem dX1_greedily_87 : decode cX1_greedily 87 = .ok (.iload 4, 2) := dk_21 4 (dk_at dksX1_greedily_3 19 rfl rfl)
theorem dX1_greedily_89 : decode cX1_greedily 89 = .ok (.ireturn, 1) := dk_172 (dk_at dksX1_greedily_3 21 rfl rfl)
abbrev cX1_atAll : ByteArray := prog_1_method_30_code
def yX1_atAll : MethodName := ⟨RX1, "atAll", "(I)I"⟩
def dkwX1_atAll_4 : List UInt8 := [96, 62, 132, 4, 1, 167, 255, 201, 29, 42, 180, 0, 109, 180, 0, 81, 184, 0, 225, 172]
abbrev dktX1_atAll_4 : List UInt8 := dkwX1_atAll_4 ++ []
def dkwX1_atAll_3 : List UInt8 := [21, 4, 46, 158, 0, 20, 42, 180, 0, 109, 180, 0, 160, 21, 4, 46, 154, 0, 7, 4, 167, 0, 4, 3]
abbrev dktX1_atAll_3 : List UInt8 := dkwX1_atAll_3 ++ dktX1_atAll_4
def dkwX1_atAll_2 : List UInt8 := [180, 0, 109, 180, 0, 70, 162, 0, 49, 29, 21, 4, 28, 159, 0, 33, 42, 180, 0, 109, 180, 0, 43]
abbrev dktX1_atAll_2 : List UInt8 := dkwX1_atAll_2 ++ dktX1_atAll_3
def dkwX1_atAll_1 : List UInt8 := [156, 0, 14, 27, 4, 160, 0, 7, 28, 167, 0, 4, 3, 172, 3, 62, 3, 54, 4, 21, 4, 42]
abbrev dktX1_atAll_1 : List UInt8 := dkwX1_atAll_1 ++ dktX1_atAll_2
def dkwX1_atAll_0 : List UInt8 := [27, 3, 4, 184, 0, 30, 154, 0, 5, 2, 172, 42, 182, 0, 244, 61, 27, 4, 159, 0, 7, 28]
abbrev dktX1_atAll_0 : List UInt8 := dkwX1_atAll_0 ++ dktX1_atAll_1
theorem dksX1_atAll_0 : cX1_atAll.data.toList.drop 0 = dktX1_atAll_0 := by decide +kernel
theorem dksX1_atAll_1 : cX1_atAll.data.toList.drop 22 = dktX1_atAll_1 := dk_seg dksX1_atAll_0 22 rfl rfl
theorem dksX1_atAll_2 : cX1_atAll.data.toList.drop 44 = dktX1_atAll_2 := dk_seg dksX1_atAll_1 22 rfl rfl
theorem dksX1_atAll_3 : cX1_atAll.data.toList.drop 67 = dktX1_atAll_3 := dk_seg dksX1_atAll_2 23 rfl rfl
theorem dksX1_atAll_4 : cX1_atAll.data.toList.drop 91 = dktX1_atAll_4 := dk_seg dksX1_atAll_3 24 rfl rfl
theorem dX1_atAll_0 : decode cX1_atAll 0 = .ok (.iload_n 1, 1) := dk_27 (dk_at dksX1_atAll_0 0 rfl rfl)
theorem dX1_atAll_1 : decode cX1_atAll 1 = .ok (.iconst 0, 1) := dk_3 (dk_at dksX1_atAll_0 1 rfl rfl)
theorem dX1_atAll_2 : decode cX1_atAll 2 = .ok (.iconst 1, 1) := dk_4 (dk_at dksX1_atAll_0 2 rfl rfl)
theorem dX1_atAll_3 : decode cX1_atAll 3 = .ok (.invokestatic 30, 3) := dk_184 0 30 (dk_at dksX1_atAll_0 3 rfl rfl)
theorem dX1_atAll_6 : decode cX1_atAll 6 = .ok (.ifCond .ne 5, 3) := dk_154 0 5 (dk_at dksX1_atAll_0 6 rfl rfl)
theorem dX1_atAll_9 : decode cX1_atAll 9 = .ok (.iconst (-1), 1) := dk_2 (dk_at dksX1_atAll_0 9 rfl rfl)
theorem dX1_atAll_10 : decode cX1_atAll 10 = .ok (.ireturn, 1) := dk_172 (dk_at dksX1_atAll_0 10 rfl rfl)
theorem dX1_atAll_11 : decode cX1_atAll 11 = .ok (.aload_n 0, 1) := dk_42 (dk_at dksX1_atAll_0 11 rfl rfl)
theorem dX1_atAll_12 : decode cX1_atAll 12 = .ok (.invokevirtual 244, 3) := dk_182 0 244 (dk_at dksX1_atAll_0 12 rfl rfl)
theorem dX1_atAll_15 : decode cX1_atAll 15 = .ok (.istore_n 2, 1) := dk_61 (dk_at dksX1_atAll_0 15 rfl rfl)
theorem dX1_atAll_16 : decode cX1_atAll 16 = .ok (.iload_n 1, 1) := dk_27 (dk_at dksX1_atAll_0 16 rfl rfl)
theorem dX1_atAll_17 : decode cX1_atAll 17 = .ok (.iconst 1, 1) := dk_4 (dk_at dksX1_atAll_0 17 rfl rfl)
theorem dX1_atAll_18 : decode cX1_atAll 18 = .ok (.if_icmp .eq 7, 3) := dk_159 0 7 (dk_at dksX1_atAll_0 18 rfl rfl)
theorem dX1_atAll_21 : decode cX1_atAll 21 = .ok (.iload_n 2, 1) := dk_28 (dk_at dksX1_atAll_0 21 rfl rfl)
theorem dX1_atAll_22 : decode cX1_atAll 22 = .ok (.ifCond .ge 14, 3) := dk_156 0 14 (dk_at dksX1_atAll_1 0 rfl rfl)
theorem dX1_atAll_25 : decode cX1_atAll 25 = .ok (.iload_n 1, 1) := dk_27 (dk_at dksX1_atAll_1 3 rfl rfl)
theorem dX1_atAll_26 : decode cX1_atAll 26 = .ok (.iconst 1, 1) := dk_4 (dk_at dksX1_atAll_1 4 rfl rfl)
theorem dX1_atAll_27 : decode cX1_atAll 27 = .ok (.if_icmp .ne 7, 3) := dk_160 0 7 (dk_at dksX1_atAll_1 5 rfl rfl)
theorem dX1_atAll_30 : decode cX1_atAll 30 = .ok (.iload_n 2, 1) := dk_28 (dk_at dksX1_atAll_1 8 rfl rfl)
theorem dX1_atAll_31 : decode cX1_atAll 31 = .ok (.goto 4, 3) := dk_167 0 4 (dk_at dksX1_atAll_1 9 rfl rfl)
theorem dX1_atAll_34 : decode cX1_atAll 34 = .ok (.iconst 0, 1) := dk_3 (dk_at dksX1_atAll_1 12 rfl rfl)
theorem dX1_atAll_35 : decode cX1_atAll 35 = .ok (.ireturn, 1) := dk_172 (dk_at dksX1_atAll_1 13 rfl rfl)
theorem dX1_atAll_36 : decode cX1_atAll 36 = .ok (.iconst 0, 1) := dk_3 (dk_at dksX1_atAll_1 14 rfl rfl)
theorem dX1_atAll_37 : decode cX1_atAll 37 = .ok (.istore_n 3, 1) := dk_62 (dk_at dksX1_atAll_1 15 rfl rfl)
theorem dX1_atAll_38 : decode cX1_atAll 38 = .ok (.iconst 0, 1) := dk_3 (dk_at dksX1_atAll_1 16 rfl rfl)
theorem dX1_atAll_39 : decode cX1_atAll 39 = .ok (.istore 4, 2) := dk_54 4 (dk_at dksX1_atAll_1 17 rfl rfl)
theorem dX1_atAll_41 : decode cX1_atAll 41 = .ok (.iload 4, 2) := dk_21 4 (dk_at dksX1_atAll_1 19 rfl rfl)
theorem dX1_atAll_43 : decode cX1_atAll 43 = .ok (.aload_n 0, 1) := dk_42 (dk_at dksX1_atAll_1 21 rfl rfl)
theorem dX1_atAll_44 : decode cX1_atAll 44 = .ok (.getfield 109, 3) := dk_180 0 109 (dk_at dksX1_atAll_2 0 rfl rfl)
theorem dX1_atAll_47 : decode cX1_atAll 47 = .ok (.getfield 70, 3) := dk_180 0 70 (dk_at dksX1_atAll_2 3 rfl rfl)
theorem dX1_atAll_50 : decode cX1_atAll 50 = .ok (.if_icmp .ge 49, 3) := dk_162 0 49 (dk_at dksX1_atAll_2 6 rfl rfl)
theorem dX1_atAll_53 : decode cX1_atAll 53 = .ok (.iload_n 3, 1) := dk_29 (dk_at dksX1_atAll_2 9 rfl rfl)
theorem dX1_atAll_54 : decode cX1_atAll 54 = .ok (.iload 4, 2) := dk_21 4 (dk_at dksX1_atAll_2 10 rfl rfl)
theorem dX1_atAll_56 : decode cX1_atAll 56 = .ok (.iload_n 2, 1) := dk_28 (dk_at dksX1_atAll_2 12 rfl rfl)
theorem dX1_atAll_57 : decode cX1_atAll 57 = .ok (.if_icmp .eq 33, 3) := dk_159 0 33 (dk_at dksX1_atAll_2 13 rfl rfl)
theorem dX1_atAll_60 : decode cX1_atAll 60 = .ok (.aload_n 0, 1) := dk_42 (dk_at dksX1_atAll_2 16 rfl rfl)
theorem dX1_atAll_61 : decode cX1_atAll 61 = .ok (.getfield 109, 3) := dk_180 0 109 (dk_at dksX1_atAll_2 17 rfl rfl)
theorem dX1_atAll_64 : decode cX1_atAll 64 = .ok (.getfield 43, 3) := dk_180 0 43 (dk_at dksX1_atAll_2 20 rfl rfl)
theorem dX1_atAll_67 : decode cX1_atAll 67 = .ok (.iload 4, 2) := dk_21 4 (dk_at dksX1_atAll_3 0 rfl rfl)
theorem dX1_atAll_69 : decode cX1_atAll 69 = .ok (.iaload, 1) := dk_46 (dk_at dksX1_atAll_3 2 rfl rfl)
theorem dX1_atAll_70 : decode cX1_atAll 70 = .ok (.ifCond .le 20, 3) := dk_158 0 20 (dk_at dksX1_atAll_3 3 rfl rfl)
theorem dX1_atAll_73 : decode cX1_atAll 73 = .ok (.aload_n 0, 1) := dk_42 (dk_at dksX1_atAll_3 6 rfl rfl)
theorem dX1_atAll_74 : decode cX1_atAll 74 = .ok (.getfield 109, 3) := dk_180 0 109 (dk_at dksX1_atAll_3 7 rfl rfl)
theorem dX1_atAll_77 : decode cX1_atAll 77 = .ok (.getfield 160, 3) := dk_180 0 160 (dk_at dksX1_atAll_3 10 rfl rfl)
theorem dX1_atAll_80 : decode cX1_atAll 80 = .ok (.iload 4, 2) := dk_21 4 (dk_at dksX1_atAll_3 13 rfl rfl)
theorem dX1_atAll_82 : decode cX1_atAll 82 = .ok (.iaload, 1) := dk_46 (dk_at dksX1_atAll_3 15 rfl rfl)
theorem dX1_atAll_83 : decode cX1_atAll 83 = .ok (.ifCond .ne 7, 3) := dk_154 0 7 (dk_at dksX1_atAll_3 16 rfl rfl)
theorem dX1_atAll_86 : decode cX1_atAll 86 = .ok (.iconst 1, 1) := dk_4 (dk_at dksX1_atAll_3 19 rfl rfl)
theorem dX1_atAll_87 : decode cX1_atAll 87 = .ok (.goto 4, 3) := dk_167 0 4 (dk_at dksX1_atAll_3 20 rfl rfl)
theorem dX1_atAll_90 : decode cX1_atAll 90 = .ok (.iconst 0, 1) := dk_3 (dk_at dksX1_atAll_3 23 rfl rfl)
theorem dX1_atAll_91 : decode cX1_atAll 91 = .ok (.iadd, 1) := dk_96 (dk_at dksX1_atAll_4 0 rfl rfl)
theorem dX1_atAll_92 : decode cX1_atAll 92 = .ok (.istore_n 3, 1) := dk_62 (dk_at dksX1_atAll_4 1 rfl rfl)
theorem dX1_atAll_93 : decode cX1_atAll 93 = .ok (.iinc 4 1, 3) := dk_132 4 1 (dk_at dksX1_atAll_4 2 rfl rfl)
theorem dX1_atAll_96 : decode cX1_atAll 96 = .ok (.goto (-55), 3) := dk_167 255 201 (dk_at dksX1_atAll_4 5 rfl rfl)
theorem dX1_atAll_99 : decode cX1_atAll 99 = .ok (.iload_n 3, 1) := dk_29 (dk_at dksX1_atAll_4 8 rfl rfl)
theorem dX1_atAll_100 : decode cX1_atAll 100 = .ok (.aload_n 0, 1) := dk_42 (dk_at dksX1_atAll_4 9 rfl rfl)
theorem dX1_atAll_101 : decode cX1_atAll 101 = .ok (.getfield 109, 3) := dk_180 0 109 (dk_at dksX1_atAll_4 10 rfl rfl)
theorem dX1_atAll_104 : decode cX1_atAll 104 = .ok (.getfield 81, 3) := dk_180 0 81 (dk_at dksX1_atAll_4 13 rfl rfl)
theorem dX1_atAll_107 : decode cX1_atAll 107 = .ok (.invokestatic 225, 3) := dk_184 0 225 (dk_at dksX1_atAll_4 16 rfl rfl)
theorem dX1_atAll_110 : decode cX1_atAll 110 = .ok (.ireturn, 1) := dk_172 (dk_at dksX1_atAll_4 19 rfl rfl)
abbrev cX1_left : ByteArray := prog_1_method_29_code
def yX1_left : MethodName := ⟨RX1, "left", "()I"⟩
def dkwX1_left_2 : List UInt8 := [46, 162, 0, 5, 28, 60, 132, 2, 1, 167, 255, 204, 27, 172]
abbrev dktX1_left_2 : List UInt8 := dkwX1_left_2 ++ []
def dkwX1_left_1 : List UInt8 := [153, 0, 30, 27, 155, 0, 24, 42, 180, 0, 109, 180, 0, 43, 28, 46, 42, 180, 0, 109, 180, 0, 43, 27]
abbrev dktX1_left_1 : List UInt8 := dkwX1_left_1 ++ dktX1_left_2
def dkwX1_left_0 : List UInt8 := [16, 252, 60, 3, 61, 28, 42, 180, 0, 109, 180, 0, 70, 162, 0, 47, 42, 180, 0, 109, 28, 182, 0, 241]
abbrev dktX1_left_0 : List UInt8 := dkwX1_left_0 ++ dktX1_left_1
theorem dksX1_left_0 : cX1_left.data.toList.drop 0 = dktX1_left_0 := by decide +kernel
theorem dksX1_left_1 : cX1_left.data.toList.drop 24 = dktX1_left_1 := dk_seg dksX1_left_0 24 rfl rfl
theorem dksX1_left_2 : cX1_left.data.toList.drop 48 = dktX1_left_2 := dk_seg dksX1_left_1 24 rfl rfl
theorem dX1_left_0 : decode cX1_left 0 = .ok (.bipush (-4), 2) := dk_16 252 (dk_at dksX1_left_0 0 rfl rfl)
theorem dX1_left_2 : decode cX1_left 2 = .ok (.istore_n 1, 1) := dk_60 (dk_at dksX1_left_0 2 rfl rfl)
theorem dX1_left_3 : decode cX1_left 3 = .ok (.iconst 0, 1) := dk_3 (dk_at dksX1_left_0 3 rfl rfl)
theorem dX1_left_4 : decode cX1_left 4 = .ok (.istore_n 2, 1) := dk_61 (dk_at dksX1_left_0 4 rfl rfl)
theorem dX1_left_5 : decode cX1_left 5 = .ok (.iload_n 2, 1) := dk_28 (dk_at dksX1_left_0 5 rfl rfl)
theorem dX1_left_6 : decode cX1_left 6 = .ok (.aload_n 0, 1) := dk_42 (dk_at dksX1_left_0 6 rfl rfl)
theorem dX1_left_7 : decode cX1_left 7 = .ok (.getfield 109, 3) := dk_180 0 109 (dk_at dksX1_left_0 7 rfl rfl)
theorem dX1_left_10 : decode cX1_left 10 = .ok (.getfield 70, 3) := dk_180 0 70 (dk_at dksX1_left_0 10 rfl rfl)
theorem dX1_left_13 : decode cX1_left 13 = .ok (.if_icmp .ge 47, 3) := dk_162 0 47 (dk_at dksX1_left_0 13 rfl rfl)
theorem dX1_left_16 : decode cX1_left 16 = .ok (.aload_n 0, 1) := dk_42 (dk_at dksX1_left_0 16 rfl rfl)
theorem dX1_left_17 : decode cX1_left 17 = .ok (.getfield 109, 3) := dk_180 0 109 (dk_at dksX1_left_0 17 rfl rfl)
theorem dX1_left_20 : decode cX1_left 20 = .ok (.iload_n 2, 1) := dk_28 (dk_at dksX1_left_0 20 rfl rfl)
theorem dX1_left_21 : decode cX1_left 21 = .ok (.invokevirtual 241, 3) := dk_182 0 241 (dk_at dksX1_left_0 21 rfl rfl)
theorem dX1_left_24 : decode cX1_left 24 = .ok (.ifCond .eq 30, 3) := dk_153 0 30 (dk_at dksX1_left_1 0 rfl rfl)
theorem dX1_left_27 : decode cX1_left 27 = .ok (.iload_n 1, 1) := dk_27 (dk_at dksX1_left_1 3 rfl rfl)
theorem dX1_left_28 : decode cX1_left 28 = .ok (.ifCond .lt 24, 3) := dk_155 0 24 (dk_at dksX1_left_1 4 rfl rfl)
theorem dX1_left_31 : decode cX1_left 31 = .ok (.aload_n 0, 1) := dk_42 (dk_at dksX1_left_1 7 rfl rfl)
theorem dX1_left_32 : decode cX1_left 32 = .ok (.getfield 109, 3) := dk_180 0 109 (dk_at dksX1_left_1 8 rfl rfl)
theorem dX1_left_35 : decode cX1_left 35 = .ok (.getfield 43, 3) := dk_180 0 43 (dk_at dksX1_left_1 11 rfl rfl)
theorem dX1_left_38 : decode cX1_left 38 = .ok (.iload_n 2, 1) := dk_28 (dk_at dksX1_left_1 14 rfl rfl)
theorem dX1_left_39 : decode cX1_left 39 = .ok (.iaload, 1) := dk_46 (dk_at dksX1_left_1 15 rfl rfl)
theorem dX1_left_40 : decode cX1_left 40 = .ok (.aload_n 0, 1) := dk_42 (dk_at dksX1_left_1 16 rfl rfl)
theorem dX1_left_41 : decode cX1_left 41 = .ok (.getfield 109, 3) := dk_180 0 109 (dk_at dksX1_left_1 17 rfl rfl)
theorem dX1_left_44 : decode cX1_left 44 = .ok (.getfield 43, 3) := dk_180 0 43 (dk_at dksX1_left_1 20 rfl rfl)
theorem dX1_left_47 : decode cX1_left 47 = .ok (.iload_n 1, 1) := dk_27 (dk_at dksX1_left_1 23 rfl rfl)
theorem dX1_left_48 : decode cX1_left 48 = .ok (.iaload, 1) := dk_46 (dk_at dksX1_left_2 0 rfl rfl)
theorem dX1_left_49 : decode cX1_left 49 = .ok (.if_icmp .ge 5, 3) := dk_162 0 5 (dk_at dksX1_left_2 1 rfl rfl)
theorem dX1_left_52 : decode cX1_left 52 = .ok (.iload_n 2, 1) := dk_28 (dk_at dksX1_left_2 4 rfl rfl)
theorem dX1_left_53 : decode cX1_left 53 = .ok (.istore_n 1, 1) := dk_60 (dk_at dksX1_left_2 5 rfl rfl)
theorem dX1_left_54 : decode cX1_left 54 = .ok (.iinc 2 1, 3) := dk_132 2 1 (dk_at dksX1_left_2 6 rfl rfl)
theorem dX1_left_57 : decode cX1_left 57 = .ok (.goto (-52), 3) := dk_167 255 204 (dk_at dksX1_left_2 9 rfl rfl)
theorem dX1_left_60 : decode cX1_left 60 = .ok (.iload_n 1, 1) := dk_27 (dk_at dksX1_left_2 12 rfl rfl)
theorem dX1_left_61 : decode cX1_left 61 = .ok (.ireturn, 1) := dk_172 (dk_at dksX1_left_2 13 rfl rfl)
abbrev cX1_stuck : ByteArray := prog_1_method_31_code
def yX1_stuck : MethodName := ⟨RX1, "stuck", "()I"⟩
def dkwX1_stuck_2 : List UInt8 := [158, 0, 21, 27, 153, 0, 17, 42, 180, 0, 109, 182, 0, 188, 156, 0, 7, 4, 167, 0, 4, 3, 172]
abbrev dktX1_stuck_2 : List UInt8 := dkwX1_stuck_2 ++ []
def dkwX1_stuck_1 : List UInt8 := [46, 158, 0, 7, 4, 167, 0, 4, 3, 128, 60, 132, 2, 1, 167, 255, 222, 42, 180, 0, 109, 180, 0, 81]
abbrev dktX1_stuck_1 : List UInt8 := dkwX1_stuck_1 ++ dktX1_stuck_2
def dkwX1_stuck_0 : List UInt8 := [3, 60, 3, 61, 28, 42, 180, 0, 109, 180, 0, 70, 162, 0, 29, 27, 42, 180, 0, 109, 180, 0, 43, 28]
abbrev dktX1_stuck_0 : List UInt8 := dkwX1_stuck_0 ++ dktX1_stuck_1
theorem dksX1_stuck_0 : cX1_stuck.data.toList.drop 0 = dktX1_stuck_0 := by decide +kernel
theorem dksX1_stuck_1 : cX1_stuck.data.toList.drop 24 = dktX1_stuck_1 := dk_seg dksX1_stuck_0 24 rfl rfl
theorem dksX1_stuck_2 : cX1_stuck.data.toList.drop 48 = dktX1_stuck_2 := dk_seg dksX1_stuck_1 24 rfl rfl
theorem dX1_stuck_0 : decode cX1_stuck 0 = .ok (.iconst 0, 1) := dk_3 (dk_at dksX1_stuck_0 0 rfl rfl)
theorem dX1_stuck_1 : decode cX1_stuck 1 = .ok (.istore_n 1, 1) := dk_60 (dk_at dksX1_stuck_0 1 rfl rfl)
theorem dX1_stuck_2 : decode cX1_stuck 2 = .ok (.iconst 0, 1) := dk_3 (dk_at dksX1_stuck_0 2 rfl rfl)
theorem dX1_stuck_3 : decode cX1_stuck 3 = .ok (.istore_n 2, 1) := dk_61 (dk_at dksX1_stuck_0 3 rfl rfl)
theorem dX1_stuck_4 : decode cX1_stuck 4 = .ok (.iload_n 2, 1) := dk_28 (dk_at dksX1_stuck_0 4 rfl rfl)
theorem dX1_stuck_5 : decode cX1_stuck 5 = .ok (.aload_n 0, 1) := dk_42 (dk_at dksX1_stuck_0 5 rfl rfl)
theorem dX1_stuck_6 : decode cX1_stuck 6 = .ok (.getfield 109, 3) := dk_180 0 109 (dk_at dksX1_stuck_0 6 rfl rfl)
theorem dX1_stuck_9 : decode cX1_stuck 9 = .ok (.getfield 70, 3) := dk_180 0 70 (dk_at dksX1_stuck_0 9 rfl rfl)
theorem dX1_stuck_12 : decode cX1_stuck 12 = .ok (.if_icmp .ge 29, 3) := dk_162 0 29 (dk_at dksX1_stuck_0 12 rfl rfl)
theorem dX1_stuck_15 : decode cX1_stuck 15 = .ok (.iload_n 1, 1) := dk_27 (dk_at dksX1_stuck_0 15 rfl rfl)
theorem dX1_stuck_16 : decode cX1_stuck 16 = .ok (.aload_n 0, 1) := dk_42 (dk_at dksX1_stuck_0 16 rfl rfl)
theorem dX1_stuck_17 : decode cX1_stuck 17 = .ok (.getfield 109, 3) := dk_180 0 109 (dk_at dksX1_stuck_0 17 rfl rfl)
theorem dX1_stuck_20 : decode cX1_stuck 20 = .ok (.getfield 43, 3) := dk_180 0 43 (dk_at dksX1_stuck_0 20 rfl rfl)
theorem dX1_stuck_23 : decode cX1_stuck 23 = .ok (.iload_n 2, 1) := dk_28 (dk_at dksX1_stuck_0 23 rfl rfl)
theorem dX1_stuck_24 : decode cX1_stuck 24 = .ok (.iaload, 1) := dk_46 (dk_at dksX1_stuck_1 0 rfl rfl)
theorem dX1_stuck_25 : decode cX1_stuck 25 = .ok (.ifCond .le 7, 3) := dk_158 0 7 (dk_at dksX1_stuck_1 1 rfl rfl)
theorem dX1_stuck_28 : decode cX1_stuck 28 = .ok (.iconst 1, 1) := dk_4 (dk_at dksX1_stuck_1 4 rfl rfl)
theorem dX1_stuck_29 : decode cX1_stuck 29 = .ok (.goto 4, 3) := dk_167 0 4 (dk_at dksX1_stuck_1 5 rfl rfl)
theorem dX1_stuck_32 : decode cX1_stuck 32 = .ok (.iconst 0, 1) := dk_3 (dk_at dksX1_stuck_1 8 rfl rfl)
theorem dX1_stuck_33 : decode cX1_stuck 33 = .ok (.ior, 1) := dk_128 (dk_at dksX1_stuck_1 9 rfl rfl)
theorem dX1_stuck_34 : decode cX1_stuck 34 = .ok (.istore_n 1, 1) := dk_60 (dk_at dksX1_stuck_1 10 rfl rfl)
theorem dX1_stuck_35 : decode cX1_stuck 35 = .ok (.iinc 2 1, 3) := dk_132 2 1 (dk_at dksX1_stuck_1 11 rfl rfl)
theorem dX1_stuck_38 : decode cX1_stuck 38 = .ok (.goto (-34), 3) := dk_167 255 222 (dk_at dksX1_stuck_1 14 rfl rfl)
theorem dX1_stuck_41 : decode cX1_stuck 41 = .ok (.aload_n 0, 1) := dk_42 (dk_at dksX1_stuck_1 17 rfl rfl)
theorem dX1_stuck_42 : decode cX1_stuck 42 = .ok (.getfield 109, 3) := dk_180 0 109 (dk_at dksX1_stuck_1 18 rfl rfl)
theorem dX1_stuck_45 : decode cX1_stuck 45 = .ok (.getfield 81, 3) := dk_180 0 81 (dk_at dksX1_stuck_1 21 rfl rfl)
theorem dX1_stuck_48 : decode cX1_stuck 48 = .ok (.ifCond .le 21, 3) := dk_158 0 21 (dk_at dksX1_stuck_2 0 rfl rfl)
theorem dX1_stuck_51 : decode cX1_stuck 51 = .ok (.iload_n 1, 1) := dk_27 (dk_at dksX1_stuck_2 3 rfl rfl)
theorem dX1_stuck_52 : decode cX1_stuck 52 = .ok (.ifCond .eq 17, 3) := dk_153 0 17 (dk_at dksX1_stuck_2 4 rfl rfl)
theorem dX1_stuck_55 : decode cX1_stuck 55 = .ok (.aload_n 0, 1) := dk_42 (dk_at dksX1_stuck_2 7 rfl rfl)
theorem dX1_stuck_56 : decode cX1_stuck 56 = .ok (.getfield 109, 3) := dk_180 0 109 (dk_at dksX1_stuck_2 8 rfl rfl)
theorem dX1_stuck_59 : decode cX1_stuck 59 = .ok (.invokevirtual 188, 3) := dk_182 0 188 (dk_at dksX1_stuck_2 11 rfl rfl)
theorem dX1_stuck_62 : decode cX1_stuck 62 = .ok (.ifCond .ge 7, 3) := dk_156 0 7 (dk_at dksX1_stuck_2 14 rfl rfl)
theorem dX1_stuck_65 : decode cX1_stuck 65 = .ok (.iconst 1, 1) := dk_4 (dk_at dksX1_stuck_2 17 rfl rfl)
theorem dX1_stuck_66 : decode cX1_stuck 66 = .ok (.goto 4, 3) := dk_167 0 4 (dk_at dksX1_stuck_2 18 rfl rfl)
theorem dX1_stuck_69 : decode cX1_stuck 69 = .ok (.iconst 0, 1) := dk_3 (dk_at dksX1_stuck_2 21 rfl rfl)
theorem dX1_stuck_70 : decode cX1_stuck 70 = .ok (.ireturn, 1) := dk_172 (dk_at dksX1_stuck_2 22 rfl rfl)
abbrev cX1_bring : ByteArray := prog_1_method_32_code
def yX1_bring : MethodName := ⟨RX1, "bring", "(I)I"⟩
def dkwX1_bring_3 : List UInt8 := [167, 0, 9, 21, 4, 61, 21, 5, 62, 132, 4, 1, 167, 255, 201, 28, 172]
abbrev dktX1_bring_3 : List UInt8 := dkwX1_bring_3 ++ []
def dkwX1_bring_2 : List UInt8 := [3, 16, 9, 182, 0, 77, 87, 42, 180, 0, 66, 182, 0, 191, 54, 5, 21, 5, 29, 163, 0, 6]
abbrev dktX1_bring_2 : List UInt8 := dkwX1_bring_2 ++ dktX1_bring_3
def dkwX1_bring_1 : List UInt8 := [3, 54, 4, 21, 4, 16, 8, 162, 0, 54, 42, 182, 0, 194, 42, 180, 0, 66, 21, 4, 27, 184, 0, 73]
abbrev dktX1_bring_1 : List UInt8 := dkwX1_bring_1 ++ dktX1_bring_2
def dkwX1_bring_0 : List UInt8 := [27, 184, 0, 247, 154, 0, 5, 2, 172, 16, 252, 61, 3, 42, 180, 0, 109, 182, 0, 191, 184, 0, 198, 62]
abbrev dktX1_bring_0 : List UInt8 := dkwX1_bring_0 ++ dktX1_bring_1
theorem dksX1_bring_0 : cX1_bring.data.toList.drop 0 = dktX1_bring_0 := by decide +kernel
theorem dksX1_bring_1 : cX1_bring.data.toList.drop 24 = dktX1_bring_1 := dk_seg dksX1_bring_0 24 rfl rfl
theorem dksX1_bring_2 : cX1_bring.data.toList.drop 48 = dktX1_bring_2 := dk_seg dksX1_bring_1 24 rfl rfl
theorem dksX1_bring_3 : cX1_bring.data.toList.drop 70 = dktX1_bring_3 := dk_seg dksX1_bring_2 22 rfl rfl
theorem dX1_bring_0 : decode cX1_bring 0 = .ok (.iload_n 1, 1) := dk_27 (dk_at dksX1_bring_0 0 rfl rfl)
theorem dX1_bring_1 : decode cX1_bring 1 = .ok (.invokestatic 247, 3) := dk_184 0 247 (dk_at dksX1_bring_0 1 rfl rfl)
theorem dX1_bring_4 : decode cX1_bring 4 = .ok (.ifCond .ne 5, 3) := dk_154 0 5 (dk_at dksX1_bring_0 4 rfl rfl)
theorem dX1_bring_7 : decode cX1_bring 7 = .ok (.iconst (-1), 1) := dk_2 (dk_at dksX1_bring_0 7 rfl rfl)
theorem dX1_bring_8 : decode cX1_bring 8 = .ok (.ireturn, 1) := dk_172 (dk_at dksX1_bring_0 8 rfl rfl)
theorem dX1_bring_9 : decode cX1_bring 9 = .ok (.bipush (-4), 2) := dk_16 252 (dk_at dksX1_bring_0 9 rfl rfl)
theorem dX1_bring_11 : decode cX1_bring 11 = .ok (.istore_n 2, 1) := dk_61 (dk_at dksX1_bring_0 11 rfl rfl)
theorem dX1_bring_12 : decode cX1_bring 12 = .ok (.iconst 0, 1) := dk_3 (dk_at dksX1_bring_0 12 rfl rfl)
theorem dX1_bring_13 : decode cX1_bring 13 = .ok (.aload_n 0, 1) := dk_42 (dk_at dksX1_bring_0 13 rfl rfl)
theorem dX1_bring_14 : decode cX1_bring 14 = .ok (.getfield 109, 3) := dk_180 0 109 (dk_at dksX1_bring_0 14 rfl rfl)
theorem dX1_bring_17 : decode cX1_bring 17 = .ok (.invokevirtual 191, 3) := dk_182 0 191 (dk_at dksX1_bring_0 17 rfl rfl)
theorem dX1_bring_20 : decode cX1_bring 20 = .ok (.invokestatic 198, 3) := dk_184 0 198 (dk_at dksX1_bring_0 20 rfl rfl)
theorem dX1_bring_23 : decode cX1_bring 23 = .ok (.istore_n 3, 1) := dk_62 (dk_at dksX1_bring_0 23 rfl rfl)
theorem dX1_bring_24 : decode cX1_bring 24 = .ok (.iconst 0, 1) := dk_3 (dk_at dksX1_bring_1 0 rfl rfl)
theorem dX1_bring_25 : decode cX1_bring 25 = .ok (.istore 4, 2) := dk_54 4 (dk_at dksX1_bring_1 1 rfl rfl)
theorem dX1_bring_27 : decode cX1_bring 27 = .ok (.iload 4, 2) := dk_21 4 (dk_at dksX1_bring_1 3 rfl rfl)
theorem dX1_bring_29 : decode cX1_bring 29 = .ok (.bipush 8, 2) := dk_16 8 (dk_at dksX1_bring_1 5 rfl rfl)
theorem dX1_bring_31 : decode cX1_bring 31 = .ok (.if_icmp .ge 54, 3) := dk_162 0 54 (dk_at dksX1_bring_1 7 rfl rfl)
theorem dX1_bring_34 : decode cX1_bring 34 = .ok (.aload_n 0, 1) := dk_42 (dk_at dksX1_bring_1 10 rfl rfl)
theorem dX1_bring_35 : decode cX1_bring 35 = .ok (.invokevirtual 194, 3) := dk_182 0 194 (dk_at dksX1_bring_1 11 rfl rfl)
theorem dX1_bring_38 : decode cX1_bring 38 = .ok (.aload_n 0, 1) := dk_42 (dk_at dksX1_bring_1 14 rfl rfl)
theorem dX1_bring_39 : decode cX1_bring 39 = .ok (.getfield 66, 3) := dk_180 0 66 (dk_at dksX1_bring_1 15 rfl rfl)
theorem dX1_bring_42 : decode cX1_bring 42 = .ok (.iload 4, 2) := dk_21 4 (dk_at dksX1_bring_1 18 rfl rfl)
theorem dX1_bring_44 : decode cX1_bring 44 = .ok (.iload_n 1, 1) := dk_27 (dk_at dksX1_bring_1 20 rfl rfl)
theorem dX1_bring_45 : decode cX1_bring 45 = .ok (.invokestatic 73, 3) := dk_184 0 73 (dk_at dksX1_bring_1 21 rfl rfl)
theorem dX1_bring_48 : decode cX1_bring 48 = .ok (.iconst 0, 1) := dk_3 (dk_at dksX1_bring_2 0 rfl rfl)
theorem dX1_bring_49 : decode cX1_bring 49 = .ok (.bipush 9, 2) := dk_16 9 (dk_at dksX1_bring_2 1 rfl rfl)
theorem dX1_bring_51 : decode cX1_bring 51 = .ok (.invokevirtual 77, 3) := dk_182 0 77 (dk_at dksX1_bring_2 3 rfl rfl)
theorem dX1_bring_54 : decode cX1_bring 54 = .ok (.pop, 1) := dk_87 (dk_at dksX1_bring_2 6 rfl rfl)
theorem dX1_bring_55 : decode cX1_bring 55 = .ok (.aload_n 0, 1) := dk_42 (dk_at dksX1_bring_2 7 rfl rfl)
theorem dX1_bring_56 : decode cX1_bring 56 = .ok (.getfield 66, 3) := dk_180 0 66 (dk_at dksX1_bring_2 8 rfl rfl)
theorem dX1_bring_59 : decode cX1_bring 59 = .ok (.invokevirtual 191, 3) := dk_182 0 191 (dk_at dksX1_bring_2 11 rfl rfl)
theorem dX1_bring_62 : decode cX1_bring 62 = .ok (.istore 5, 2) := dk_54 5 (dk_at dksX1_bring_2 14 rfl rfl)
theorem dX1_bring_64 : decode cX1_bring 64 = .ok (.iload 5, 2) := dk_21 5 (dk_at dksX1_bring_2 16 rfl rfl)
theorem dX1_bring_66 : decode cX1_bring 66 = .ok (.iload_n 3, 1) := dk_29 (dk_at dksX1_bring_2 18 rfl rfl)
theorem dX1_bring_67 : decode cX1_bring 67 = .ok (.if_icmp .gt 6, 3) := dk_163 0 6 (dk_at dksX1_bring_2 19 rfl rfl)
theorem dX1_bring_70 : decode cX1_bring 70 = .ok (.goto 9, 3) := dk_167 0 9 (dk_at dksX1_bring_3 0 rfl rfl)
theorem dX1_bring_73 : decode cX1_bring 73 = .ok (.iload 4, 2) := dk_21 4 (dk_at dksX1_bring_3 3 rfl rfl)
theorem dX1_bring_75 : decode cX1_bring 75 = .ok (.istore_n 2, 1) := dk_61 (dk_at dksX1_bring_3 5 rfl rfl)
theorem dX1_bring_76 : decode cX1_bring 76 = .ok (.iload 5, 2) := dk_21 5 (dk_at dksX1_bring_3 6 rfl rfl)
theorem dX1_bring_78 : decode cX1_bring 78 = .ok (.istore_n 3, 1) := dk_62 (dk_at dksX1_bring_3 8 rfl rfl)
theorem dX1_bring_79 : decode cX1_bring 79 = .ok (.iinc 4 1, 3) := dk_132 4 1 (dk_at dksX1_bring_3 9 rfl rfl)
theorem dX1_bring_82 : decode cX1_bring 82 = .ok (.goto (-55), 3) := dk_167 255 201 (dk_at dksX1_bring_3 12 rfl rfl)
theorem dX1_bring_85 : decode cX1_bring 85 = .ok (.iload_n 2, 1) := dk_28 (dk_at dksX1_bring_3 15 rfl rfl)
theorem dX1_bring_86 : decode cX1_bring 86 = .ok (.ireturn, 1) := dk_172 (dk_at dksX1_bring_3 16 rfl rfl)
abbrev cX1_isNine : ByteArray := prog_1_method_5_code
def yX1_isNine : MethodName := ⟨RX1, "isNine", "(I)Z"⟩
def dkwX1_isNine_0 : List UInt8 := [26, 3, 16, 9, 184, 0, 30, 172]
abbrev dktX1_isNine_0 : List UInt8 := dkwX1_isNine_0 ++ []
theorem dksX1_isNine_0 : cX1_isNine.data.toList.drop 0 = dktX1_isNine_0 := by decide +kernel
theorem dX1_isNine_0 : decode cX1_isNine 0 = .ok (.iload_n 0, 1) := dk_26 (dk_at dksX1_isNine_0 0 rfl rfl)
theorem dX1_isNine_1 : decode cX1_isNine 1 = .ok (.iconst 0, 1) := dk_3 (dk_at dksX1_isNine_0 1 rfl rfl)
theorem dX1_isNine_2 : decode cX1_isNine 2 = .ok (.bipush 9, 2) := dk_16 9 (dk_at dksX1_isNine_0 2 rfl rfl)
theorem dX1_isNine_4 : decode cX1_isNine 4 = .ok (.invokestatic 30, 3) := dk_184 0 30 (dk_at dksX1_isNine_0 4 rfl rfl)
theorem dX1_isNine_7 : decode cX1_isNine 7 = .ok (.ireturn, 1) := dk_172 (dk_at dksX1_isNine_0 7 rfl rfl)
abbrev cX1_feeds : ByteArray := prog_1_method_33_code
def yX1_feeds : MethodName := ⟨RX1, "feeds", "(I)I"⟩
def dkwX1_feeds_1 : List UInt8 := [182, 0, 166, 61, 42, 180, 0, 109, 180, 0, 43, 27, 46, 28, 96, 4, 100, 28, 108, 172]
abbrev dktX1_feeds_1 : List UInt8 := dkwX1_feeds_1 ++ []
def dkwX1_feeds_0 : List UInt8 := [42, 180, 0, 109, 27, 182, 0, 34, 154, 0, 5, 2, 172, 42, 180, 0, 109, 180, 0, 149, 27, 50]
abbrev dktX1_feeds_0 : List UInt8 := dkwX1_feeds_0 ++ dktX1_feeds_1
theorem dksX1_feeds_0 : cX1_feeds.data.toList.drop 0 = dktX1_feeds_0 := by decide +kernel
theorem dksX1_feeds_1 : cX1_feeds.data.toList.drop 22 = dktX1_feeds_1 := dk_seg dksX1_feeds_0 22 rfl rfl
theorem dX1_feeds_0 : decode cX1_feeds 0 = .ok (.aload_n 0, 1) := dk_42 (dk_at dksX1_feeds_0 0 rfl rfl)
theorem dX1_feeds_1 : decode cX1_feeds 1 = .ok (.getfield 109, 3) := dk_180 0 109 (dk_at dksX1_feeds_0 1 rfl rfl)
theorem dX1_feeds_4 : decode cX1_feeds 4 = .ok (.iload_n 1, 1) := dk_27 (dk_at dksX1_feeds_0 4 rfl rfl)
theorem dX1_feeds_5 : decode cX1_feeds 5 = .ok (.invokevirtual 34, 3) := dk_182 0 34 (dk_at dksX1_feeds_0 5 rfl rfl)
theorem dX1_feeds_8 : decode cX1_feeds 8 = .ok (.ifCond .ne 5, 3) := dk_154 0 5 (dk_at dksX1_feeds_0 8 rfl rfl)
theorem dX1_feeds_11 : decode cX1_feeds 11 = .ok (.iconst (-1), 1) := dk_2 (dk_at dksX1_feeds_0 11 rfl rfl)
theorem dX1_feeds_12 : decode cX1_feeds 12 = .ok (.ireturn, 1) := dk_172 (dk_at dksX1_feeds_0 12 rfl rfl)
theorem dX1_feeds_13 : decode cX1_feeds 13 = .ok (.aload_n 0, 1) := dk_42 (dk_at dksX1_feeds_0 13 rfl rfl)
theorem dX1_feeds_14 : decode cX1_feeds 14 = .ok (.getfield 109, 3) := dk_180 0 109 (dk_at dksX1_feeds_0 14 rfl rfl)
theorem dX1_feeds_17 : decode cX1_feeds 17 = .ok (.getfield 149, 3) := dk_180 0 149 (dk_at dksX1_feeds_0 17 rfl rfl)
theorem dX1_feeds_20 : decode cX1_feeds 20 = .ok (.iload_n 1, 1) := dk_27 (dk_at dksX1_feeds_0 20 rfl rfl)
theorem dX1_feeds_21 : decode cX1_feeds 21 = .ok (.aaload, 1) := dk_50 (dk_at dksX1_feeds_0 21 rfl rfl)
theorem dX1_feeds_22 : decode cX1_feeds 22 = .ok (.invokevirtual 166, 3) := dk_182 0 166 (dk_at dksX1_feeds_1 0 rfl rfl)
theorem dX1_feeds_25 : decode cX1_feeds 25 = .ok (.istore_n 2, 1) := dk_61 (dk_at dksX1_feeds_1 3 rfl rfl)
theorem dX1_feeds_26 : decode cX1_feeds 26 = .ok (.aload_n 0, 1) := dk_42 (dk_at dksX1_feeds_1 4 rfl rfl)
theorem dX1_feeds_27 : decode cX1_feeds 27 = .ok (.getfield 109, 3) := dk_180 0 109 (dk_at dksX1_feeds_1 5 rfl rfl)
theorem dX1_feeds_30 : decode cX1_feeds 30 = .ok (.getfield 43, 3) := dk_180 0 43 (dk_at dksX1_feeds_1 8 rfl rfl)
theorem dX1_feeds_33 : decode cX1_feeds 33 = .ok (.iload_n 1, 1) := dk_27 (dk_at dksX1_feeds_1 11 rfl rfl)
theorem dX1_feeds_34 : decode cX1_feeds 34 = .ok (.iaload, 1) := dk_46 (dk_at dksX1_feeds_1 12 rfl rfl)
theorem dX1_feeds_35 : decode cX1_feeds 35 = .ok (.iload_n 2, 1) := dk_28 (dk_at dksX1_feeds_1 13 rfl rfl)
theorem dX1_feeds_36 : decode cX1_feeds 36 = .ok (.iadd, 1) := dk_96 (dk_at dksX1_feeds_1 14 rfl rfl)
theorem dX1_feeds_37 : decode cX1_feeds 37 = .ok (.iconst 1, 1) := dk_4 (dk_at dksX1_feeds_1 15 rfl rfl)
theorem dX1_feeds_38 : decode cX1_feeds 38 = .ok (.isub, 1) := dk_100 (dk_at dksX1_feeds_1 16 rfl rfl)
theorem dX1_feeds_39 : decode cX1_feeds 39 = .ok (.iload_n 2, 1) := dk_28 (dk_at dksX1_feeds_1 17 rfl rfl)
theorem dX1_feeds_40 : decode cX1_feeds 40 = .ok (.idiv, 1) := dk_108 (dk_at dksX1_feeds_1 18 rfl rfl)
theorem dX1_feeds_41 : decode cX1_feeds 41 = .ok (.ireturn, 1) := dk_172 (dk_at dksX1_feeds_1 19 rfl rfl)
abbrev cX1_prices : ByteArray := prog_1_method_36_code
def yX1_prices : MethodName := ⟨RX1, "prices", "(II)I"⟩
def dkwX1_prices_1 : List UInt8 := [154, 0, 11, 42, 27, 182, 0, 253, 167, 0, 8, 42, 27, 182, 1, 0, 172]
abbrev dktX1_prices_1 : List UInt8 := dkwX1_prices_1 ++ []
def dkwX1_prices_0 : List UInt8 := [27, 3, 16, 31, 184, 0, 30, 153, 0, 12, 28, 3, 4, 184, 0, 30, 154, 0, 5, 2, 172, 28]
abbrev dktX1_prices_0 : List UInt8 := dkwX1_prices_0 ++ dktX1_prices_1
theorem dksX1_prices_0 : cX1_prices.data.toList.drop 0 = dktX1_prices_0 := by decide +kernel
theorem dksX1_prices_1 : cX1_prices.data.toList.drop 22 = dktX1_prices_1 := dk_seg dksX1_prices_0 22 rfl rfl
theorem dX1_prices_0 : decode cX1_prices 0 = .ok (.iload_n 1, 1) := dk_27 (dk_at dksX1_prices_0 0 rfl rfl)
theorem dX1_prices_1 : decode cX1_prices 1 = .ok (.iconst 0, 1) := dk_3 (dk_at dksX1_prices_0 1 rfl rfl)
theorem dX1_prices_2 : decode cX1_prices 2 = .ok (.bipush 31, 2) := dk_16 31 (dk_at dksX1_prices_0 2 rfl rfl)
theorem dX1_prices_4 : decode cX1_prices 4 = .ok (.invokestatic 30, 3) := dk_184 0 30 (dk_at dksX1_prices_0 4 rfl rfl)
theorem dX1_prices_7 : decode cX1_prices 7 = .ok (.ifCond .eq 12, 3) := dk_153 0 12 (dk_at dksX1_prices_0 7 rfl rfl)
theorem dX1_prices_10 : decode cX1_prices 10 = .ok (.iload_n 2, 1) := dk_28 (dk_at dksX1_prices_0 10 rfl rfl)
theorem dX1_prices_11 : decode cX1_prices 11 = .ok (.iconst 0, 1) := dk_3 (dk_at dksX1_prices_0 11 rfl rfl)
theorem dX1_prices_12 : decode cX1_prices 12 = .ok (.iconst 1, 1) := dk_4 (dk_at dksX1_prices_0 12 rfl rfl)
theorem dX1_prices_13 : decode cX1_prices 13 = .ok (.invokestatic 30, 3) := dk_184 0 30 (dk_at dksX1_prices_0 13 rfl rfl)
theorem dX1_prices_16 : decode cX1_prices 16 = .ok (.ifCond .ne 5, 3) := dk_154 0 5 (dk_at dksX1_prices_0 16 rfl rfl)
theorem dX1_prices_19 : decode cX1_prices 19 = .ok (.iconst (-1), 1) := dk_2 (dk_at dksX1_prices_0 19 rfl rfl)
theorem dX1_prices_20 : decode cX1_prices 20 = .ok (.ireturn, 1) := dk_172 (dk_at dksX1_prices_0 20 rfl rfl)
theorem dX1_prices_21 : decode cX1_prices 21 = .ok (.iload_n 2, 1) := dk_28 (dk_at dksX1_prices_0 21 rfl rfl)
theorem dX1_prices_22 : decode cX1_prices 22 = .ok (.ifCond .ne 11, 3) := dk_154 0 11 (dk_at dksX1_prices_1 0 rfl rfl)
theorem dX1_prices_25 : decode cX1_prices 25 = .ok (.aload_n 0, 1) := dk_42 (dk_at dksX1_prices_1 3 rfl rfl)
theorem dX1_prices_26 : decode cX1_prices 26 = .ok (.iload_n 1, 1) := dk_27 (dk_at dksX1_prices_1 4 rfl rfl)
theorem dX1_prices_27 : decode cX1_prices 27 = .ok (.invokevirtual 253, 3) := dk_182 0 253 (dk_at dksX1_prices_1 5 rfl rfl)
theorem dX1_prices_30 : decode cX1_prices 30 = .ok (.goto 8, 3) := dk_167 0 8 (dk_at dksX1_prices_1 8 rfl rfl)
theorem dX1_prices_33 : decode cX1_prices 33 = .ok (.aload_n 0, 1) := dk_42 (dk_at dksX1_prices_1 11 rfl rfl)
theorem dX1_prices_34 : decode cX1_prices 34 = .ok (.iload_n 1, 1) := dk_27 (dk_at dksX1_prices_1 12 rfl rfl)
theorem dX1_prices_35 : decode cX1_prices 35 = .ok (.invokevirtual 256, 3) := dk_182 1 0 (dk_at dksX1_prices_1 13 rfl rfl)
theorem dX1_prices_38 : decode cX1_prices 38 = .ok (.ireturn, 1) := dk_172 (dk_at dksX1_prices_1 16 rfl rfl)
abbrev cX1_buy : ByteArray := prog_1_method_34_code
def yX1_buy : MethodName := ⟨RX1, "buy", "(I)I"⟩
def dkwX1_buy_2 : List UInt8 := [132, 3, 1, 167, 255, 210, 28, 172]
abbrev dktX1_buy_2 : List UInt8 := dkwX1_buy_2 ++ []
def dkwX1_buy_1 : List UInt8 := [46, 158, 0, 19, 42, 180, 0, 109, 29, 182, 0, 250, 27, 161, 0, 7, 4, 167, 0, 4, 3, 96, 61]
abbrev dktX1_buy_1 : List UInt8 := dkwX1_buy_1 ++ dktX1_buy_2
def dkwX1_buy_0 : List UInt8 := [3, 61, 3, 62, 29, 42, 180, 0, 109, 180, 0, 70, 162, 0, 41, 28, 42, 180, 0, 109, 180, 0, 43, 29]
abbrev dktX1_buy_0 : List UInt8 := dkwX1_buy_0 ++ dktX1_buy_1
theorem dksX1_buy_0 : cX1_buy.data.toList.drop 0 = dktX1_buy_0 := by decide +kernel
theorem dksX1_buy_1 : cX1_buy.data.toList.drop 24 = dktX1_buy_1 := dk_seg dksX1_buy_0 24 rfl rfl
theorem dksX1_buy_2 : cX1_buy.data.toList.drop 47 = dktX1_buy_2 := dk_seg dksX1_buy_1 23 rfl rfl
theorem dX1_buy_0 : decode cX1_buy 0 = .ok (.iconst 0, 1) := dk_3 (dk_at dksX1_buy_0 0 rfl rfl)
theorem dX1_buy_1 : decode cX1_buy 1 = .ok (.istore_n 2, 1) := dk_61 (dk_at dksX1_buy_0 1 rfl rfl)
theorem dX1_buy_2 : decode cX1_buy 2 = .ok (.iconst 0, 1) := dk_3 (dk_at dksX1_buy_0 2 rfl rfl)
theorem dX1_buy_3 : decode cX1_buy 3 = .ok (.istore_n 3, 1) := dk_62 (dk_at dksX1_buy_0 3 rfl rfl)
theorem dX1_buy_4 : decode cX1_buy 4 = .ok (.iload_n 3, 1) := dk_29 (dk_at dksX1_buy_0 4 rfl rfl)
theorem dX1_buy_5 : decode cX1_buy 5 = .ok (.aload_n 0, 1) := dk_42 (dk_at dksX1_buy_0 5 rfl rfl)
theorem dX1_buy_6 : decode cX1_buy 6 = .ok (.getfield 109, 3) := dk_180 0 109 (dk_at dksX1_buy_0 6 rfl rfl)
theorem dX1_buy_9 : decode cX1_buy 9 = .ok (.getfield 70, 3) := dk_180 0 70 (dk_at dksX1_buy_0 9 rfl rfl)
theorem dX1_buy_12 : decode cX1_buy 12 = .ok (.if_icmp .ge 41, 3) := dk_162 0 41 (dk_at dksX1_buy_0 12 rfl rfl)
theorem dX1_buy_15 : decode cX1_buy 15 = .ok (.iload_n 2, 1) := dk_28 (dk_at dksX1_buy_0 15 rfl rfl)
theorem dX1_buy_16 : decode cX1_buy 16 = .ok (.aload_n 0, 1) := dk_42 (dk_at dksX1_buy_0 16 rfl rfl)
theorem dX1_buy_17 : decode cX1_buy 17 = .ok (.getfield 109, 3) := dk_180 0 109 (dk_at dksX1_buy_0 17 rfl rfl)
theorem dX1_buy_20 : decode cX1_buy 20 = .ok (.getfield 43, 3) := dk_180 0 43 (dk_at dksX1_buy_0 20 rfl rfl)
theorem dX1_buy_23 : decode cX1_buy 23 = .ok (.iload_n 3, 1) := dk_29 (dk_at dksX1_buy_0 23 rfl rfl)
theorem dX1_buy_24 : decode cX1_buy 24 = .ok (.iaload, 1) := dk_46 (dk_at dksX1_buy_1 0 rfl rfl)
theorem dX1_buy_25 : decode cX1_buy 25 = .ok (.ifCond .le 19, 3) := dk_158 0 19 (dk_at dksX1_buy_1 1 rfl rfl)
theorem dX1_buy_28 : decode cX1_buy 28 = .ok (.aload_n 0, 1) := dk_42 (dk_at dksX1_buy_1 4 rfl rfl)
theorem dX1_buy_29 : decode cX1_buy 29 = .ok (.getfield 109, 3) := dk_180 0 109 (dk_at dksX1_buy_1 5 rfl rfl)
theorem dX1_buy_32 : decode cX1_buy 32 = .ok (.iload_n 3, 1) := dk_29 (dk_at dksX1_buy_1 8 rfl rfl)
theorem dX1_buy_33 : decode cX1_buy 33 = .ok (.invokevirtual 250, 3) := dk_182 0 250 (dk_at dksX1_buy_1 9 rfl rfl)
theorem dX1_buy_36 : decode cX1_buy 36 = .ok (.iload_n 1, 1) := dk_27 (dk_at dksX1_buy_1 12 rfl rfl)
theorem dX1_buy_37 : decode cX1_buy 37 = .ok (.if_icmp .lt 7, 3) := dk_161 0 7 (dk_at dksX1_buy_1 13 rfl rfl)
theorem dX1_buy_40 : decode cX1_buy 40 = .ok (.iconst 1, 1) := dk_4 (dk_at dksX1_buy_1 16 rfl rfl)
theorem dX1_buy_41 : decode cX1_buy 41 = .ok (.goto 4, 3) := dk_167 0 4 (dk_at dksX1_buy_1 17 rfl rfl)
theorem dX1_buy_44 : decode cX1_buy 44 = .ok (.iconst 0, 1) := dk_3 (dk_at dksX1_buy_1 20 rfl rfl)
theorem dX1_buy_45 : decode cX1_buy 45 = .ok (.iadd, 1) := dk_96 (dk_at dksX1_buy_1 21 rfl rfl)
theorem dX1_buy_46 : decode cX1_buy 46 = .ok (.istore_n 2, 1) := dk_61 (dk_at dksX1_buy_1 22 rfl rfl)
theorem dX1_buy_47 : decode cX1_buy 47 = .ok (.iinc 3 1, 3) := dk_132 3 1 (dk_at dksX1_buy_2 0 rfl rfl)
theorem dX1_buy_50 : decode cX1_buy 50 = .ok (.goto (-46), 3) := dk_167 255 210 (dk_at dksX1_buy_2 3 rfl rfl)
theorem dX1_buy_53 : decode cX1_buy 53 = .ok (.iload_n 2, 1) := dk_28 (dk_at dksX1_buy_2 6 rfl rfl)
theorem dX1_buy_54 : decode cX1_buy 54 = .ok (.ireturn, 1) := dk_172 (dk_at dksX1_buy_2 7 rfl rfl)
abbrev cX1_sell : ByteArray := prog_1_method_35_code
def yX1_sell : MethodName := ⟨RX1, "sell", "(I)I"⟩
def dkwX1_sell_2 : List UInt8 := [132, 3, 1, 167, 255, 211, 28, 172]
abbrev dktX1_sell_2 : List UInt8 := dkwX1_sell_2 ++ []
def dkwX1_sell_1 : List UInt8 := [153, 0, 19, 42, 180, 0, 109, 29, 182, 0, 184, 27, 162, 0, 7, 4, 167, 0, 4, 3, 96, 61]
abbrev dktX1_sell_1 : List UInt8 := dkwX1_sell_1 ++ dktX1_sell_2
def dkwX1_sell_0 : List UInt8 := [3, 61, 3, 62, 29, 42, 180, 0, 109, 180, 0, 70, 162, 0, 40, 28, 42, 180, 0, 109, 29, 182, 0, 241]
abbrev dktX1_sell_0 : List UInt8 := dkwX1_sell_0 ++ dktX1_sell_1
theorem dksX1_sell_0 : cX1_sell.data.toList.drop 0 = dktX1_sell_0 := by decide +kernel
theorem dksX1_sell_1 : cX1_sell.data.toList.drop 24 = dktX1_sell_1 := dk_seg dksX1_sell_0 24 rfl rfl
theorem dksX1_sell_2 : cX1_sell.data.toList.drop 46 = dktX1_sell_2 := dk_seg dksX1_sell_1 22 rfl rfl
theorem dX1_sell_0 : decode cX1_sell 0 = .ok (.iconst 0, 1) := dk_3 (dk_at dksX1_sell_0 0 rfl rfl)
theorem dX1_sell_1 : decode cX1_sell 1 = .ok (.istore_n 2, 1) := dk_61 (dk_at dksX1_sell_0 1 rfl rfl)
theorem dX1_sell_2 : decode cX1_sell 2 = .ok (.iconst 0, 1) := dk_3 (dk_at dksX1_sell_0 2 rfl rfl)
theorem dX1_sell_3 : decode cX1_sell 3 = .ok (.istore_n 3, 1) := dk_62 (dk_at dksX1_sell_0 3 rfl rfl)
theorem dX1_sell_4 : decode cX1_sell 4 = .ok (.iload_n 3, 1) := dk_29 (dk_at dksX1_sell_0 4 rfl rfl)
theorem dX1_sell_5 : decode cX1_sell 5 = .ok (.aload_n 0, 1) := dk_42 (dk_at dksX1_sell_0 5 rfl rfl)
theorem dX1_sell_6 : decode cX1_sell 6 = .ok (.getfield 109, 3) := dk_180 0 109 (dk_at dksX1_sell_0 6 rfl rfl)
theorem dX1_sell_9 : decode cX1_sell 9 = .ok (.getfield 70, 3) := dk_180 0 70 (dk_at dksX1_sell_0 9 rfl rfl)
theorem dX1_sell_12 : decode cX1_sell 12 = .ok (.if_icmp .ge 40, 3) := dk_162 0 40 (dk_at dksX1_sell_0 12 rfl rfl)
theorem dX1_sell_15 : decode cX1_sell 15 = .ok (.iload_n 2, 1) := dk_28 (dk_at dksX1_sell_0 15 rfl rfl)
theorem dX1_sell_16 : decode cX1_sell 16 = .ok (.aload_n 0, 1) := dk_42 (dk_at dksX1_sell_0 16 rfl rfl)
theorem dX1_sell_17 : decode cX1_sell 17 = .ok (.getfield 109, 3) := dk_180 0 109 (dk_at dksX1_sell_0 17 rfl rfl)
theorem dX1_sell_20 : decode cX1_sell 20 = .ok (.iload_n 3, 1) := dk_29 (dk_at dksX1_sell_0 20 rfl rfl)
theorem dX1_sell_21 : decode cX1_sell 21 = .ok (.invokevirtual 241, 3) := dk_182 0 241 (dk_at dksX1_sell_0 21 rfl rfl)
theorem dX1_sell_24 : decode cX1_sell 24 = .ok (.ifCond .eq 19, 3) := dk_153 0 19 (dk_at dksX1_sell_1 0 rfl rfl)
theorem dX1_sell_27 : decode cX1_sell 27 = .ok (.aload_n 0, 1) := dk_42 (dk_at dksX1_sell_1 3 rfl rfl)
theorem dX1_sell_28 : decode cX1_sell 28 = .ok (.getfield 109, 3) := dk_180 0 109 (dk_at dksX1_sell_1 4 rfl rfl)
theorem dX1_sell_31 : decode cX1_sell 31 = .ok (.iload_n 3, 1) := dk_29 (dk_at dksX1_sell_1 7 rfl rfl)
theorem dX1_sell_32 : decode cX1_sell 32 = .ok (.invokevirtual 184, 3) := dk_182 0 184 (dk_at dksX1_sell_1 8 rfl rfl)
theorem dX1_sell_35 : decode cX1_sell 35 = .ok (.iload_n 1, 1) := dk_27 (dk_at dksX1_sell_1 11 rfl rfl)
theorem dX1_sell_36 : decode cX1_sell 36 = .ok (.if_icmp .ge 7, 3) := dk_162 0 7 (dk_at dksX1_sell_1 12 rfl rfl)
theorem dX1_sell_39 : decode cX1_sell 39 = .ok (.iconst 1, 1) := dk_4 (dk_at dksX1_sell_1 15 rfl rfl)
theorem dX1_sell_40 : decode cX1_sell 40 = .ok (.goto 4, 3) := dk_167 0 4 (dk_at dksX1_sell_1 16 rfl rfl)
theorem dX1_sell_43 : decode cX1_sell 43 = .ok (.iconst 0, 1) := dk_3 (dk_at dksX1_sell_1 19 rfl rfl)
theorem dX1_sell_44 : decode cX1_sell 44 = .ok (.iadd, 1) := dk_96 (dk_at dksX1_sell_1 20 rfl rfl)
theorem dX1_sell_45 : decode cX1_sell 45 = .ok (.istore_n 2, 1) := dk_61 (dk_at dksX1_sell_1 21 rfl rfl)
theorem dX1_sell_46 : decode cX1_sell 46 = .ok (.iinc 3 1, 3) := dk_132 3 1 (dk_at dksX1_sell_2 0 rfl rfl)
theorem dX1_sell_49 : decode cX1_sell 49 = .ok (.goto (-45), 3) := dk_167 255 211 (dk_at dksX1_sell_2 3 rfl rfl)
theorem dX1_sell_52 : decode cX1_sell 52 = .ok (.iload_n 2, 1) := dk_28 (dk_at dksX1_sell_2 6 rfl rfl)
theorem dX1_sell_53 : decode cX1_sell 53 = .ok (.ireturn, 1) := dk_172 (dk_at dksX1_sell_2 7 rfl rfl)
abbrev cX1_clears : ByteArray := prog_1_method_37_code
def yX1_clears : MethodName := ⟨RX1, "clears", "(I)I"⟩
def dkwX1_clears_2 : List UInt8 := [132, 2, 1, 167, 255, 222, 16, 252, 172]
abbrev dktX1_clears_2 : List UInt8 := dkwX1_clears_2 ++ []
def dkwX1_clears_1 : List UInt8 := [182, 0, 253, 42, 180, 0, 109, 180, 0, 81, 42, 27, 182, 1, 0, 184, 0, 225, 163, 0, 5, 28, 172]
abbrev dktX1_clears_1 : List UInt8 := dkwX1_clears_1 ++ dktX1_clears_2
def dkwX1_clears_0 : List UInt8 := [27, 3, 16, 31, 184, 0, 30, 154, 0, 5, 2, 172, 3, 61, 28, 16, 31, 163, 0, 34, 42, 28]
abbrev dktX1_clears_0 : List UInt8 := dkwX1_clears_0 ++ dktX1_clears_1
theorem dksX1_clears_0 : cX1_clears.data.toList.drop 0 = dktX1_clears_0 := by decide +kernel
theorem dksX1_clears_1 : cX1_clears.data.toList.drop 22 = dktX1_clears_1 := dk_seg dksX1_clears_0 22 rfl rfl
theorem dksX1_clears_2 : cX1_clears.data.toList.drop 45 = dktX1_clears_2 := dk_seg dksX1_clears_1 23 rfl rfl
theorem dX1_clears_0 : decode cX1_clears 0 = .ok (.iload_n 1, 1) := dk_27 (dk_at dksX1_clears_0 0 rfl rfl)
theorem dX1_clears_1 : decode cX1_clears 1 = .ok (.iconst 0, 1) := dk_3 (dk_at dksX1_clears_0 1 rfl rfl)
theorem dX1_clears_2 : decode cX1_clears 2 = .ok (.bipush 31, 2) := dk_16 31 (dk_at dksX1_clears_0 2 rfl rfl)
theorem dX1_clears_4 : decode cX1_clears 4 = .ok (.invokestatic 30, 3) := dk_184 0 30 (dk_at dksX1_clears_0 4 rfl rfl)
theorem dX1_clears_7 : decode cX1_clears 7 = .ok (.ifCond .ne 5, 3) := dk_154 0 5 (dk_at dksX1_clears_0 7 rfl rfl)
theorem dX1_clears_10 : decode cX1_clears 10 = .ok (.iconst (-1), 1) := dk_2 (dk_at dksX1_clears_0 10 rfl rfl)
theorem dX1_clears_11 : decode cX1_clears 11 = .ok (.ireturn, 1) := dk_172 (dk_at dksX1_clears_0 11 rfl rfl)
theorem dX1_clears_12 : decode cX1_clears 12 = .ok (.iconst 0, 1) := dk_3 (dk_at dksX1_clears_0 12 rfl rfl)
theorem dX1_clears_13 : decode cX1_clears 13 = .ok (.istore_n 2, 1) := dk_61 (dk_at dksX1_clears_0 13 rfl rfl)
theorem dX1_clears_14 : decode cX1_clears 14 = .ok (.iload_n 2, 1) := dk_28 (dk_at dksX1_clears_0 14 rfl rfl)
theorem dX1_clears_15 : decode cX1_clears 15 = .ok (.bipush 31, 2) := dk_16 31 (dk_at dksX1_clears_0 15 rfl rfl)
theorem dX1_clears_17 : decode cX1_clears 17 = .ok (.if_icmp .gt 34, 3) := dk_163 0 34 (dk_at dksX1_clears_0 17 rfl rfl)
theorem dX1_clears_20 : decode cX1_clears 20 = .ok (.aload_n 0, 1) := dk_42 (dk_at dksX1_clears_0 20 rfl rfl)
theorem dX1_clears_21 : decode cX1_clears 21 = .ok (.iload_n 2, 1) := dk_28 (dk_at dksX1_clears_0 21 rfl rfl)
theorem dX1_clears_22 : decode cX1_clears 22 = .ok (.invokevirtual 253, 3) := dk_182 0 253 (dk_at dksX1_clears_1 0 rfl rfl)
theorem dX1_clears_25 : decode cX1_clears 25 = .ok (.aload_n 0, 1) := dk_42 (dk_at dksX1_clears_1 3 rfl rfl)
theorem dX1_clears_26 : decode cX1_clears 26 = .ok (.getfield 109, 3) := dk_180 0 109 (dk_at dksX1_clears_1 4 rfl rfl)
theorem dX1_clears_29 : decode cX1_clears 29 = .ok (.getfield 81, 3) := dk_180 0 81 (dk_at dksX1_clears_1 7 rfl rfl)
theorem dX1_clears_32 : decode cX1_clears 32 = .ok (.aload_n 0, 1) := dk_42 (dk_at dksX1_clears_1 10 rfl rfl)
theorem dX1_clears_33 : decode cX1_clears 33 = .ok (.iload_n 1, 1) := dk_27 (dk_at dksX1_clears_1 11 rfl rfl)
theorem dX1_clears_34 : decode cX1_clears 34 = .ok (.invokevirtual 256, 3) := dk_182 1 0 (dk_at dksX1_clears_1 12 rfl rfl)
theorem dX1_clears_37 : decode cX1_clears 37 = .ok (.invokestatic 225, 3) := dk_184 0 225 (dk_at dksX1_clears_1 15 rfl rfl)
theorem dX1_clears_40 : decode cX1_clears 40 = .ok (.if_icmp .gt 5, 3) := dk_163 0 5 (dk_at dksX1_clears_1 18 rfl rfl)
theorem dX1_clears_43 : decode cX1_clears 43 = .ok (.iload_n 2, 1) := dk_28 (dk_at dksX1_clears_1 21 rfl rfl)
theorem dX1_clears_44 : decode cX1_clears 44 = .ok (.ireturn, 1) := dk_172 (dk_at dksX1_clears_1 22 rfl rfl)
theorem dX1_clears_45 : decode cX1_clears 45 = .ok (.iinc 2 1, 3) := dk_132 2 1 (dk_at dksX1_clears_2 0 rfl rfl)
theorem dX1_clears_48 : decode cX1_clears 48 = .ok (.goto (-34), 3) := dk_167 255 222 (dk_at dksX1_clears_2 3 rfl rfl)
theorem dX1_clears_51 : decode cX1_clears 51 = .ok (.bipush (-4), 2) := dk_16 252 (dk_at dksX1_clears_2 6 rfl rfl)
theorem dX1_clears_53 : decode cX1_clears 53 = .ok (.ireturn, 1) := dk_172 (dk_at dksX1_clears_2 8 rfl rfl)
abbrev cX1_swap : ByteArray := prog_1_method_45_code
def yX1_swap : MethodName := ⟨RX1, "swap", "(I)I"⟩
def dkwX1_swap_5 : List UInt8 := [54, 4, 21, 8, 54, 5, 132, 7, 1, 167, 255, 177, 132, 6, 1, 167, 255, 154, 21, 4, 172]
abbrev dktX1_swap_5 : List UInt8 := dkwX1_swap_5 ++ []
def dkwX1_swap_4 : List UInt8 := [182, 1, 28, 100, 54, 8, 21, 8, 21, 5, 163, 0, 6, 167, 0, 17, 16, 10, 21, 6, 104, 21, 7, 96]
abbrev dktX1_swap_4 : List UInt8 := dkwX1_swap_4 ++ dktX1_swap_5
def dkwX1_swap_3 : List UInt8 := [21, 7, 21, 6, 182, 1, 28, 96, 42, 45, 21, 6, 21, 6, 182, 1, 28, 100, 42, 45, 21, 7, 21, 7]
abbrev dktX1_swap_3 : List UInt8 := dkwX1_swap_3 ++ dktX1_swap_4
def dkwX1_swap_2 : List UInt8 := [54, 7, 5, 21, 7, 104, 45, 184, 1, 18, 162, 0, 74, 42, 45, 21, 6, 21, 7, 182, 1, 28, 42, 45]
abbrev dktX1_swap_2 : List UInt8 := dkwX1_swap_2 ++ dktX1_swap_3
def dkwX1_swap_1 : List UInt8 := [54, 4, 3, 54, 5, 3, 54, 6, 5, 21, 6, 104, 45, 184, 1, 18, 162, 0, 97, 21, 6, 4, 96]
abbrev dktX1_swap_1 : List UInt8 := dkwX1_swap_1 ++ dktX1_swap_2
def dkwX1_swap_0 : List UInt8 := [42, 27, 182, 1, 25, 61, 28, 153, 0, 5, 28, 172, 42, 180, 0, 128, 27, 50, 180, 0, 132, 78, 16, 252]
abbrev dktX1_swap_0 : List UInt8 := dkwX1_swap_0 ++ dktX1_swap_1
theorem dksX1_swap_0 : cX1_swap.data.toList.drop 0 = dktX1_swap_0 := by decide +kernel
theorem dksX1_swap_1 : cX1_swap.data.toList.drop 24 = dktX1_swap_1 := dk_seg dksX1_swap_0 24 rfl rfl
theorem dksX1_swap_2 : cX1_swap.data.toList.drop 47 = dktX1_swap_2 := dk_seg dksX1_swap_1 23 rfl rfl
theorem dksX1_swap_3 : cX1_swap.data.toList.drop 71 = dktX1_swap_3 := dk_seg dksX1_swap_2 24 rfl rfl
theorem dksX1_swap_4 : cX1_swap.data.toList.drop 95 = dktX1_swap_4 := dk_seg dksX1_swap_3 24 rfl rfl
theorem dksX1_swap_5 : cX1_swap.data.toList.drop 119 = dktX1_swap_5 := dk_seg dksX1_swap_4 24 rfl rfl
theorem dX1_swap_0 : decode cX1_swap 0 = .ok (.aload_n 0, 1) := dk_42 (dk_at dksX1_swap_0 0 rfl rfl)
theorem dX1_swap_1 : decode cX1_swap 1 = .ok (.iload_n 1, 1) := dk_27 (dk_at dksX1_swap_0 1 rfl rfl)
theorem dX1_swap_2 : decode cX1_swap 2 = .ok (.invokevirtual 281, 3) := dk_182 1 25 (dk_at dksX1_swap_0 2 rfl rfl)
theorem dX1_swap_5 : decode cX1_swap 5 = .ok (.istore_n 2, 1) := dk_61 (dk_at dksX1_swap_0 5 rfl rfl)
theorem dX1_swap_6 : decode cX1_swap 6 = .ok (.iload_n 2, 1) := dk_28 (dk_at dksX1_swap_0 6 rfl rfl)
theorem dX1_swap_7 : decode cX1_swap 7 = .ok (.ifCond .eq 5, 3) := dk_153 0 5 (dk_at dksX1_swap_0 7 rfl rfl)
theorem dX1_swap_10 : decode cX1_swap 10 = .ok (.iload_n 2, 1) := dk_28 (dk_at dksX1_swap_0 10 rfl rfl)
theorem dX1_swap_11 : decode cX1_swap 11 = .ok (.ireturn, 1) := dk_172 (dk_at dksX1_swap_0 11 rfl rfl)
theorem dX1_swap_12 : decode cX1_swap 12 = .ok (.aload_n 0, 1) := dk_42 (dk_at dksX1_swap_0 12 rfl rfl)
theorem dX1_swap_13 : decode cX1_swap 13 = .ok (.getfield 128, 3) := dk_180 0 128 (dk_at dksX1_swap_0 13 rfl rfl)
theorem dX1_swap_16 : decode cX1_swap 16 = .ok (.iload_n 1, 1) := dk_27 (dk_at dksX1_swap_0 16 rfl rfl)
theorem dX1_swap_17 : decode cX1_swap 17 = .ok (.aaload, 1) := dk_50 (dk_at dksX1_swap_0 17 rfl rfl)
theorem dX1_swap_18 : decode cX1_swap 18 = .ok (.getfield 132, 3) := dk_180 0 132 (dk_at dksX1_swap_0 18 rfl rfl)
theorem dX1_swap_21 : decode cX1_swap 21 = .ok (.astore_n 3, 1) := dk_78 (dk_at dksX1_swap_0 21 rfl rfl)
theorem dX1_swap_22 : decode cX1_swap 22 = .ok (.bipush (-4), 2) := dk_16 252 (dk_at dksX1_swap_0 22 rfl rfl)
theorem dX1_swap_24 : decode cX1_swap 24 = .ok (.istore 4, 2) := dk_54 4 (dk_at dksX1_swap_1 0 rfl rfl)
theorem dX1_swap_26 : decode cX1_swap 26 = .ok (.iconst 0, 1) := dk_3 (dk_at dksX1_swap_1 2 rfl rfl)
theorem dX1_swap_27 : decode cX1_swap 27 = .ok (.istore 5, 2) := dk_54 5 (dk_at dksX1_swap_1 3 rfl rfl)
theorem dX1_swap_29 : decode cX1_swap 29 = .ok (.iconst 0, 1) := dk_3 (dk_at dksX1_swap_1 5 rfl rfl)
theorem dX1_swap_30 : decode cX1_swap 30 = .ok (.istore 6, 2) := dk_54 6 (dk_at dksX1_swap_1 6 rfl rfl)
theorem dX1_swap_32 : decode cX1_swap 32 = .ok (.iconst 2, 1) := dk_5 (dk_at dksX1_swap_1 8 rfl rfl)
theorem dX1_swap_33 : decode cX1_swap 33 = .ok (.iload 6, 2) := dk_21 6 (dk_at dksX1_swap_1 9 rfl rfl)
theorem dX1_swap_35 : decode cX1_swap 35 = .ok (.imul, 1) := dk_104 (dk_at dksX1_swap_1 11 rfl rfl)
theorem dX1_swap_36 : decode cX1_swap 36 = .ok (.aload_n 3, 1) := dk_45 (dk_at dksX1_swap_1 12 rfl rfl)
theorem dX1_swap_37 : decode cX1_swap 37 = .ok (.invokestatic 274, 3) := dk_184 1 18 (dk_at dksX1_swap_1 13 rfl rfl)
theorem dX1_swap_40 : decode cX1_swap 40 = .ok (.if_icmp .ge 97, 3) := dk_162 0 97 (dk_at dksX1_swap_1 16 rfl rfl)
theorem dX1_swap_43 : decode cX1_swap 43 = .ok (.iload 6, 2) := dk_21 6 (dk_at dksX1_swap_1 19 rfl rfl)
theorem dX1_swap_45 : decode cX1_swap 45 = .ok (.iconst 1, 1) := dk_4 (dk_at dksX1_swap_1 21 rfl rfl)
theorem dX1_swap_46 : decode cX1_swap 46 = .ok (.iadd, 1) := dk_96 (dk_at dksX1_swap_1 22 rfl rfl)
theorem dX1_swap_47 : decode cX1_swap 47 = .ok (.istore 7, 2) := dk_54 7 (dk_at dksX1_swap_2 0 rfl rfl)
theorem dX1_swap_49 : decode cX1_swap 49 = .ok (.iconst 2, 1) := dk_5 (dk_at dksX1_swap_2 2 rfl rfl)
theorem dX1_swap_50 : decode cX1_swap 50 = .ok (.iload 7, 2) := dk_21 7 (dk_at dksX1_swap_2 3 rfl rfl)
theorem dX1_swap_52 : decode cX1_swap 52 = .ok (.imul, 1) := dk_104 (dk_at dksX1_swap_2 5 rfl rfl)
theorem dX1_swap_53 : decode cX1_swap 53 = .ok (.aload_n 3, 1) := dk_45 (dk_at dksX1_swap_2 6 rfl rfl)
theorem dX1_swap_54 : decode cX1_swap 54 = .ok (.invokestatic 274, 3) := dk_184 1 18 (dk_at dksX1_swap_2 7 rfl rfl)
theorem dX1_swap_57 : decode cX1_swap 57 = .ok (.if_icmp .ge 74, 3) := dk_162 0 74 (dk_at dksX1_swap_2 10 rfl rfl)
theorem dX1_swap_60 : decode cX1_swap 60 = .ok (.aload_n 0, 1) := dk_42 (dk_at dksX1_swap_2 13 rfl rfl)
theorem dX1_swap_61 : decode cX1_swap 61 = .ok (.aload_n 3, 1) := dk_45 (dk_at dksX1_swap_2 14 rfl rfl)
theorem dX1_swap_62 : decode cX1_swap 62 = .ok (.iload 6, 2) := dk_21 6 (dk_at dksX1_swap_2 15 rfl rfl)
theorem dX1_swap_64 : decode cX1_swap 64 = .ok (.iload 7, 2) := dk_21 7 (dk_at dksX1_swap_2 17 rfl rfl)
theorem dX1_swap_66 : decode cX1_swap 66 = .ok (.invokevirtual 284, 3) := dk_182 1 28 (dk_at dksX1_swap_2 19 rfl rfl)
theorem dX1_swap_69 : decode cX1_swap 69 = .ok (.aload_n 0, 1) := dk_42 (dk_at dksX1_swap_2 22 rfl rfl)
theorem dX1_swap_70 : decode cX1_swap 70 = .ok (.aload_n 3, 1) := dk_45 (dk_at dksX1_swap_2 23 rfl rfl)
theorem dX1_swap_71 : decode cX1_swap 71 = .ok (.iload 7, 2) := dk_21 7 (dk_at dksX1_swap_3 0 rfl rfl)
theorem dX1_swap_73 : decode cX1_swap 73 = .ok (.iload 6, 2) := dk_21 6 (dk_at dksX1_swap_3 2 rfl rfl)
theorem dX1_swap_75 : decode cX1_swap 75 = .ok (.invokevirtual 284, 3) := dk_182 1 28 (dk_at dksX1_swap_3 4 rfl rfl)
theorem dX1_swap_78 : decode cX1_swap 78 = .ok (.iadd, 1) := dk_96 (dk_at dksX1_swap_3 7 rfl rfl)
theorem dX1_swap_79 : decode cX1_swap 79 = .ok (.aload_n 0, 1) := dk_42 (dk_at dksX1_swap_3 8 rfl rfl)
theorem dX1_swap_80 : decode cX1_swap 80 = .ok (.aload_n 3, 1) := dk_45 (dk_at dksX1_swap_3 9 rfl rfl)
theorem dX1_swap_81 : decode cX1_swap 81 = .ok (.iload 6, 2) := dk_21 6 (dk_at dksX1_swap_3 10 rfl rfl)
theorem dX1_swap_83 : decode cX1_swap 83 = .ok (.iload 6, 2) := dk_21 6 (dk_at dksX1_swap_3 12 rfl rfl)
theorem dX1_swap_85 : decode cX1_swap 85 = .ok (.invokevirtual 284, 3) := dk_182 1 28 (dk_at dksX1_swap_3 14 rfl rfl)
theorem dX1_swap_88 : decode cX1_swap 88 = .ok (.isub, 1) := dk_100 (dk_at dksX1_swap_3 17 rfl rfl)
theorem dX1_swap_89 : decode cX1_swap 89 = .ok (.aload_n 0, 1) := dk_42 (dk_at dksX1_swap_3 18 rfl rfl)
theorem dX1_swap_90 : decode cX1_swap 90 = .ok (.aload_n 3, 1) := dk_45 (dk_at dksX1_swap_3 19 rfl rfl)
theorem dX1_swap_91 : decode cX1_swap 91 = .ok (.iload 7, 2) := dk_21 7 (dk_at dksX1_swap_3 20 rfl rfl)
theorem dX1_swap_93 : decode cX1_swap 93 = .ok (.iload 7, 2) := dk_21 7 (dk_at dksX1_swap_3 22 rfl rfl)
theorem dX1_swap_95 : decode cX1_swap 95 = .ok (.invokevirtual 284, 3) := dk_182 1 28 (dk_at dksX1_swap_4 0 rfl rfl)
theorem dX1_swap_98 : decode cX1_swap 98 = .ok (.isub, 1) := dk_100 (dk_at dksX1_swap_4 3 rfl rfl)
theorem dX1_swap_99 : decode cX1_swap 99 = .ok (.istore 8, 2) := dk_54 8 (dk_at dksX1_swap_4 4 rfl rfl)
theorem dX1_swap_101 : decode cX1_swap 101 = .ok (.iload 8, 2) := dk_21 8 (dk_at dksX1_swap_4 6 rfl rfl)
theorem dX1_swap_103 : decode cX1_swap 103 = .ok (.iload 5, 2) := dk_21 5 (dk_at dksX1_swap_4 8 rfl rfl)
theorem dX1_swap_105 : decode cX1_swap 105 = .ok (.if_icmp .gt 6, 3) := dk_163 0 6 (dk_at dksX1_swap_4 10 rfl rfl)
theorem dX1_swap_108 : decode cX1_swap 108 = .ok (.goto 17, 3) := dk_167 0 17 (dk_at dksX1_swap_4 13 rfl rfl)
theorem dX1_swap_111 : decode cX1_swap 111 = .ok (.bipush 10, 2) := dk_16 10 (dk_at dksX1_swap_4 16 rfl rfl)
theorem dX1_swap_113 : decode cX1_swap 113 = .ok (.iload 6, 2) := dk_21 6 (dk_at dksX1_swap_4 18 rfl rfl)
theorem dX1_swap_115 : decode cX1_swap 115 = .ok (.imul, 1) := dk_104 (dk_at dksX1_swap_4 20 rfl rfl)
theorem dX1_swap_116 : decode cX1_swap 116 = .ok (.iload 7, 2) := dk_21 7 (dk_at dksX1_swap_4 21 rfl rfl)
theorem dX1_swap_118 : decode cX1_swap 118 = .ok (.iadd, 1) := dk_96 (dk_at dksX1_swap_4 23 rfl rfl)
theorem dX1_swap_119 : decode cX1_swap 119 = .ok (.istore 4, 2) := dk_54 4 (dk_at dksX1_swap_5 0 rfl rfl)
theorem dX1_swap_121 : decode cX1_swap 121 = .ok (.iload 8, 2) := dk_21 8 (dk_at dksX1_swap_5 2 rfl rfl)
theorem dX1_swap_123 : decode cX1_swap 123 = .ok (.istore 5, 2) := dk_54 5 (dk_at dksX1_swap_5 4 rfl rfl)
theorem dX1_swap_125 : decode cX1_swap 125 = .ok (.iinc 7 1, 3) := dk_132 7 1 (dk_at dksX1_swap_5 6 rfl rfl)
theorem dX1_swap_128 : decode cX1_swap 128 = .ok (.goto (-79), 3) := dk_167 255 177 (dk_at dksX1_swap_5 9 rfl rfl)
theorem dX1_swap_131 : decode cX1_swap 131 = .ok (.iinc 6 1, 3) := dk_132 6 1 (dk_at dksX1_swap_5 12 rfl rfl)
theorem dX1_swap_134 : decode cX1_swap 134 = .ok (.goto (-102), 3) := dk_167 255 154 (dk_at dksX1_swap_5 15 rfl rfl)
theorem dX1_swap_137 : decode cX1_swap 137 = .ok (.iload 4, 2) := dk_21 4 (dk_at dksX1_swap_5 18 rfl rfl)
theorem dX1_swap_139 : decode cX1_swap 139 = .ok (.ireturn, 1) := dk_172 (dk_at dksX1_swap_5 20 rfl rfl)
abbrev cX1_notPairs : ByteArray := prog_1_method_43_code
def yX1_notPairs : MethodName := ⟨RX1, "notPairs", "(I)I"⟩
def dkwX1_notPairs_6 : List UInt8 := [16, 243, 172, 132, 5, 1, 167, 255, 163, 3, 172]
abbrev dktX1_notPairs_6 : List UInt8 := dkwX1_notPairs_6 ++ []
def dkwX1_notPairs_5 : List UInt8 := [180, 0, 109, 45, 21, 5, 4, 100, 184, 1, 21, 45, 21, 5, 184, 1, 21, 182, 0, 50, 154, 0, 6]
abbrev dktX1_notPairs_5 : List UInt8 := dkwX1_notPairs_5 ++ dktX1_notPairs_6
def dkwX1_notPairs_4 : List UInt8 := [21, 4, 4, 45, 21, 5, 184, 1, 21, 120, 128, 54, 4, 21, 5, 5, 112, 4, 160, 0, 30, 42]
abbrev dktX1_notPairs_4 : List UInt8 := dkwX1_notPairs_4 ++ dktX1_notPairs_5
def dkwX1_notPairs_3 : List UInt8 := [182, 0, 34, 153, 0, 17, 21, 4, 45, 21, 5, 184, 1, 21, 184, 0, 215, 153, 0, 6, 16, 243, 172]
abbrev dktX1_notPairs_3 : List UInt8 := dkwX1_notPairs_3 ++ dktX1_notPairs_4
def dkwX1_notPairs_2 : List UInt8 := [3, 54, 5, 21, 5, 45, 184, 1, 18, 162, 0, 90, 42, 180, 0, 109, 45, 21, 5, 184, 1, 21]
abbrev dktX1_notPairs_2 : List UInt8 := dkwX1_notPairs_2 ++ dktX1_notPairs_3
def dkwX1_notPairs_1 : List UInt8 := [184, 1, 18, 5, 112, 4, 159, 0, 12, 45, 184, 1, 18, 16, 8, 164, 0, 6, 16, 243, 172, 3, 54, 4]
abbrev dktX1_notPairs_1 : List UInt8 := dkwX1_notPairs_1 ++ dktX1_notPairs_2
def dkwX1_notPairs_0 : List UInt8 := [42, 27, 182, 1, 15, 61, 28, 153, 0, 5, 28, 172, 42, 180, 0, 128, 27, 50, 180, 0, 132, 78, 45]
abbrev dktX1_notPairs_0 : List UInt8 := dkwX1_notPairs_0 ++ dktX1_notPairs_1
theorem dksX1_notPairs_0 : cX1_notPairs.data.toList.drop 0 = dktX1_notPairs_0 := by decide +kernel
theorem dksX1_notPairs_1 : cX1_notPairs.data.toList.drop 23 = dktX1_notPairs_1 := dk_seg dksX1_notPairs_0 23 rfl rfl
theorem dksX1_notPairs_2 : cX1_notPairs.data.toList.drop 47 = dktX1_notPairs_2 := dk_seg dksX1_notPairs_1 24 rfl rfl
theorem dksX1_notPairs_3 : cX1_notPairs.data.toList.drop 69 = dktX1_notPairs_3 := dk_seg dksX1_notPairs_2 22 rfl rfl
theorem dksX1_notPairs_4 : cX1_notPairs.data.toList.drop 92 = dktX1_notPairs_4 := dk_seg dksX1_notPairs_3 23 rfl rfl
theorem dksX1_notPairs_5 : cX1_notPairs.data.toList.drop 114 = dktX1_notPairs_5 := dk_seg dksX1_notPairs_4 22 rfl rfl
theorem dksX1_notPairs_6 : cX1_notPairs.data.toList.drop 137 = dktX1_notPairs_6 := dk_seg dksX1_notPairs_5 23 rfl rfl
theorem dX1_notPairs_0 : decode cX1_notPairs 0 = .ok (.aload_n 0, 1) := dk_42 (dk_at dksX1_notPairs_0 0 rfl rfl)
theorem dX1_notPairs_1 : decode cX1_notPairs 1 = .ok (.iload_n 1, 1) := dk_27 (dk_at dksX1_notPairs_0 1 rfl rfl)
theorem dX1_notPairs_2 : decode cX1_notPairs 2 = .ok (.invokevirtual 271, 3) := dk_182 1 15 (dk_at dksX1_notPairs_0 2 rfl rfl)
theorem dX1_notPairs_5 : decode cX1_notPairs 5 = .ok (.istore_n 2, 1) := dk_61 (dk_at dksX1_notPairs_0 5 rfl rfl)
theorem dX1_notPairs_6 : decode cX1_notPairs 6 = .ok (.iload_n 2, 1) := dk_28 (dk_at dksX1_notPairs_0 6 rfl rfl)
theorem dX1_notPairs_7 : decode cX1_notPairs 7 = .ok (.ifCond .eq 5, 3) := dk_153 0 5 (dk_at dksX1_notPairs_0 7 rfl rfl)
theorem dX1_notPairs_10 : decode cX1_notPairs 10 = .ok (.iload_n 2, 1) := dk_28 (dk_at dksX1_notPairs_0 10 rfl rfl)
theorem dX1_notPairs_11 : decode cX1_notPairs 11 = .ok (.ireturn, 1) := dk_172 (dk_at dksX1_notPairs_0 11 rfl rfl)
theorem dX1_notPairs_12 : decode cX1_notPairs 12 = .ok (.aload_n 0, 1) := dk_42 (dk_at dksX1_notPairs_0 12 rfl rfl)
theorem dX1_notPairs_13 : decode cX1_notPairs 13 = .ok (.getfield 128, 3) := dk_180 0 128 (dk_at dksX1_notPairs_0 13 rfl rfl)
theorem dX1_notPairs_16 : decode cX1_notPairs 16 = .ok (.iload_n 1, 1) := dk_27 (dk_at dksX1_notPairs_0 16 rfl rfl)
theorem dX1_notPairs_17 : decode cX1_notPairs 17 = .ok (.aaload, 1) := dk_50 (dk_at dksX1_notPairs_0 17 rfl rfl)
theorem dX1_notPairs_18 : decode cX1_notPairs 18 = .ok (.getfield 132, 3) := dk_180 0 132 (dk_at dksX1_notPairs_0 18 rfl rfl)
theorem dX1_notPairs_21 : decode cX1_notPairs 21 = .ok (.astore_n 3, 1) := dk_78 (dk_at dksX1_notPairs_0 21 rfl rfl)
theorem dX1_notPairs_22 : decode cX1_notPairs 22 = .ok (.aload_n 3, 1) := dk_45 (dk_at dksX1_notPairs_0 22 rfl rfl)
theorem dX1_notPairs_23 : decode cX1_notPairs 23 = .ok (.invokestatic 274, 3) := dk_184 1 18 (dk_at dksX1_notPairs_1 0 rfl rfl)
theorem dX1_notPairs_26 : decode cX1_notPairs 26 = .ok (.iconst 2, 1) := dk_5 (dk_at dksX1_notPairs_1 3 rfl rfl)
theorem dX1_notPairs_27 : decode cX1_notPairs 27 = .ok (.irem, 1) := dk_112 (dk_at dksX1_notPairs_1 4 rfl rfl)
theorem dX1_notPairs_28 : decode cX1_notPairs 28 = .ok (.iconst 1, 1) := dk_4 (dk_at dksX1_notPairs_1 5 rfl rfl)
theorem dX1_notPairs_29 : decode cX1_notPairs 29 = .ok (.if_icmp .eq 12, 3) := dk_159 0 12 (dk_at dksX1_notPairs_1 6 rfl rfl)
theorem dX1_notPairs_32 : decode cX1_notPairs 32 = .ok (.aload_n 3, 1) := dk_45 (dk_at dksX1_notPairs_1 9 rfl rfl)
theorem dX1_notPairs_33 : decode cX1_notPairs 33 = .ok (.invokestatic 274, 3) := dk_184 1 18 (dk_at dksX1_notPairs_1 10 rfl rfl)
theorem dX1_notPairs_36 : decode cX1_notPairs 36 = .ok (.bipush 8, 2) := dk_16 8 (dk_at dksX1_notPairs_1 13 rfl rfl)
theorem dX1_notPairs_38 : decode cX1_notPairs 38 = .ok (.if_icmp .le 6, 3) := dk_164 0 6 (dk_at dksX1_notPairs_1 15 rfl rfl)
theorem dX1_notPairs_41 : decode cX1_notPairs 41 = .ok (.bipush (-13), 2) := dk_16 243 (dk_at dksX1_notPairs_1 18 rfl rfl)
theorem dX1_notPairs_43 : decode cX1_notPairs 43 = .ok (.ireturn, 1) := dk_172 (dk_at dksX1_notPairs_1 20 rfl rfl)
theorem dX1_notPairs_44 : decode cX1_notPairs 44 = .ok (.iconst 0, 1) := dk_3 (dk_at dksX1_notPairs_1 21 rfl rfl)
theorem dX1_notPairs_45 : decode cX1_notPairs 45 = .ok (.istore 4, 2) := dk_54 4 (dk_at dksX1_notPairs_1 22 rfl rfl)
theorem dX1_notPairs_47 : decode cX1_notPairs 47 = .ok (.iconst 0, 1) := dk_3 (dk_at dksX1_notPairs_2 0 rfl rfl)
theorem dX1_notPairs_48 : decode cX1_notPairs 48 = .ok (.istore 5, 2) := dk_54 5 (dk_at dksX1_notPairs_2 1 rfl rfl)
theorem dX1_notPairs_50 : decode cX1_notPairs 50 = .ok (.iload 5, 2) := dk_21 5 (dk_at dksX1_notPairs_2 3 rfl rfl)
theorem dX1_notPairs_52 : decode cX1_notPairs 52 = .ok (.aload_n 3, 1) := dk_45 (dk_at dksX1_notPairs_2 5 rfl rfl)
theorem dX1_notPairs_53 : decode cX1_notPairs 53 = .ok (.invokestatic 274, 3) := dk_184 1 18 (dk_at dksX1_notPairs_2 6 rfl rfl)
theorem dX1_notPairs_56 : decode cX1_notPairs 56 = .ok (.if_icmp .ge 90, 3) := dk_162 0 90 (dk_at dksX1_notPairs_2 9 rfl rfl)
theorem dX1_notPairs_59 : decode cX1_notPairs 59 = .ok (.aload_n 0, 1) := dk_42 (dk_at dksX1_notPairs_2 12 rfl rfl)
theorem dX1_notPairs_60 : decode cX1_notPairs 60 = .ok (.getfield 109, 3) := dk_180 0 109 (dk_at dksX1_notPairs_2 13 rfl rfl)
theorem dX1_notPairs_63 : decode cX1_notPairs 63 = .ok (.aload_n 3, 1) := dk_45 (dk_at dksX1_notPairs_2 16 rfl rfl)
theorem dX1_notPairs_64 : decode cX1_notPairs 64 = .ok (.iload 5, 2) := dk_21 5 (dk_at dksX1_notPairs_2 17 rfl rfl)
theorem dX1_notPairs_66 : decode cX1_notPairs 66 = .ok (.invokestatic 277, 3) := dk_184 1 21 (dk_at dksX1_notPairs_2 19 rfl rfl)
theorem dX1_notPairs_69 : decode cX1_notPairs 69 = .ok (.invokevirtual 34, 3) := dk_182 0 34 (dk_at dksX1_notPairs_3 0 rfl rfl)
theorem dX1_notPairs_72 : decode cX1_notPairs 72 = .ok (.ifCond .eq 17, 3) := dk_153 0 17 (dk_at dksX1_notPairs_3 3 rfl rfl)
theorem dX1_notPairs_75 : decode cX1_notPairs 75 = .ok (.iload 4, 2) := dk_21 4 (dk_at dksX1_notPairs_3 6 rfl rfl)
theorem dX1_notPairs_77 : decode cX1_notPairs 77 = .ok (.aload_n 3, 1) := dk_45 (dk_at dksX1_notPairs_3 8 rfl rfl)
theorem dX1_notPairs_78 : decode cX1_notPairs 78 = .ok (.iload 5, 2) := dk_21 5 (dk_at dksX1_notPairs_3 9 rfl rfl)
theorem dX1_notPairs_80 : decode cX1_notPairs 80 = .ok (.invokestatic 277, 3) := dk_184 1 21 (dk_at dksX1_notPairs_3 11 rfl rfl)
theorem dX1_notPairs_83 : decode cX1_notPairs 83 = .ok (.invokestatic 215, 3) := dk_184 0 215 (dk_at dksX1_notPairs_3 14 rfl rfl)
theorem dX1_notPairs_86 : decode cX1_notPairs 86 = .ok (.ifCond .eq 6, 3) := dk_153 0 6 (dk_at dksX1_notPairs_3 17 rfl rfl)
theorem dX1_notPairs_89 : decode cX1_notPairs 89 = .ok (.bipush (-13), 2) := dk_16 243 (dk_at dksX1_notPairs_3 20 rfl rfl)
theorem dX1_notPairs_91 : decode cX1_notPairs 91 = .ok (.ireturn, 1) := dk_172 (dk_at dksX1_notPairs_3 22 rfl rfl)
theorem dX1_notPairs_92 : decode cX1_notPairs 92 = .ok (.iload 4, 2) := dk_21 4 (dk_at dksX1_notPairs_4 0 rfl rfl)
theorem dX1_notPairs_94 : decode cX1_notPairs 94 = .ok (.iconst 1, 1) := dk_4 (dk_at dksX1_notPairs_4 2 rfl rfl)
theorem dX1_notPairs_95 : decode cX1_notPairs 95 = .ok (.aload_n 3, 1) := dk_45 (dk_at dksX1_notPairs_4 3 rfl rfl)
theorem dX1_notPairs_96 : decode cX1_notPairs 96 = .ok (.iload 5, 2) := dk_21 5 (dk_at dksX1_notPairs_4 4 rfl rfl)
theorem dX1_notPairs_98 : decode cX1_notPairs 98 = .ok (.invokestatic 277, 3) := dk_184 1 21 (dk_at dksX1_notPairs_4 6 rfl rfl)
theorem dX1_notPairs_101 : decode cX1_notPairs 101 = .ok (.ishl, 1) := dk_120 (dk_at dksX1_notPairs_4 9 rfl rfl)
theorem dX1_notPairs_102 : decode cX1_notPairs 102 = .ok (.ior, 1) := dk_128 (dk_at dksX1_notPairs_4 10 rfl rfl)
theorem dX1_notPairs_103 : decode cX1_notPairs 103 = .ok (.istore 4, 2) := dk_54 4 (dk_at dksX1_notPairs_4 11 rfl rfl)
theorem dX1_notPairs_105 : decode cX1_notPairs 105 = .ok (.iload 5, 2) := dk_21 5 (dk_at dksX1_notPairs_4 13 rfl rfl)
theorem dX1_notPairs_107 : decode cX1_notPairs 107 = .ok (.iconst 2, 1) := dk_5 (dk_at dksX1_notPairs_4 15 rfl rfl)
theorem dX1_notPairs_108 : decode cX1_notPairs 108 = .ok (.irem, 1) := dk_112 (dk_at dksX1_notPairs_4 16 rfl rfl)
theorem dX1_notPairs_109 : decode cX1_notPairs 109 = .ok (.iconst 1, 1) := dk_4 (dk_at dksX1_notPairs_4 17 rfl rfl)
theorem dX1_notPairs_110 : decode cX1_notPairs 110 = .ok (.if_icmp .ne 30, 3) := dk_160 0 30 (dk_at dksX1_notPairs_4 18 rfl rfl)
theorem dX1_notPairs_113 : decode cX1_notPairs 113 = .ok (.aload_n 0, 1) := dk_42 (dk_at dksX1_notPairs_4 21 rfl rfl)
theorem dX1_notPairs_114 : decode cX1_notPairs 114 = .ok (.getfield 109, 3) := dk_180 0 109 (dk_at dksX1_notPairs_5 0 rfl rfl)
theorem dX1_notPairs_117 : decode cX1_notPairs 117 = .ok (.aload_n 3, 1) := dk_45 (dk_at dksX1_notPairs_5 3 rfl rfl)
theorem dX1_notPairs_118 : decode cX1_notPairs 118 = .ok (.iload 5, 2) := dk_21 5 (dk_at dksX1_notPairs_5 4 rfl rfl)
theorem dX1_notPairs_120 : decode cX1_notPairs 120 = .ok (.iconst 1, 1) := dk_4 (dk_at dksX1_notPairs_5 6 rfl rfl)
theorem dX1_notPairs_121 : decode cX1_notPairs 121 = .ok (.isub, 1) := dk_100 (dk_at dksX1_notPairs_5 7 rfl rfl)
theorem dX1_notPairs_122 : decode cX1_notPairs 122 = .ok (.invokestatic 277, 3) := dk_184 1 21 (dk_at dksX1_notPairs_5 8 rfl rfl)
theorem dX1_notPairs_125 : decode cX1_notPairs 125 = .ok (.aload_n 3, 1) := dk_45 (dk_at dksX1_notPairs_5 11 rfl rfl)
theorem dX1_notPairs_126 : decode cX1_notPairs 126 = .ok (.iload 5, 2) := dk_21 5 (dk_at dksX1_notPairs_5 12 rfl rfl)
theorem dX1_notPairs_128 : decode cX1_notPairs 128 = .ok (.invokestatic 277, 3) := dk_184 1 21 (dk_at dksX1_notPairs_5 14 rfl rfl)
theorem dX1_notPairs_131 : decode cX1_notPairs 131 = .ok (.invokevirtual 50, 3) := dk_182 0 50 (dk_at dksX1_notPairs_5 17 rfl rfl)
theorem dX1_notPairs_134 : decode cX1_notPairs 134 = .ok (.ifCond .ne 6, 3) := dk_154 0 6 (dk_at dksX1_notPairs_5 20 rfl rfl)
theorem dX1_notPairs_137 : decode cX1_notPairs 137 = .ok (.bipush (-13), 2) := dk_16 243 (dk_at dksX1_notPairs_6 0 rfl rfl)
theorem dX1_notPairs_139 : decode cX1_notPairs 139 = .ok (.ireturn, 1) := dk_172 (dk_at dksX1_notPairs_6 2 rfl rfl)
theorem dX1_notPairs_140 : decode cX1_notPairs 140 = .ok (.iinc 5 1, 3) := dk_132 5 1 (dk_at dksX1_notPairs_6 3 rfl rfl)
theorem dX1_notPairs_143 : decode cX1_notPairs 143 = .ok (.goto (-93), 3) := dk_167 255 163 (dk_at dksX1_notPairs_6 6 rfl rfl)
theorem dX1_notPairs_146 : decode cX1_notPairs 146 = .ok (.iconst 0, 1) := dk_3 (dk_at dksX1_notPairs_6 9 rfl rfl)
theorem dX1_notPairs_147 : decode cX1_notPairs 147 = .ok (.ireturn, 1) := dk_172 (dk_at dksX1_notPairs_6 10 rfl rfl)
abbrev cX1_notRow : ByteArray := prog_1_method_42_code
def yX1_notRow : MethodName := ⟨RX1, "notRow", "(I)I"⟩
def dkwX1_notRow_1 : List UInt8 := [16, 245, 167, 0, 17, 44, 184, 1, 11, 2, 160, 0, 8, 16, 244, 167, 0, 4, 3, 172]
abbrev dktX1_notRow_1 : List UInt8 := dkwX1_notRow_1 ++ []
def dkwX1_notRow_0 : List UInt8 := [42, 27, 182, 0, 125, 154, 0, 5, 2, 172, 42, 180, 0, 128, 27, 50, 180, 0, 132, 77, 44, 199, 0, 8]
abbrev dktX1_notRow_0 : List UInt8 := dkwX1_notRow_0 ++ dktX1_notRow_1
theorem dksX1_notRow_0 : cX1_notRow.data.toList.drop 0 = dktX1_notRow_0 := by decide +kernel
theorem dksX1_notRow_1 : cX1_notRow.data.toList.drop 24 = dktX1_notRow_1 := dk_seg dksX1_notRow_0 24 rfl rfl
theorem dX1_notRow_0 : decode cX1_notRow 0 = .ok (.aload_n 0, 1) := dk_42 (dk_at dksX1_notRow_0 0 rfl rfl)
theorem dX1_notRow_1 : decode cX1_notRow 1 = .ok (.iload_n 1, 1) := dk_27 (dk_at dksX1_notRow_0 1 rfl rfl)
theorem dX1_notRow_2 : decode cX1_notRow 2 = .ok (.invokevirtual 125, 3) := dk_182 0 125 (dk_at dksX1_notRow_0 2 rfl rfl)
theorem dX1_notRow_5 : decode cX1_notRow 5 = .ok (.ifCond .ne 5, 3) := dk_154 0 5 (dk_at dksX1_notRow_0 5 rfl rfl)
theorem dX1_notRow_8 : decode cX1_notRow 8 = .ok (.iconst (-1), 1) := dk_2 (dk_at dksX1_notRow_0 8 rfl rfl)
theorem dX1_notRow_9 : decode cX1_notRow 9 = .ok (.ireturn, 1) := dk_172 (dk_at dksX1_notRow_0 9 rfl rfl)
theorem dX1_notRow_10 : decode cX1_notRow 10 = .ok (.aload_n 0, 1) := dk_42 (dk_at dksX1_notRow_0 10 rfl rfl)
theorem dX1_notRow_11 : decode cX1_notRow 11 = .ok (.getfield 128, 3) := dk_180 0 128 (dk_at dksX1_notRow_0 11 rfl rfl)
theorem dX1_notRow_14 : decode cX1_notRow 14 = .ok (.iload_n 1, 1) := dk_27 (dk_at dksX1_notRow_0 14 rfl rfl)
theorem dX1_notRow_15 : decode cX1_notRow 15 = .ok (.aaload, 1) := dk_50 (dk_at dksX1_notRow_0 15 rfl rfl)
theorem dX1_notRow_16 : decode cX1_notRow 16 = .ok (.getfield 132, 3) := dk_180 0 132 (dk_at dksX1_notRow_0 16 rfl rfl)
theorem dX1_notRow_19 : decode cX1_notRow 19 = .ok (.astore_n 2, 1) := dk_77 (dk_at dksX1_notRow_0 19 rfl rfl)
theorem dX1_notRow_20 : decode cX1_notRow 20 = .ok (.aload_n 2, 1) := dk_44 (dk_at dksX1_notRow_0 20 rfl rfl)
theorem dX1_notRow_21 : decode cX1_notRow 21 = .ok (.ifnonnull 8, 3) := dk_199 0 8 (dk_at dksX1_notRow_0 21 rfl rfl)
theorem dX1_notRow_24 : decode cX1_notRow 24 = .ok (.bipush (-11), 2) := dk_16 245 (dk_at dksX1_notRow_1 0 rfl rfl)
theorem dX1_notRow_26 : decode cX1_notRow 26 = .ok (.goto 17, 3) := dk_167 0 17 (dk_at dksX1_notRow_1 2 rfl rfl)
theorem dX1_notRow_29 : decode cX1_notRow 29 = .ok (.aload_n 2, 1) := dk_44 (dk_at dksX1_notRow_1 5 rfl rfl)
theorem dX1_notRow_30 : decode cX1_notRow 30 = .ok (.invokestatic 267, 3) := dk_184 1 11 (dk_at dksX1_notRow_1 6 rfl rfl)
theorem dX1_notRow_33 : decode cX1_notRow 33 = .ok (.iconst (-1), 1) := dk_2 (dk_at dksX1_notRow_1 9 rfl rfl)
theorem dX1_notRow_34 : decode cX1_notRow 34 = .ok (.if_icmp .ne 8, 3) := dk_160 0 8 (dk_at dksX1_notRow_1 10 rfl rfl)
theorem dX1_notRow_37 : decode cX1_notRow 37 = .ok (.bipush (-12), 2) := dk_16 244 (dk_at dksX1_notRow_1 13 rfl rfl)
theorem dX1_notRow_39 : decode cX1_notRow 39 = .ok (.goto 4, 3) := dk_167 0 4 (dk_at dksX1_notRow_1 15 rfl rfl)
theorem dX1_notRow_42 : decode cX1_notRow 42 = .ok (.iconst 0, 1) := dk_3 (dk_at dksX1_notRow_1 18 rfl rfl)
theorem dX1_notRow_43 : decode cX1_notRow 43 = .ok (.ireturn, 1) := dk_172 (dk_at dksX1_notRow_1 19 rfl rfl)
abbrev cX1_sortOf : ByteArray := prog_1_method_41_code
def yX1_sortOf : MethodName := ⟨RX1, "sortOf", "(Ljava/lang/Object;)I"⟩
def dkwX1_sortOf_1 : List UInt8 := [193, 1, 5, 153, 0, 7, 5, 167, 0, 4, 2, 172]
abbrev dktX1_sortOf_1 : List UInt8 := dkwX1_sortOf_1 ++ []
def dkwX1_sortOf_0 : List UInt8 := [42, 193, 0, 138, 153, 0, 7, 3, 167, 0, 26, 42, 193, 1, 3, 153, 0, 7, 4, 167, 0, 15, 42]
abbrev dktX1_sortOf_0 : List UInt8 := dkwX1_sortOf_0 ++ dktX1_sortOf_1
theorem dksX1_sortOf_0 : cX1_sortOf.data.toList.drop 0 = dktX1_sortOf_0 := by decide +kernel
theorem dksX1_sortOf_1 : cX1_sortOf.data.toList.drop 23 = dktX1_sortOf_1 := dk_seg dksX1_sortOf_0 23 rfl rfl
theorem dX1_sortOf_0 : decode cX1_sortOf 0 = .ok (.aload_n 0, 1) := dk_42 (dk_at dksX1_sortOf_0 0 rfl rfl)
theorem dX1_sortOf_1 : decode cX1_sortOf 1 = .ok (.instanceof 138, 3) := dk_193 0 138 (dk_at dksX1_sortOf_0 1 rfl rfl)
theorem dX1_sortOf_4 : decode cX1_sortOf 4 = .ok (.ifCond .eq 7, 3) := dk_153 0 7 (dk_at dksX1_sortOf_0 4 rfl rfl)
theorem dX1_sortOf_7 : decode cX1_sortOf 7 = .ok (.iconst 0, 1) := dk_3 (dk_at dksX1_sortOf_0 7 rfl rfl)
theorem dX1_sortOf_8 : decode cX1_sortOf 8 = .ok (.goto 26, 3) := dk_167 0 26 (dk_at dksX1_sortOf_0 8 rfl rfl)
theorem dX1_sortOf_11 : decode cX1_sortOf 11 = .ok (.aload_n 0, 1) := dk_42 (dk_at dksX1_sortOf_0 11 rfl rfl)
theorem dX1_sortOf_12 : decode cX1_sortOf 12 = .ok (.instanceof 259, 3) := dk_193 1 3 (dk_at dksX1_sortOf_0 12 rfl rfl)
theorem dX1_sortOf_15 : decode cX1_sortOf 15 = .ok (.ifCond .eq 7, 3) := dk_153 0 7 (dk_at dksX1_sortOf_0 15 rfl rfl)
theorem dX1_sortOf_18 : decode cX1_sortOf 18 = .ok (.iconst 1, 1) := dk_4 (dk_at dksX1_sortOf_0 18 rfl rfl)
theorem dX1_sortOf_19 : decode cX1_sortOf 19 = .ok (.goto 15, 3) := dk_167 0 15 (dk_at dksX1_sortOf_0 19 rfl rfl)
theorem dX1_sortOf_22 : decode cX1_sortOf 22 = .ok (.aload_n 0, 1) := dk_42 (dk_at dksX1_sortOf_0 22 rfl rfl)
theorem dX1_sortOf_23 : decode cX1_sortOf 23 = .ok (.instanceof 261, 3) := dk_193 1 5 (dk_at dksX1_sortOf_1 0 rfl rfl)
theorem dX1_sortOf_26 : decode cX1_sortOf 26 = .ok (.ifCond .eq 7, 3) := dk_153 0 7 (dk_at dksX1_sortOf_1 3 rfl rfl)
theorem dX1_sortOf_29 : decode cX1_sortOf 29 = .ok (.iconst 2, 1) := dk_5 (dk_at dksX1_sortOf_1 6 rfl rfl)
theorem dX1_sortOf_30 : decode cX1_sortOf 30 = .ok (.goto 4, 3) := dk_167 0 4 (dk_at dksX1_sortOf_1 7 rfl rfl)
theorem dX1_sortOf_33 : decode cX1_sortOf 33 = .ok (.iconst (-1), 1) := dk_2 (dk_at dksX1_sortOf_1 10 rfl rfl)
theorem dX1_sortOf_34 : decode cX1_sortOf 34 = .ok (.ireturn, 1) := dk_172 (dk_at dksX1_sortOf_1 11 rfl rfl)
abbrev cX1_sizeOf : ByteArray := prog_1_method_38_code
def yX1_sizeOf : MethodName := ⟨RX1, "sizeOf", "(Ljava/lang/Object;)I"⟩
def dkwX1_sizeOf_1 : List UInt8 := [192, 1, 3, 190, 167, 0, 8, 42, 192, 1, 5, 190, 172]
abbrev dktX1_sizeOf_1 : List UInt8 := dkwX1_sizeOf_1 ++ []
def dkwX1_sizeOf_0 : List UInt8 := [42, 193, 0, 138, 153, 0, 11, 42, 192, 0, 138, 190, 167, 0, 23, 42, 193, 1, 3, 153, 0, 11, 42]
abbrev dktX1_sizeOf_0 : List UInt8 := dkwX1_sizeOf_0 ++ dktX1_sizeOf_1
theorem dksX1_sizeOf_0 : cX1_sizeOf.data.toList.drop 0 = dktX1_sizeOf_0 := by decide +kernel
theorem dksX1_sizeOf_1 : cX1_sizeOf.data.toList.drop 23 = dktX1_sizeOf_1 := dk_seg dksX1_sizeOf_0 23 rfl rfl
theorem dX1_sizeOf_0 : decode cX1_sizeOf 0 = .ok (.aload_n 0, 1) := dk_42 (dk_at dksX1_sizeOf_0 0 rfl rfl)
theorem dX1_sizeOf_1 : decode cX1_sizeOf 1 = .ok (.instanceof 138, 3) := dk_193 0 138 (dk_at dksX1_sizeOf_0 1 rfl rfl)
theorem dX1_sizeOf_4 : decode cX1_sizeOf 4 = .ok (.ifCond .eq 11, 3) := dk_153 0 11 (dk_at dksX1_sizeOf_0 4 rfl rfl)
theorem dX1_sizeOf_7 : decode cX1_sizeOf 7 = .ok (.aload_n 0, 1) := dk_42 (dk_at dksX1_sizeOf_0 7 rfl rfl)
theorem dX1_sizeOf_8 : decode cX1_sizeOf 8 = .ok (.checkcast 138, 3) := dk_192 0 138 (dk_at dksX1_sizeOf_0 8 rfl rfl)
theorem dX1_sizeOf_11 : decode cX1_sizeOf 11 = .ok (.arraylength, 1) := dk_190 (dk_at dksX1_sizeOf_0 11 rfl rfl)
theorem dX1_sizeOf_12 : decode cX1_sizeOf 12 = .ok (.goto 23, 3) := dk_167 0 23 (dk_at dksX1_sizeOf_0 12 rfl rfl)
theorem dX1_sizeOf_15 : decode cX1_sizeOf 15 = .ok (.aload_n 0, 1) := dk_42 (dk_at dksX1_sizeOf_0 15 rfl rfl)
theorem dX1_sizeOf_16 : decode cX1_sizeOf 16 = .ok (.instanceof 259, 3) := dk_193 1 3 (dk_at dksX1_sizeOf_0 16 rfl rfl)
theorem dX1_sizeOf_19 : decode cX1_sizeOf 19 = .ok (.ifCond .eq 11, 3) := dk_153 0 11 (dk_at dksX1_sizeOf_0 19 rfl rfl)
theorem dX1_sizeOf_22 : decode cX1_sizeOf 22 = .ok (.aload_n 0, 1) := dk_42 (dk_at dksX1_sizeOf_0 22 rfl rfl)
theorem dX1_sizeOf_23 : decode cX1_sizeOf 23 = .ok (.checkcast 259, 3) := dk_192 1 3 (dk_at dksX1_sizeOf_1 0 rfl rfl)
theorem dX1_sizeOf_26 : decode cX1_sizeOf 26 = .ok (.arraylength, 1) := dk_190 (dk_at dksX1_sizeOf_1 3 rfl rfl)
theorem dX1_sizeOf_27 : decode cX1_sizeOf 27 = .ok (.goto 8, 3) := dk_167 0 8 (dk_at dksX1_sizeOf_1 4 rfl rfl)
theorem dX1_sizeOf_30 : decode cX1_sizeOf 30 = .ok (.aload_n 0, 1) := dk_42 (dk_at dksX1_sizeOf_1 7 rfl rfl)
theorem dX1_sizeOf_31 : decode cX1_sizeOf 31 = .ok (.checkcast 261, 3) := dk_192 1 5 (dk_at dksX1_sizeOf_1 8 rfl rfl)
theorem dX1_sizeOf_34 : decode cX1_sizeOf 34 = .ok (.arraylength, 1) := dk_190 (dk_at dksX1_sizeOf_1 11 rfl rfl)
theorem dX1_sizeOf_35 : decode cX1_sizeOf 35 = .ok (.ireturn, 1) := dk_172 (dk_at dksX1_sizeOf_1 12 rfl rfl)
abbrev cX1_elementOf : ByteArray := prog_1_method_39_code
def yX1_elementOf : MethodName := ⟨RX1, "elementOf", "(Ljava/lang/Object;I)I"⟩
def dkwX1_elementOf_1 : List UInt8 := [192, 1, 3, 27, 53, 167, 0, 9, 42, 192, 1, 5, 27, 46, 172]
abbrev dktX1_elementOf_1 : List UInt8 := dkwX1_elementOf_1 ++ []
def dkwX1_elementOf_0 : List UInt8 := [42, 193, 0, 138, 153, 0, 12, 42, 192, 0, 138, 27, 51, 167, 0, 25, 42, 193, 1, 3, 153, 0, 12, 42]
abbrev dktX1_elementOf_0 : List UInt8 := dkwX1_elementOf_0 ++ dktX1_elementOf_1
theorem dksX1_elementOf_0 : cX1_elementOf.data.toList.drop 0 = dktX1_elementOf_0 := by decide +kernel
theorem dksX1_elementOf_1 : cX1_elementOf.data.toList.drop 24 = dktX1_elementOf_1 := dk_seg dksX1_elementOf_0 24 rfl rfl
theorem dX1_elementOf_0 : decode cX1_elementOf 0 = .ok (.aload_n 0, 1) := dk_42 (dk_at dksX1_elementOf_0 0 rfl rfl)
theorem dX1_elementOf_1 : decode cX1_elementOf 1 = .ok (.instanceof 138, 3) := dk_193 0 138 (dk_at dksX1_elementOf_0 1 rfl rfl)
theorem dX1_elementOf_4 : decode cX1_elementOf 4 = .ok (.ifCond .eq 12, 3) := dk_153 0 12 (dk_at dksX1_elementOf_0 4 rfl rfl)
theorem dX1_elementOf_7 : decode cX1_elementOf 7 = .ok (.aload_n 0, 1) := dk_42 (dk_at dksX1_elementOf_0 7 rfl rfl)
theorem dX1_elementOf_8 : decode cX1_elementOf 8 = .ok (.checkcast 138, 3) := dk_192 0 138 (dk_at dksX1_elementOf_0 8 rfl rfl)
theorem dX1_elementOf_11 : decode cX1_elementOf 11 = .ok (.iload_n 1, 1) := dk_27 (dk_at dksX1_elementOf_0 11 rfl rfl)
theorem dX1_elementOf_12 : decode cX1_elementOf 12 = .ok (.baload, 1) := dk_51 (dk_at dksX1_elementOf_0 12 rfl rfl)
theorem dX1_elementOf_13 : decode cX1_elementOf 13 = .ok (.goto 25, 3) := dk_167 0 25 (dk_at dksX1_elementOf_0 13 rfl rfl)
theorem dX1_elementOf_16 : decode cX1_elementOf 16 = .ok (.aload_n 0, 1) := dk_42 (dk_at dksX1_elementOf_0 16 rfl rfl)
theorem dX1_elementOf_17 : decode cX1_elementOf 17 = .ok (.instanceof 259, 3) := dk_193 1 3 (dk_at dksX1_elementOf_0 17 rfl rfl)
theorem dX1_elementOf_20 : decode cX1_elementOf 20 = .ok (.ifCond .eq 12, 3) := dk_153 0 12 (dk_at dksX1_elementOf_0 20 rfl rfl)
theorem dX1_elementOf_23 : decode cX1_elementOf 23 = .ok (.aload_n 0, 1) := dk_42 (dk_at dksX1_elementOf_0 23 rfl rfl)
theorem dX1_elementOf_24 : decode cX1_elementOf 24 = .ok (.checkcast 259, 3) := dk_192 1 3 (dk_at dksX1_elementOf_1 0 rfl rfl)
theorem dX1_elementOf_27 : decode cX1_elementOf 27 = .ok (.iload_n 1, 1) := dk_27 (dk_at dksX1_elementOf_1 3 rfl rfl)
theorem dX1_elementOf_28 : decode cX1_elementOf 28 = .ok (.saload, 1) := dk_53 (dk_at dksX1_elementOf_1 4 rfl rfl)
theorem dX1_elementOf_29 : decode cX1_elementOf 29 = .ok (.goto 9, 3) := dk_167 0 9 (dk_at dksX1_elementOf_1 5 rfl rfl)
theorem dX1_elementOf_32 : decode cX1_elementOf 32 = .ok (.aload_n 0, 1) := dk_42 (dk_at dksX1_elementOf_1 8 rfl rfl)
theorem dX1_elementOf_33 : decode cX1_elementOf 33 = .ok (.checkcast 261, 3) := dk_192 1 5 (dk_at dksX1_elementOf_1 9 rfl rfl)
theorem dX1_elementOf_36 : decode cX1_elementOf 36 = .ok (.iload_n 1, 1) := dk_27 (dk_at dksX1_elementOf_1 12 rfl rfl)
theorem dX1_elementOf_37 : decode cX1_elementOf 37 = .ok (.iaload, 1) := dk_46 (dk_at dksX1_elementOf_1 13 rfl rfl)
theorem dX1_elementOf_38 : decode cX1_elementOf 38 = .ok (.ireturn, 1) := dk_172 (dk_at dksX1_elementOf_1 14 rfl rfl)
abbrev cX1_joysIn : ByteArray := prog_1_method_44_code
def yX1_joysIn : MethodName := ⟨RX1, "joysIn", "(Ljava/lang/Object;II)I"⟩
def dkwX1_joysIn_0 : List UInt8 := [42, 180, 0, 109, 43, 5, 28, 104, 184, 1, 21, 43, 5, 29, 104, 4, 96, 184, 1, 21, 182, 0, 178, 172]
abbrev dktX1_joysIn_0 : List UInt8 := dkwX1_joysIn_0 ++ []
theorem dksX1_joysIn_0 : cX1_joysIn.data.toList.drop 0 = dktX1_joysIn_0 := by decide +kernel
theorem dX1_joysIn_0 : decode cX1_joysIn 0 = .ok (.aload_n 0, 1) := dk_42 (dk_at dksX1_joysIn_0 0 rfl rfl)
theorem dX1_joysIn_1 : decode cX1_joysIn 1 = .ok (.getfield 109, 3) := dk_180 0 109 (dk_at dksX1_joysIn_0 1 rfl rfl)
theorem dX1_joysIn_4 : decode cX1_joysIn 4 = .ok (.aload_n 1, 1) := dk_43 (dk_at dksX1_joysIn_0 4 rfl rfl)
theorem dX1_joysIn_5 : decode cX1_joysIn 5 = .ok (.iconst 2, 1) := dk_5 (dk_at dksX1_joysIn_0 5 rfl rfl)
theorem dX1_joysIn_6 : decode cX1_joysIn 6 = .ok (.iload_n 2, 1) := dk_28 (dk_at dksX1_joysIn_0 6 rfl rfl)
theorem dX1_joysIn_7 : decode cX1_joysIn 7 = .ok (.imul, 1) := dk_104 (dk_at dksX1_joysIn_0 7 rfl rfl)
theorem dX1_joysIn_8 : decode cX1_joysIn 8 = .ok (.invokestatic 277, 3) := dk_184 1 21 (dk_at dksX1_joysIn_0 8 rfl rfl)
theorem dX1_joysIn_11 : decode cX1_joysIn 11 = .ok (.aload_n 1, 1) := dk_43 (dk_at dksX1_joysIn_0 11 rfl rfl)
theorem dX1_joysIn_12 : decode cX1_joysIn 12 = .ok (.iconst 2, 1) := dk_5 (dk_at dksX1_joysIn_0 12 rfl rfl)
theorem dX1_joysIn_13 : decode cX1_joysIn 13 = .ok (.iload_n 3, 1) := dk_29 (dk_at dksX1_joysIn_0 13 rfl rfl)
theorem dX1_joysIn_14 : decode cX1_joysIn 14 = .ok (.imul, 1) := dk_104 (dk_at dksX1_joysIn_0 14 rfl rfl)
theorem dX1_joysIn_15 : decode cX1_joysIn 15 = .ok (.iconst 1, 1) := dk_4 (dk_at dksX1_joysIn_0 15 rfl rfl)
theorem dX1_joysIn_16 : decode cX1_joysIn 16 = .ok (.iadd, 1) := dk_96 (dk_at dksX1_joysIn_0 16 rfl rfl)
theorem dX1_joysIn_17 : decode cX1_joysIn 17 = .ok (.invokestatic 277, 3) := dk_184 1 21 (dk_at dksX1_joysIn_0 17 rfl rfl)
theorem dX1_joysIn_20 : decode cX1_joysIn 20 = .ok (.invokevirtual 178, 3) := dk_182 0 178 (dk_at dksX1_joysIn_0 20 rfl rfl)
theorem dX1_joysIn_23 : decode cX1_joysIn 23 = .ok (.ireturn, 1) := dk_172 (dk_at dksX1_joysIn_0 23 rfl rfl)
abbrev cX1_throat : ByteArray := prog_1_method_47_code
def yX1_throat : MethodName := ⟨RX1, "throat", "(IIII)I"⟩
def dkwX1_throat_4 : List UInt8 := [132, 7, 1, 167, 255, 208, 21, 4, 154, 0, 8, 21, 6, 167, 0, 8, 21, 6, 184, 1, 36, 172]
abbrev dktX1_throat_4 : List UInt8 := dkwX1_throat_4 ++ []
def dkwX1_throat_3 : List UInt8 := [184, 0, 73, 182, 0, 166, 184, 1, 32, 153, 0, 10, 4, 21, 7, 120, 167, 0, 4, 3, 128, 54, 6]
abbrev dktX1_throat_3 : List UInt8 := dkwX1_throat_3 ++ dktX1_throat_4
def dkwX1_throat_2 : List UInt8 := [21, 7, 16, 8, 162, 0, 47, 21, 6, 42, 180, 0, 128, 27, 50, 180, 0, 132, 28, 21, 7, 29]
abbrev dktX1_throat_2 : List UInt8 := dkwX1_throat_2 ++ dktX1_throat_3
def dkwX1_throat_1 : List UInt8 := [2, 172, 42, 27, 182, 1, 15, 54, 5, 21, 5, 153, 0, 6, 21, 5, 172, 3, 54, 6, 3, 54, 7]
abbrev dktX1_throat_1 : List UInt8 := dkwX1_throat_1 ++ dktX1_throat_2
def dkwX1_throat_0 : List UInt8 := [28, 184, 0, 40, 153, 0, 20, 29, 184, 0, 247, 153, 0, 13, 21, 4, 3, 4, 184, 0, 30, 154, 0, 5]
abbrev dktX1_throat_0 : List UInt8 := dkwX1_throat_0 ++ dktX1_throat_1
theorem dksX1_throat_0 : cX1_throat.data.toList.drop 0 = dktX1_throat_0 := by decide +kernel
theorem dksX1_throat_1 : cX1_throat.data.toList.drop 24 = dktX1_throat_1 := dk_seg dksX1_throat_0 24 rfl rfl
theorem dksX1_throat_2 : cX1_throat.data.toList.drop 47 = dktX1_throat_2 := dk_seg dksX1_throat_1 23 rfl rfl
theorem dksX1_throat_3 : cX1_throat.data.toList.drop 69 = dktX1_throat_3 := dk_seg dksX1_throat_2 22 rfl rfl
theorem dksX1_throat_4 : cX1_throat.data.toList.drop 92 = dktX1_throat_4 := dk_seg dksX1_throat_3 23 rfl rfl
theorem dX1_throat_0 : decode cX1_throat 0 = .ok (.iload_n 2, 1) := dk_28 (dk_at dksX1_throat_0 0 rfl rfl)
theorem dX1_throat_1 : decode cX1_throat 1 = .ok (.invokestatic 40, 3) := dk_184 0 40 (dk_at dksX1_throat_0 1 rfl rfl)
theorem dX1_throat_4 : decode cX1_throat 4 = .ok (.ifCond .eq 20, 3) := dk_153 0 20 (dk_at dksX1_throat_0 4 rfl rfl)
theorem dX1_throat_7 : decode cX1_throat 7 = .ok (.iload_n 3, 1) := dk_29 (dk_at dksX1_throat_0 7 rfl rfl)
theorem dX1_throat_8 : decode cX1_throat 8 = .ok (.invokestatic 247, 3) := dk_184 0 247 (dk_at dksX1_throat_0 8 rfl rfl)
theorem dX1_throat_11 : decode cX1_throat 11 = .ok (.ifCond .eq 13, 3) := dk_153 0 13 (dk_at dksX1_throat_0 11 rfl rfl)
theorem dX1_throat_14 : decode cX1_throat 14 = .ok (.iload 4, 2) := dk_21 4 (dk_at dksX1_throat_0 14 rfl rfl)
theorem dX1_throat_16 : decode cX1_throat 16 = .ok (.iconst 0, 1) := dk_3 (dk_at dksX1_throat_0 16 rfl rfl)
theorem dX1_throat_17 : decode cX1_throat 17 = .ok (.iconst 1, 1) := dk_4 (dk_at dksX1_throat_0 17 rfl rfl)
theorem dX1_throat_18 : decode cX1_throat 18 = .ok (.invokestatic 30, 3) := dk_184 0 30 (dk_at dksX1_throat_0 18 rfl rfl)
theorem dX1_throat_21 : decode cX1_throat 21 = .ok (.ifCond .ne 5, 3) := dk_154 0 5 (dk_at dksX1_throat_0 21 rfl rfl)
theorem dX1_throat_24 : decode cX1_throat 24 = .ok (.iconst (-1), 1) := dk_2 (dk_at dksX1_throat_1 0 rfl rfl)
theorem dX1_throat_25 : decode cX1_throat 25 = .ok (.ireturn, 1) := dk_172 (dk_at dksX1_throat_1 1 rfl rfl)
theorem dX1_throat_26 : decode cX1_throat 26 = .ok (.aload_n 0, 1) := dk_42 (dk_at dksX1_throat_1 2 rfl rfl)
theorem dX1_throat_27 : decode cX1_throat 27 = .ok (.iload_n 1, 1) := dk_27 (dk_at dksX1_throat_1 3 rfl rfl)
theorem dX1_throat_28 : decode cX1_throat 28 = .ok (.invokevirtual 271, 3) := dk_182 1 15 (dk_at dksX1_throat_1 4 rfl rfl)
theorem dX1_throat_31 : decode cX1_throat 31 = .ok (.istore 5, 2) := dk_54 5 (dk_at dksX1_throat_1 7 rfl rfl)
theorem dX1_throat_33 : decode cX1_throat 33 = .ok (.iload 5, 2) := dk_21 5 (dk_at dksX1_throat_1 9 rfl rfl)
theorem dX1_throat_35 : decode cX1_throat 35 = .ok (.ifCond .eq 6, 3) := dk_153 0 6 (dk_at dksX1_throat_1 11 rfl rfl)
theorem dX1_throat_38 : decode cX1_throat 38 = .ok (.iload 5, 2) := dk_21 5 (dk_at dksX1_throat_1 14 rfl rfl)
theorem dX1_throat_40 : decode cX1_throat 40 = .ok (.ireturn, 1) := dk_172 (dk_at dksX1_throat_1 16 rfl rfl)
theorem dX1_throat_41 : decode cX1_throat 41 = .ok (.iconst 0, 1) := dk_3 (dk_at dksX1_throat_1 17 rfl rfl)
theorem dX1_throat_42 : decode cX1_throat 42 = .ok (.istore 6, 2) := dk_54 6 (dk_at dksX1_throat_1 18 rfl rfl)
theorem dX1_throat_44 : decode cX1_throat 44 = .ok (.iconst 0, 1) := dk_3 (dk_at dksX1_throat_1 20 rfl rfl)
theorem dX1_throat_45 : decode cX1_throat 45 = .ok (.istore 7, 2) := dk_54 7 (dk_at dksX1_throat_1 21 rfl rfl)
theorem dX1_throat_47 : decode cX1_throat 47 = .ok (.iload 7, 2) := dk_21 7 (dk_at dksX1_throat_2 0 rfl rfl)
theorem dX1_throat_49 : decode cX1_throat 49 = .ok (.bipush 8, 2) := dk_16 8 (dk_at dksX1_throat_2 2 rfl rfl)
theorem dX1_throat_51 : decode cX1_throat 51 = .ok (.if_icmp .ge 47, 3) := dk_162 0 47 (dk_at dksX1_throat_2 4 rfl rfl)
theorem dX1_throat_54 : decode cX1_throat 54 = .ok (.iload 6, 2) := dk_21 6 (dk_at dksX1_throat_2 7 rfl rfl)
theorem dX1_throat_56 : decode cX1_throat 56 = .ok (.aload_n 0, 1) := dk_42 (dk_at dksX1_throat_2 9 rfl rfl)
theorem dX1_throat_57 : decode cX1_throat 57 = .ok (.getfield 128, 3) := dk_180 0 128 (dk_at dksX1_throat_2 10 rfl rfl)
theorem dX1_throat_60 : decode cX1_throat 60 = .ok (.iload_n 1, 1) := dk_27 (dk_at dksX1_throat_2 13 rfl rfl)
theorem dX1_throat_61 : decode cX1_throat 61 = .ok (.aaload, 1) := dk_50 (dk_at dksX1_throat_2 14 rfl rfl)
theorem dX1_throat_62 : decode cX1_throat 62 = .ok (.getfield 132, 3) := dk_180 0 132 (dk_at dksX1_throat_2 15 rfl rfl)
theorem dX1_throat_65 : decode cX1_throat 65 = .ok (.iload_n 2, 1) := dk_28 (dk_at dksX1_throat_2 18 rfl rfl)
theorem dX1_throat_66 : decode cX1_throat 66 = .ok (.iload 7, 2) := dk_21 7 (dk_at dksX1_throat_2 19 rfl rfl)
theorem dX1_throat_68 : decode cX1_throat 68 = .ok (.iload_n 3, 1) := dk_29 (dk_at dksX1_throat_2 21 rfl rfl)
theorem dX1_throat_69 : decode cX1_throat 69 = .ok (.invokestatic 73, 3) := dk_184 0 73 (dk_at dksX1_throat_3 0 rfl rfl)
theorem dX1_throat_72 : decode cX1_throat 72 = .ok (.invokevirtual 166, 3) := dk_182 0 166 (dk_at dksX1_throat_3 3 rfl rfl)
theorem dX1_throat_75 : decode cX1_throat 75 = .ok (.invokestatic 288, 3) := dk_184 1 32 (dk_at dksX1_throat_3 6 rfl rfl)
theorem dX1_throat_78 : decode cX1_throat 78 = .ok (.ifCond .eq 10, 3) := dk_153 0 10 (dk_at dksX1_throat_3 9 rfl rfl)
theorem dX1_throat_81 : decode cX1_throat 81 = .ok (.iconst 1, 1) := dk_4 (dk_at dksX1_throat_3 12 rfl rfl)
theorem dX1_throat_82 : decode cX1_throat 82 = .ok (.iload 7, 2) := dk_21 7 (dk_at dksX1_throat_3 13 rfl rfl)
theorem dX1_throat_84 : decode cX1_throat 84 = .ok (.ishl, 1) := dk_120 (dk_at dksX1_throat_3 15 rfl rfl)
theorem dX1_throat_85 : decode cX1_throat 85 = .ok (.goto 4, 3) := dk_167 0 4 (dk_at dksX1_throat_3 16 rfl rfl)
theorem dX1_throat_88 : decode cX1_throat 88 = .ok (.iconst 0, 1) := dk_3 (dk_at dksX1_throat_3 19 rfl rfl)
theorem dX1_throat_89 : decode cX1_throat 89 = .ok (.ior, 1) := dk_128 (dk_at dksX1_throat_3 20 rfl rfl)
theorem dX1_throat_90 : decode cX1_throat 90 = .ok (.istore 6, 2) := dk_54 6 (dk_at dksX1_throat_3 21 rfl rfl)
theorem dX1_throat_92 : decode cX1_throat 92 = .ok (.iinc 7 1, 3) := dk_132 7 1 (dk_at dksX1_throat_4 0 rfl rfl)
theorem dX1_throat_95 : decode cX1_throat 95 = .ok (.goto (-48), 3) := dk_167 255 208 (dk_at dksX1_throat_4 3 rfl rfl)
theorem dX1_throat_98 : decode cX1_throat 98 = .ok (.iload 4, 2) := dk_21 4 (dk_at dksX1_throat_4 6 rfl rfl)
theorem dX1_throat_100 : decode cX1_throat 100 = .ok (.ifCond .ne 8, 3) := dk_154 0 8 (dk_at dksX1_throat_4 8 rfl rfl)
theorem dX1_throat_103 : decode cX1_throat 103 = .ok (.iload 6, 2) := dk_21 6 (dk_at dksX1_throat_4 11 rfl rfl)
theorem dX1_throat_105 : decode cX1_throat 105 = .ok (.goto 8, 3) := dk_167 0 8 (dk_at dksX1_throat_4 13 rfl rfl)
theorem dX1_throat_108 : decode cX1_throat 108 = .ok (.iload 6, 2) := dk_21 6 (dk_at dksX1_throat_4 16 rfl rfl)
theorem dX1_throat_110 : decode cX1_throat 110 = .ok (.invokestatic 292, 3) := dk_184 1 36 (dk_at dksX1_throat_4 18 rfl rfl)
theorem dX1_throat_113 : decode cX1_throat 113 = .ok (.ireturn, 1) := dk_172 (dk_at dksX1_throat_4 21 rfl rfl)
abbrev cX1_isThroat : ByteArray := prog_1_method_46_code
def yX1_isThroat : MethodName := ⟨RX1, "isThroat", "(Ljava/lang/Object;II)Z"⟩
def dkwX1_isThroat_1 : List UInt8 := [184, 1, 21, 21, 5, 159, 0, 5, 3, 172, 29, 21, 5, 100, 62, 132, 4, 1, 167, 255, 219, 4, 172]
abbrev dktX1_isThroat_1 : List UInt8 := dkwX1_isThroat_1 ++ []
def dkwX1_isThroat_0 : List UInt8 := [27, 62, 3, 54, 4, 21, 4, 42, 184, 1, 18, 162, 0, 34, 29, 28, 184, 0, 225, 54, 5, 42, 21, 4]
abbrev dktX1_isThroat_0 : List UInt8 := dkwX1_isThroat_0 ++ dktX1_isThroat_1
theorem dksX1_isThroat_0 : cX1_isThroat.data.toList.drop 0 = dktX1_isThroat_0 := by decide +kernel
theorem dksX1_isThroat_1 : cX1_isThroat.data.toList.drop 24 = dktX1_isThroat_1 := dk_seg dksX1_isThroat_0 24 rfl rfl
theorem dX1_isThroat_0 : decode cX1_isThroat 0 = .ok (.iload_n 1, 1) := dk_27 (dk_at dksX1_isThroat_0 0 rfl rfl)
theorem dX1_isThroat_1 : decode cX1_isThroat 1 = .ok (.istore_n 3, 1) := dk_62 (dk_at dksX1_isThroat_0 1 rfl rfl)
theorem dX1_isThroat_2 : decode cX1_isThroat 2 = .ok (.iconst 0, 1) := dk_3 (dk_at dksX1_isThroat_0 2 rfl rfl)
theorem dX1_isThroat_3 : decode cX1_isThroat 3 = .ok (.istore 4, 2) := dk_54 4 (dk_at dksX1_isThroat_0 3 rfl rfl)
theorem dX1_isThroat_5 : decode cX1_isThroat 5 = .ok (.iload 4, 2) := dk_21 4 (dk_at dksX1_isThroat_0 5 rfl rfl)
theorem dX1_isThroat_7 : decode cX1_isThroat 7 = .ok (.aload_n 0, 1) := dk_42 (dk_at dksX1_isThroat_0 7 rfl rfl)
theorem dX1_isThroat_8 : decode cX1_isThroat 8 = .ok (.invokestatic 274, 3) := dk_184 1 18 (dk_at dksX1_isThroat_0 8 rfl rfl)
theorem dX1_isThroat_11 : decode cX1_isThroat 11 = .ok (.if_icmp .ge 34, 3) := dk_162 0 34 (dk_at dksX1_isThroat_0 11 rfl rfl)
theorem dX1_isThroat_14 : decode cX1_isThroat 14 = .ok (.iload_n 3, 1) := dk_29 (dk_at dksX1_isThroat_0 14 rfl rfl)
theorem dX1_isThroat_15 : decode cX1_isThroat 15 = .ok (.iload_n 2, 1) := dk_28 (dk_at dksX1_isThroat_0 15 rfl rfl)
theorem dX1_isThroat_16 : decode cX1_isThroat 16 = .ok (.invokestatic 225, 3) := dk_184 0 225 (dk_at dksX1_isThroat_0 16 rfl rfl)
theorem dX1_isThroat_19 : decode cX1_isThroat 19 = .ok (.istore 5, 2) := dk_54 5 (dk_at dksX1_isThroat_0 19 rfl rfl)
theorem dX1_isThroat_21 : decode cX1_isThroat 21 = .ok (.aload_n 0, 1) := dk_42 (dk_at dksX1_isThroat_0 21 rfl rfl)
theorem dX1_isThroat_22 : decode cX1_isThroat 22 = .ok (.iload 4, 2) := dk_21 4 (dk_at dksX1_isThroat_0 22 rfl rfl)
theorem dX1_isThroat_24 : decode cX1_isThroat 24 = .ok (.invokestatic 277, 3) := dk_184 1 21 (dk_at dksX1_isThroat_1 0 rfl rfl)
theorem dX1_isThroat_27 : decode cX1_isThroat 27 = .ok (.iload 5, 2) := dk_21 5 (dk_at dksX1_isThroat_1 3 rfl rfl)
theorem dX1_isThroat_29 : decode cX1_isThroat 29 = .ok (.if_icmp .eq 5, 3) := dk_159 0 5 (dk_at dksX1_isThroat_1 5 rfl rfl)
theorem dX1_isThroat_32 : decode cX1_isThroat 32 = .ok (.iconst 0, 1) := dk_3 (dk_at dksX1_isThroat_1 8 rfl rfl)
theorem dX1_isThroat_33 : decode cX1_isThroat 33 = .ok (.ireturn, 1) := dk_172 (dk_at dksX1_isThroat_1 9 rfl rfl)
theorem dX1_isThroat_34 : decode cX1_isThroat 34 = .ok (.iload_n 3, 1) := dk_29 (dk_at dksX1_isThroat_1 10 rfl rfl)
theorem dX1_isThroat_35 : decode cX1_isThroat 35 = .ok (.iload 5, 2) := dk_21 5 (dk_at dksX1_isThroat_1 11 rfl rfl)
theorem dX1_isThroat_37 : decode cX1_isThroat 37 = .ok (.isub, 1) := dk_100 (dk_at dksX1_isThroat_1 13 rfl rfl)
theorem dX1_isThroat_38 : decode cX1_isThroat 38 = .ok (.istore_n 3, 1) := dk_62 (dk_at dksX1_isThroat_1 14 rfl rfl)
theorem dX1_isThroat_39 : decode cX1_isThroat 39 = .ok (.iinc 4 1, 3) := dk_132 4 1 (dk_at dksX1_isThroat_1 15 rfl rfl)
theorem dX1_isThroat_42 : decode cX1_isThroat 42 = .ok (.goto (-37), 3) := dk_167 255 219 (dk_at dksX1_isThroat_1 18 rfl rfl)
theorem dX1_isThroat_45 : decode cX1_isThroat 45 = .ok (.iconst 1, 1) := dk_4 (dk_at dksX1_isThroat_1 21 rfl rfl)
theorem dX1_isThroat_46 : decode cX1_isThroat 46 = .ok (.ireturn, 1) := dk_172 (dk_at dksX1_isThroat_1 22 rfl rfl)
abbrev cX1_lastOnes : ByteArray := prog_1_method_48_code
def yX1_lastOnes : MethodName := ⟨RX1, "lastOnes", "(III)I"⟩
def dkwX1_lastOnes_2 : List UInt8 := [167, 0, 13, 21, 4, 158, 0, 7, 4, 167, 0, 4, 3, 172]
abbrev dktX1_lastOnes_2 : List UInt8 := dkwX1_lastOnes_2 ++ []
def dkwX1_lastOnes_1 : List UInt8 := [184, 0, 30, 154, 0, 5, 2, 172, 27, 28, 4, 96, 112, 54, 4, 29, 4, 160, 0, 8, 21, 4]
abbrev dktX1_lastOnes_1 : List UInt8 := dkwX1_lastOnes_1 ++ dktX1_lastOnes_2
def dkwX1_lastOnes_0 : List UInt8 := [27, 3, 16, 99, 184, 0, 30, 153, 0, 22, 28, 4, 16, 9, 184, 0, 30, 153, 0, 12, 29, 3, 4]
abbrev dktX1_lastOnes_0 : List UInt8 := dkwX1_lastOnes_0 ++ dktX1_lastOnes_1
theorem dksX1_lastOnes_0 : cX1_lastOnes.data.toList.drop 0 = dktX1_lastOnes_0 := by decide +kernel
theorem dksX1_lastOnes_1 : cX1_lastOnes.data.toList.drop 23 = dktX1_lastOnes_1 := dk_seg dksX1_lastOnes_0 23 rfl rfl
theorem dksX1_lastOnes_2 : cX1_lastOnes.data.toList.drop 45 = dktX1_lastOnes_2 := dk_seg dksX1_lastOnes_1 22 rfl rfl
theorem dX1_lastOnes_0 : decode cX1_lastOnes 0 = .ok (.iload_n 1, 1) := dk_27 (dk_at dksX1_lastOnes_0 0 rfl rfl)
theorem dX1_lastOnes_1 : decode cX1_lastOnes 1 = .ok (.iconst 0, 1) := dk_3 (dk_at dksX1_lastOnes_0 1 rfl rfl)
theorem dX1_lastOnes_2 : decode cX1_lastOnes 2 = .ok (.bipush 99, 2) := dk_16 99 (dk_at dksX1_lastOnes_0 2 rfl rfl)
theorem dX1_lastOnes_4 : decode cX1_lastOnes 4 = .ok (.invokestatic 30, 3) := dk_184 0 30 (dk_at dksX1_lastOnes_0 4 rfl rfl)
theorem dX1_lastOnes_7 : decode cX1_lastOnes 7 = .ok (.ifCond .eq 22, 3) := dk_153 0 22 (dk_at dksX1_lastOnes_0 7 rfl rfl)
theorem dX1_lastOnes_10 : decode cX1_lastOnes 10 = .ok (.iload_n 2, 1) := dk_28 (dk_at dksX1_lastOnes_0 10 rfl rfl)
theorem dX1_lastOnes_11 : decode cX1_lastOnes 11 = .ok (.iconst 1, 1) := dk_4 (dk_at dksX1_lastOnes_0 11 rfl rfl)
theorem dX1_lastOnes_12 : decode cX1_lastOnes 12 = .ok (.bipush 9, 2) := dk_16 9 (dk_at dksX1_lastOnes_0 12 rfl rfl)
theorem dX1_lastOnes_14 : decode cX1_lastOnes 14 = .ok (.invokestatic 30, 3) := dk_184 0 30 (dk_at dksX1_lastOnes_0 14 rfl rfl)
theorem dX1_lastOnes_17 : decode cX1_lastOnes 17 = .ok (.ifCond .eq 12, 3) := dk_153 0 12 (dk_at dksX1_lastOnes_0 17 rfl rfl)
theorem dX1_lastOnes_20 : decode cX1_lastOnes 20 = .ok (.iload_n 3, 1) := dk_29 (dk_at dksX1_lastOnes_0 20 rfl rfl)
theorem dX1_lastOnes_21 : decode cX1_lastOnes 21 = .ok (.iconst 0, 1) := dk_3 (dk_at dksX1_lastOnes_0 21 rfl rfl)
theorem dX1_lastOnes_22 : decode cX1_lastOnes 22 = .ok (.iconst 1, 1) := dk_4 (dk_at dksX1_lastOnes_0 22 rfl rfl)
theorem dX1_lastOnes_23 : decode cX1_lastOnes 23 = .ok (.invokestatic 30, 3) := dk_184 0 30 (dk_at dksX1_lastOnes_1 0 rfl rfl)
theorem dX1_lastOnes_26 : decode cX1_lastOnes 26 = .ok (.ifCond .ne 5, 3) := dk_154 0 5 (dk_at dksX1_lastOnes_1 3 rfl rfl)
theorem dX1_lastOnes_29 : decode cX1_lastOnes 29 = .ok (.iconst (-1), 1) := dk_2 (dk_at dksX1_lastOnes_1 6 rfl rfl)
theorem dX1_lastOnes_30 : decode cX1_lastOnes 30 = .ok (.ireturn, 1) := dk_172 (dk_at dksX1_lastOnes_1 7 rfl rfl)
theorem dX1_lastOnes_31 : decode cX1_lastOnes 31 = .ok (.iload_n 1, 1) := dk_27 (dk_at dksX1_lastOnes_1 8 rfl rfl)
theorem dX1_lastOnes_32 : decode cX1_lastOnes 32 = .ok (.iload_n 2, 1) := dk_28 (dk_at dksX1_lastOnes_1 9 rfl rfl)
theorem dX1_lastOnes_33 : decode cX1_lastOnes 33 = .ok (.iconst 1, 1) := dk_4 (dk_at dksX1_lastOnes_1 10 rfl rfl)
theorem dX1_lastOnes_34 : decode cX1_lastOnes 34 = .ok (.iadd, 1) := dk_96 (dk_at dksX1_lastOnes_1 11 rfl rfl)
theorem dX1_lastOnes_35 : decode cX1_lastOnes 35 = .ok (.irem, 1) := dk_112 (dk_at dksX1_lastOnes_1 12 rfl rfl)
theorem dX1_lastOnes_36 : decode cX1_lastOnes 36 = .ok (.istore 4, 2) := dk_54 4 (dk_at dksX1_lastOnes_1 13 rfl rfl)
theorem dX1_lastOnes_38 : decode cX1_lastOnes 38 = .ok (.iload_n 3, 1) := dk_29 (dk_at dksX1_lastOnes_1 15 rfl rfl)
theorem dX1_lastOnes_39 : decode cX1_lastOnes 39 = .ok (.iconst 1, 1) := dk_4 (dk_at dksX1_lastOnes_1 16 rfl rfl)
theorem dX1_lastOnes_40 : decode cX1_lastOnes 40 = .ok (.if_icmp .ne 8, 3) := dk_160 0 8 (dk_at dksX1_lastOnes_1 17 rfl rfl)
theorem dX1_lastOnes_43 : decode cX1_lastOnes 43 = .ok (.iload 4, 2) := dk_21 4 (dk_at dksX1_lastOnes_1 20 rfl rfl)
theorem dX1_lastOnes_45 : decode cX1_lastOnes 45 = .ok (.goto 13, 3) := dk_167 0 13 (dk_at dksX1_lastOnes_2 0 rfl rfl)
theorem dX1_lastOnes_48 : decode cX1_lastOnes 48 = .ok (.iload 4, 2) := dk_21 4 (dk_at dksX1_lastOnes_2 3 rfl rfl)
theorem dX1_lastOnes_50 : decode cX1_lastOnes 50 = .ok (.ifCond .le 7, 3) := dk_158 0 7 (dk_at dksX1_lastOnes_2 5 rfl rfl)
theorem dX1_lastOnes_53 : decode cX1_lastOnes 53 = .ok (.iconst 1, 1) := dk_4 (dk_at dksX1_lastOnes_2 8 rfl rfl)
theorem dX1_lastOnes_54 : decode cX1_lastOnes 54 = .ok (.goto 4, 3) := dk_167 0 4 (dk_at dksX1_lastOnes_2 9 rfl rfl)
theorem dX1_lastOnes_57 : decode cX1_lastOnes 57 = .ok (.iconst 0, 1) := dk_3 (dk_at dksX1_lastOnes_2 12 rfl rfl)
theorem dX1_lastOnes_58 : decode cX1_lastOnes 58 = .ok (.ireturn, 1) := dk_172 (dk_at dksX1_lastOnes_2 13 rfl rfl)
abbrev cX1_shares : ByteArray := prog_1_method_51_code
def yX1_shares : MethodName := ⟨RX1, "shares", "(I)I"⟩
def dkwX1_shares_2 : List UInt8 := [162, 0, 17, 28, 42, 29, 182, 1, 42, 100, 61, 132, 3, 1, 167, 255, 234, 28, 172]
abbrev dktX1_shares_2 : List UInt8 := dkwX1_shares_2 ++ []
def dkwX1_shares_1 : List UInt8 := [182, 1, 42, 172, 42, 180, 0, 109, 180, 0, 81, 61, 3, 62, 29, 42, 180, 0, 109, 180, 0, 70]
abbrev dktX1_shares_1 : List UInt8 := dkwX1_shares_1 ++ dktX1_shares_2
def dkwX1_shares_0 : List UInt8 := [27, 2, 161, 0, 14, 27, 42, 180, 0, 109, 180, 0, 70, 161, 0, 5, 2, 172, 27, 155, 0, 9, 42, 27]
abbrev dktX1_shares_0 : List UInt8 := dkwX1_shares_0 ++ dktX1_shares_1
theorem dksX1_shares_0 : cX1_shares.data.toList.drop 0 = dktX1_shares_0 := by decide +kernel
theorem dksX1_shares_1 : cX1_shares.data.toList.drop 24 = dktX1_shares_1 := dk_seg dksX1_shares_0 24 rfl rfl
theorem dksX1_shares_2 : cX1_shares.data.toList.drop 46 = dktX1_shares_2 := dk_seg dksX1_shares_1 22 rfl rfl
theorem dX1_shares_0 : decode cX1_shares 0 = .ok (.iload_n 1, 1) := dk_27 (dk_at dksX1_shares_0 0 rfl rfl)
theorem dX1_shares_1 : decode cX1_shares 1 = .ok (.iconst (-1), 1) := dk_2 (dk_at dksX1_shares_0 1 rfl rfl)
theorem dX1_shares_2 : decode cX1_shares 2 = .ok (.if_icmp .lt 14, 3) := dk_161 0 14 (dk_at dksX1_shares_0 2 rfl rfl)
theorem dX1_shares_5 : decode cX1_shares 5 = .ok (.iload_n 1, 1) := dk_27 (dk_at dksX1_shares_0 5 rfl rfl)
theorem dX1_shares_6 : decode cX1_shares 6 = .ok (.aload_n 0, 1) := dk_42 (dk_at dksX1_shares_0 6 rfl rfl)
theorem dX1_shares_7 : decode cX1_shares 7 = .ok (.getfield 109, 3) := dk_180 0 109 (dk_at dksX1_shares_0 7 rfl rfl)
theorem dX1_shares_10 : decode cX1_shares 10 = .ok (.getfield 70, 3) := dk_180 0 70 (dk_at dksX1_shares_0 10 rfl rfl)
theorem dX1_shares_13 : decode cX1_shares 13 = .ok (.if_icmp .lt 5, 3) := dk_161 0 5 (dk_at dksX1_shares_0 13 rfl rfl)
theorem dX1_shares_16 : decode cX1_shares 16 = .ok (.iconst (-1), 1) := dk_2 (dk_at dksX1_shares_0 16 rfl rfl)
theorem dX1_shares_17 : decode cX1_shares 17 = .ok (.ireturn, 1) := dk_172 (dk_at dksX1_shares_0 17 rfl rfl)
theorem dX1_shares_18 : decode cX1_shares 18 = .ok (.iload_n 1, 1) := dk_27 (dk_at dksX1_shares_0 18 rfl rfl)
theorem dX1_shares_19 : decode cX1_shares 19 = .ok (.ifCond .lt 9, 3) := dk_155 0 9 (dk_at dksX1_shares_0 19 rfl rfl)
theorem dX1_shares_22 : decode cX1_shares 22 = .ok (.aload_n 0, 1) := dk_42 (dk_at dksX1_shares_0 22 rfl rfl)
theorem dX1_shares_23 : decode cX1_shares 23 = .ok (.iload_n 1, 1) := dk_27 (dk_at dksX1_shares_0 23 rfl rfl)
theorem dX1_shares_24 : decode cX1_shares 24 = .ok (.invokevirtual 298, 3) := dk_182 1 42 (dk_at dksX1_shares_1 0 rfl rfl)
theorem dX1_shares_27 : decode cX1_shares 27 = .ok (.ireturn, 1) := dk_172 (dk_at dksX1_shares_1 3 rfl rfl)
theorem dX1_shares_28 : decode cX1_shares 28 = .ok (.aload_n 0, 1) := dk_42 (dk_at dksX1_shares_1 4 rfl rfl)
theorem dX1_shares_29 : decode cX1_shares 29 = .ok (.getfield 109, 3) := dk_180 0 109 (dk_at dksX1_shares_1 5 rfl rfl)
theorem dX1_shares_32 : decode cX1_shares 32 = .ok (.getfield 81, 3) := dk_180 0 81 (dk_at dksX1_shares_1 8 rfl rfl)
theorem dX1_shares_35 : decode cX1_shares 35 = .ok (.istore_n 2, 1) := dk_61 (dk_at dksX1_shares_1 11 rfl rfl)
theorem dX1_shares_36 : decode cX1_shares 36 = .ok (.iconst 0, 1) := dk_3 (dk_at dksX1_shares_1 12 rfl rfl)
theorem dX1_shares_37 : decode cX1_shares 37 = .ok (.istore_n 3, 1) := dk_62 (dk_at dksX1_shares_1 13 rfl rfl)
theorem dX1_shares_38 : decode cX1_shares 38 = .ok (.iload_n 3, 1) := dk_29 (dk_at dksX1_shares_1 14 rfl rfl)
theorem dX1_shares_39 : decode cX1_shares 39 = .ok (.aload_n 0, 1) := dk_42 (dk_at dksX1_shares_1 15 rfl rfl)
theorem dX1_shares_40 : decode cX1_shares 40 = .ok (.getfield 109, 3) := dk_180 0 109 (dk_at dksX1_shares_1 16 rfl rfl)
theorem dX1_shares_43 : decode cX1_shares 43 = .ok (.getfield 70, 3) := dk_180 0 70 (dk_at dksX1_shares_1 19 rfl rfl)
theorem dX1_shares_46 : decode cX1_shares 46 = .ok (.if_icmp .ge 17, 3) := dk_162 0 17 (dk_at dksX1_shares_2 0 rfl rfl)
theorem dX1_shares_49 : decode cX1_shares 49 = .ok (.iload_n 2, 1) := dk_28 (dk_at dksX1_shares_2 3 rfl rfl)
theorem dX1_shares_50 : decode cX1_shares 50 = .ok (.aload_n 0, 1) := dk_42 (dk_at dksX1_shares_2 4 rfl rfl)
theorem dX1_shares_51 : decode cX1_shares 51 = .ok (.iload_n 3, 1) := dk_29 (dk_at dksX1_shares_2 5 rfl rfl)
theorem dX1_shares_52 : decode cX1_shares 52 = .ok (.invokevirtual 298, 3) := dk_182 1 42 (dk_at dksX1_shares_2 6 rfl rfl)
theorem dX1_shares_55 : decode cX1_shares 55 = .ok (.isub, 1) := dk_100 (dk_at dksX1_shares_2 9 rfl rfl)
theorem dX1_shares_56 : decode cX1_shares 56 = .ok (.istore_n 2, 1) := dk_61 (dk_at dksX1_shares_2 10 rfl rfl)
theorem dX1_shares_57 : decode cX1_shares 57 = .ok (.iinc 3 1, 3) := dk_132 3 1 (dk_at dksX1_shares_2 11 rfl rfl)
theorem dX1_shares_60 : decode cX1_shares 60 = .ok (.goto (-22), 3) := dk_167 255 234 (dk_at dksX1_shares_2 14 rfl rfl)
theorem dX1_shares_63 : decode cX1_shares 63 = .ok (.iload_n 2, 1) := dk_28 (dk_at dksX1_shares_2 17 rfl rfl)
theorem dX1_shares_64 : decode cX1_shares 64 = .ok (.ireturn, 1) := dk_172 (dk_at dksX1_shares_2 18 rfl rfl)
abbrev cX1_shareOf : ByteArray := prog_1_method_50_code
def yX1_shareOf : MethodName := ⟨RX1, "shareOf", "(I)I"⟩
def dkwX1_shareOf_1 : List UInt8 := [180, 0, 109, 180, 0, 43, 27, 46, 104, 42, 182, 1, 39, 108, 172]
abbrev dktX1_shareOf_1 : List UInt8 := dkwX1_shareOf_1 ++ []
def dkwX1_shareOf_0 : List UInt8 := [42, 180, 0, 109, 180, 0, 43, 27, 46, 154, 0, 7, 3, 167, 0, 25, 42, 180, 0, 109, 180, 0, 81, 42]
abbrev dktX1_shareOf_0 : List UInt8 := dkwX1_shareOf_0 ++ dktX1_shareOf_1
theorem dksX1_shareOf_0 : cX1_shareOf.data.toList.drop 0 = dktX1_shareOf_0 := by decide +kernel
theorem dksX1_shareOf_1 : cX1_shareOf.data.toList.drop 24 = dktX1_shareOf_1 := dk_seg dksX1_shareOf_0 24 rfl rfl
theorem dX1_shareOf_0 : decode cX1_shareOf 0 = .ok (.aload_n 0, 1) := dk_42 (dk_at dksX1_shareOf_0 0 rfl rfl)
theorem dX1_shareOf_1 : decode cX1_shareOf 1 = .ok (.getfield 109, 3) := dk_180 0 109 (dk_at dksX1_shareOf_0 1 rfl rfl)
theorem dX1_shareOf_4 : decode cX1_shareOf 4 = .ok (.getfield 43, 3) := dk_180 0 43 (dk_at dksX1_shareOf_0 4 rfl rfl)
theorem dX1_shareOf_7 : decode cX1_shareOf 7 = .ok (.iload_n 1, 1) := dk_27 (dk_at dksX1_shareOf_0 7 rfl rfl)
theorem dX1_shareOf_8 : decode cX1_shareOf 8 = .ok (.iaload, 1) := dk_46 (dk_at dksX1_shareOf_0 8 rfl rfl)
theorem dX1_shareOf_9 : decode cX1_shareOf 9 = .ok (.ifCond .ne 7, 3) := dk_154 0 7 (dk_at dksX1_shareOf_0 9 rfl rfl)
theorem dX1_shareOf_12 : decode cX1_shareOf 12 = .ok (.iconst 0, 1) := dk_3 (dk_at dksX1_shareOf_0 12 rfl rfl)
theorem dX1_shareOf_13 : decode cX1_shareOf 13 = .ok (.goto 25, 3) := dk_167 0 25 (dk_at dksX1_shareOf_0 13 rfl rfl)
theorem dX1_shareOf_16 : decode cX1_shareOf 16 = .ok (.aload_n 0, 1) := dk_42 (dk_at dksX1_shareOf_0 16 rfl rfl)
theorem dX1_shareOf_17 : decode cX1_shareOf 17 = .ok (.getfield 109, 3) := dk_180 0 109 (dk_at dksX1_shareOf_0 17 rfl rfl)
theorem dX1_shareOf_20 : decode cX1_shareOf 20 = .ok (.getfield 81, 3) := dk_180 0 81 (dk_at dksX1_shareOf_0 20 rfl rfl)
theorem dX1_shareOf_23 : decode cX1_shareOf 23 = .ok (.aload_n 0, 1) := dk_42 (dk_at dksX1_shareOf_0 23 rfl rfl)
theorem dX1_shareOf_24 : decode cX1_shareOf 24 = .ok (.getfield 109, 3) := dk_180 0 109 (dk_at dksX1_shareOf_1 0 rfl rfl)
theorem dX1_shareOf_27 : decode cX1_shareOf 27 = .ok (.getfield 43, 3) := dk_180 0 43 (dk_at dksX1_shareOf_1 3 rfl rfl)
theorem dX1_shareOf_30 : decode cX1_shareOf 30 = .ok (.iload_n 1, 1) := dk_27 (dk_at dksX1_shareOf_1 6 rfl rfl)
theorem dX1_shareOf_31 : decode cX1_shareOf 31 = .ok (.iaload, 1) := dk_46 (dk_at dksX1_shareOf_1 7 rfl rfl)
theorem dX1_shareOf_32 : decode cX1_shareOf 32 = .ok (.imul, 1) := dk_104 (dk_at dksX1_shareOf_1 8 rfl rfl)
theorem dX1_shareOf_33 : decode cX1_shareOf 33 = .ok (.aload_n 0, 1) := dk_42 (dk_at dksX1_shareOf_1 9 rfl rfl)
theorem dX1_shareOf_34 : decode cX1_shareOf 34 = .ok (.invokevirtual 295, 3) := dk_182 1 39 (dk_at dksX1_shareOf_1 10 rfl rfl)
theorem dX1_shareOf_37 : decode cX1_shareOf 37 = .ok (.idiv, 1) := dk_108 (dk_at dksX1_shareOf_1 13 rfl rfl)
theorem dX1_shareOf_38 : decode cX1_shareOf 38 = .ok (.ireturn, 1) := dk_172 (dk_at dksX1_shareOf_1 14 rfl rfl)
abbrev cX1_allHunger : ByteArray := prog_1_method_49_code
def yX1_allHunger : MethodName := ⟨RX1, "allHunger", "()I"⟩
def dkwX1_allHunger_1 : List UInt8 := [46, 96, 60, 132, 2, 1, 167, 255, 230, 27, 172]
abbrev dktX1_allHunger_1 : List UInt8 := dkwX1_allHunger_1 ++ []
def dkwX1_allHunger_0 : List UInt8 := [3, 60, 3, 61, 28, 42, 180, 0, 109, 180, 0, 70, 162, 0, 21, 27, 42, 180, 0, 109, 180, 0, 43, 28]
abbrev dktX1_allHunger_0 : List UInt8 := dkwX1_allHunger_0 ++ dktX1_allHunger_1
theorem dksX1_allHunger_0 : cX1_allHunger.data.toList.drop 0 = dktX1_allHunger_0 := by decide +kernel
theorem dksX1_allHunger_1 : cX1_allHunger.data.toList.drop 24 = dktX1_allHunger_1 := dk_seg dksX1_allHunger_0 24 rfl rfl
theorem dX1_allHunger_0 : decode cX1_allHunger 0 = .ok (.iconst 0, 1) := dk_3 (dk_at dksX1_allHunger_0 0 rfl rfl)
theorem dX1_allHunger_1 : decode cX1_allHunger 1 = .ok (.istore_n 1, 1) := dk_60 (dk_at dksX1_allHunger_0 1 rfl rfl)
theorem dX1_allHunger_2 : decode cX1_allHunger 2 = .ok (.iconst 0, 1) := dk_3 (dk_at dksX1_allHunger_0 2 rfl rfl)
theorem dX1_allHunger_3 : decode cX1_allHunger 3 = .ok (.istore_n 2, 1) := dk_61 (dk_at dksX1_allHunger_0 3 rfl rfl)
theorem dX1_allHunger_4 : decode cX1_allHunger 4 = .ok (.iload_n 2, 1) := dk_28 (dk_at dksX1_allHunger_0 4 rfl rfl)
theorem dX1_allHunger_5 : decode cX1_allHunger 5 = .ok (.aload_n 0, 1) := dk_42 (dk_at dksX1_allHunger_0 5 rfl rfl)
theorem dX1_allHunger_6 : decode cX1_allHunger 6 = .ok (.getfield 109, 3) := dk_180 0 109 (dk_at dksX1_allHunger_0 6 rfl rfl)
theorem dX1_allHunger_9 : decode cX1_allHunger 9 = .ok (.getfield 70, 3) := dk_180 0 70 (dk_at dksX1_allHunger_0 9 rfl rfl)
theorem dX1_allHunger_12 : decode cX1_allHunger 12 = .ok (.if_icmp .ge 21, 3) := dk_162 0 21 (dk_at dksX1_allHunger_0 12 rfl rfl)
theorem dX1_allHunger_15 : decode cX1_allHunger 15 = .ok (.iload_n 1, 1) := dk_27 (dk_at dksX1_allHunger_0 15 rfl rfl)
theorem dX1_allHunger_16 : decode cX1_allHunger 16 = .ok (.aload_n 0, 1) := dk_42 (dk_at dksX1_allHunger_0 16 rfl rfl)
theorem dX1_allHunger_17 : decode cX1_allHunger 17 = .ok (.getfield 109, 3) := dk_180 0 109 (dk_at dksX1_allHunger_0 17 rfl rfl)
theorem dX1_allHunger_20 : decode cX1_allHunger 20 = .ok (.getfield 43, 3) := dk_180 0 43 (dk_at dksX1_allHunger_0 20 rfl rfl)
theorem dX1_allHunger_23 : decode cX1_allHunger 23 = .ok (.iload_n 2, 1) := dk_28 (dk_at dksX1_allHunger_0 23 rfl rfl)
theorem dX1_allHunger_24 : decode cX1_allHunger 24 = .ok (.iaload, 1) := dk_46 (dk_at dksX1_allHunger_1 0 rfl rfl)
theorem dX1_allHunger_25 : decode cX1_allHunger 25 = .ok (.iadd, 1) := dk_96 (dk_at dksX1_allHunger_1 1 rfl rfl)
theorem dX1_allHunger_26 : decode cX1_allHunger 26 = .ok (.istore_n 1, 1) := dk_60 (dk_at dksX1_allHunger_1 2 rfl rfl)
theorem dX1_allHunger_27 : decode cX1_allHunger 27 = .ok (.iinc 2 1, 3) := dk_132 2 1 (dk_at dksX1_allHunger_1 3 rfl rfl)
theorem dX1_allHunger_30 : decode cX1_allHunger 30 = .ok (.goto (-26), 3) := dk_167 255 230 (dk_at dksX1_allHunger_1 6 rfl rfl)
theorem dX1_allHunger_33 : decode cX1_allHunger 33 = .ok (.iload_n 1, 1) := dk_27 (dk_at dksX1_allHunger_1 9 rfl rfl)
theorem dX1_allHunger_34 : decode cX1_allHunger 34 = .ok (.ireturn, 1) := dk_172 (dk_at dksX1_allHunger_1 10 rfl rfl)
abbrev cX1_crowd : ByteArray := prog_1_method_56_code
def yX1_crowd : MethodName := ⟨RX1, "crowd", "(IIII)J"⟩
def dkwX1_crowd_4 : List UInt8 := [184, 1, 58, 173]
abbrev dktX1_crowd_4 : List UInt8 := dkwX1_crowd_4 ++ []
def dkwX1_crowd_3 : List UInt8 := [100, 184, 1, 55, 105, 97, 55, 5, 132, 7, 1, 167, 255, 225, 22, 5, 28, 27, 184, 1, 55, 21, 4]
abbrev dktX1_crowd_3 : List UInt8 := dkwX1_crowd_3 ++ dktX1_crowd_4
def dkwX1_crowd_2 : List UInt8 := [29, 104, 54, 7, 21, 7, 27, 163, 0, 31, 22, 5, 27, 21, 7, 184, 1, 51, 28, 4, 100, 27, 21, 7]
abbrev dktX1_crowd_2 : List UInt8 := dkwX1_crowd_2 ++ dktX1_crowd_3
def dkwX1_crowd_1 : List UInt8 := [184, 0, 30, 153, 0, 13, 21, 4, 3, 4, 184, 0, 30, 154, 0, 7, 20, 1, 49, 173, 9, 55, 5, 5]
abbrev dktX1_crowd_1 : List UInt8 := dkwX1_crowd_1 ++ dktX1_crowd_2
def dkwX1_crowd_0 : List UInt8 := [27, 3, 16, 8, 184, 0, 30, 153, 0, 32, 28, 5, 16, 20, 184, 0, 30, 153, 0, 22, 29, 3, 7]
abbrev dktX1_crowd_0 : List UInt8 := dkwX1_crowd_0 ++ dktX1_crowd_1
theorem dksX1_crowd_0 : cX1_crowd.data.toList.drop 0 = dktX1_crowd_0 := by decide +kernel
theorem dksX1_crowd_1 : cX1_crowd.data.toList.drop 23 = dktX1_crowd_1 := dk_seg dksX1_crowd_0 23 rfl rfl
theorem dksX1_crowd_2 : cX1_crowd.data.toList.drop 47 = dktX1_crowd_2 := dk_seg dksX1_crowd_1 24 rfl rfl
theorem dksX1_crowd_3 : cX1_crowd.data.toList.drop 71 = dktX1_crowd_3 := dk_seg dksX1_crowd_2 24 rfl rfl
theorem dksX1_crowd_4 : cX1_crowd.data.toList.drop 94 = dktX1_crowd_4 := dk_seg dksX1_crowd_3 23 rfl rfl
theorem dX1_crowd_0 : decode cX1_crowd 0 = .ok (.iload_n 1, 1) := dk_27 (dk_at dksX1_crowd_0 0 rfl rfl)
theorem dX1_crowd_1 : decode cX1_crowd 1 = .ok (.iconst 0, 1) := dk_3 (dk_at dksX1_crowd_0 1 rfl rfl)
theorem dX1_crowd_2 : decode cX1_crowd 2 = .ok (.bipush 8, 2) := dk_16 8 (dk_at dksX1_crowd_0 2 rfl rfl)
theorem dX1_crowd_4 : decode cX1_crowd 4 = .ok (.invokestatic 30, 3) := dk_184 0 30 (dk_at dksX1_crowd_0 4 rfl rfl)
theorem dX1_crowd_7 : decode cX1_crowd 7 = .ok (.ifCond .eq 32, 3) := dk_153 0 32 (dk_at dksX1_crowd_0 7 rfl rfl)
theorem dX1_crowd_10 : decode cX1_crowd 10 = .ok (.iload_n 2, 1) := dk_28 (dk_at dksX1_crowd_0 10 rfl rfl)
theorem dX1_crowd_11 : decode cX1_crowd 11 = .ok (.iconst 2, 1) := dk_5 (dk_at dksX1_crowd_0 11 rfl rfl)
theorem dX1_crowd_12 : decode cX1_crowd 12 = .ok (.bipush 20, 2) := dk_16 20 (dk_at dksX1_crowd_0 12 rfl rfl)
theorem dX1_crowd_14 : decode cX1_crowd 14 = .ok (.invokestatic 30, 3) := dk_184 0 30 (dk_at dksX1_crowd_0 14 rfl rfl)
theorem dX1_crowd_17 : decode cX1_crowd 17 = .ok (.ifCond .eq 22, 3) := dk_153 0 22 (dk_at dksX1_crowd_0 17 rfl rfl)
theorem dX1_crowd_20 : decode cX1_crowd 20 = .ok (.iload_n 3, 1) := dk_29 (dk_at dksX1_crowd_0 20 rfl rfl)
theorem dX1_crowd_21 : decode cX1_crowd 21 = .ok (.iconst 0, 1) := dk_3 (dk_at dksX1_crowd_0 21 rfl rfl)
theorem dX1_crowd_22 : decode cX1_crowd 22 = .ok (.iconst 4, 1) := dk_7 (dk_at dksX1_crowd_0 22 rfl rfl)
theorem dX1_crowd_23 : decode cX1_crowd 23 = .ok (.invokestatic 30, 3) := dk_184 0 30 (dk_at dksX1_crowd_1 0 rfl rfl)
theorem dX1_crowd_26 : decode cX1_crowd 26 = .ok (.ifCond .eq 13, 3) := dk_153 0 13 (dk_at dksX1_crowd_1 3 rfl rfl)
theorem dX1_crowd_29 : decode cX1_crowd 29 = .ok (.iload 4, 2) := dk_21 4 (dk_at dksX1_crowd_1 6 rfl rfl)
theorem dX1_crowd_31 : decode cX1_crowd 31 = .ok (.iconst 0, 1) := dk_3 (dk_at dksX1_crowd_1 8 rfl rfl)
theorem dX1_crowd_32 : decode cX1_crowd 32 = .ok (.iconst 1, 1) := dk_4 (dk_at dksX1_crowd_1 9 rfl rfl)
theorem dX1_crowd_33 : decode cX1_crowd 33 = .ok (.invokestatic 30, 3) := dk_184 0 30 (dk_at dksX1_crowd_1 10 rfl rfl)
theorem dX1_crowd_36 : decode cX1_crowd 36 = .ok (.ifCond .ne 7, 3) := dk_154 0 7 (dk_at dksX1_crowd_1 13 rfl rfl)
theorem dX1_crowd_39 : decode cX1_crowd 39 = .ok (.ldc2_w 305, 3) := dk_20 1 49 (dk_at dksX1_crowd_1 16 rfl rfl)
theorem dX1_crowd_42 : decode cX1_crowd 42 = .ok (.lreturn, 1) := dk_173 (dk_at dksX1_crowd_1 19 rfl rfl)
theorem dX1_crowd_43 : decode cX1_crowd 43 = .ok (.lconst 0, 1) := dk_9 (dk_at dksX1_crowd_1 20 rfl rfl)
theorem dX1_crowd_44 : decode cX1_crowd 44 = .ok (.lstore 5, 2) := dk_55 5 (dk_at dksX1_crowd_1 21 rfl rfl)
theorem dX1_crowd_46 : decode cX1_crowd 46 = .ok (.iconst 2, 1) := dk_5 (dk_at dksX1_crowd_1 23 rfl rfl)
theorem dX1_crowd_47 : decode cX1_crowd 47 = .ok (.iload_n 3, 1) := dk_29 (dk_at dksX1_crowd_2 0 rfl rfl)
theorem dX1_crowd_48 : decode cX1_crowd 48 = .ok (.imul, 1) := dk_104 (dk_at dksX1_crowd_2 1 rfl rfl)
theorem dX1_crowd_49 : decode cX1_crowd 49 = .ok (.istore 7, 2) := dk_54 7 (dk_at dksX1_crowd_2 2 rfl rfl)
theorem dX1_crowd_51 : decode cX1_crowd 51 = .ok (.iload 7, 2) := dk_21 7 (dk_at dksX1_crowd_2 4 rfl rfl)
theorem dX1_crowd_53 : decode cX1_crowd 53 = .ok (.iload_n 1, 1) := dk_27 (dk_at dksX1_crowd_2 6 rfl rfl)
theorem dX1_crowd_54 : decode cX1_crowd 54 = .ok (.if_icmp .gt 31, 3) := dk_163 0 31 (dk_at dksX1_crowd_2 7 rfl rfl)
theorem dX1_crowd_57 : decode cX1_crowd 57 = .ok (.lload 5, 2) := dk_22 5 (dk_at dksX1_crowd_2 10 rfl rfl)
theorem dX1_crowd_59 : decode cX1_crowd 59 = .ok (.iload_n 1, 1) := dk_27 (dk_at dksX1_crowd_2 12 rfl rfl)
theorem dX1_crowd_60 : decode cX1_crowd 60 = .ok (.iload 7, 2) := dk_21 7 (dk_at dksX1_crowd_2 13 rfl rfl)
theorem dX1_crowd_62 : decode cX1_crowd 62 = .ok (.invokestatic 307, 3) := dk_184 1 51 (dk_at dksX1_crowd_2 15 rfl rfl)
theorem dX1_crowd_65 : decode cX1_crowd 65 = .ok (.iload_n 2, 1) := dk_28 (dk_at dksX1_crowd_2 18 rfl rfl)
theorem dX1_crowd_66 : decode cX1_crowd 66 = .ok (.iconst 1, 1) := dk_4 (dk_at dksX1_crowd_2 19 rfl rfl)
theorem dX1_crowd_67 : decode cX1_crowd 67 = .ok (.isub, 1) := dk_100 (dk_at dksX1_crowd_2 20 rfl rfl)
theorem dX1_crowd_68 : decode cX1_crowd 68 = .ok (.iload_n 1, 1) := dk_27 (dk_at dksX1_crowd_2 21 rfl rfl)
theorem dX1_crowd_69 : decode cX1_crowd 69 = .ok (.iload 7, 2) := dk_21 7 (dk_at dksX1_crowd_2 22 rfl rfl)
theorem dX1_crowd_71 : decode cX1_crowd 71 = .ok (.isub, 1) := dk_100 (dk_at dksX1_crowd_3 0 rfl rfl)
theorem dX1_crowd_72 : decode cX1_crowd 72 = .ok (.invokestatic 311, 3) := dk_184 1 55 (dk_at dksX1_crowd_3 1 rfl rfl)
theorem dX1_crowd_75 : decode cX1_crowd 75 = .ok (.lmul, 1) := dk_105 (dk_at dksX1_crowd_3 4 rfl rfl)
theorem dX1_crowd_76 : decode cX1_crowd 76 = .ok (.ladd, 1) := dk_97 (dk_at dksX1_crowd_3 5 rfl rfl)
theorem dX1_crowd_77 : decode cX1_crowd 77 = .ok (.lstore 5, 2) := dk_55 5 (dk_at dksX1_crowd_3 6 rfl rfl)
theorem dX1_crowd_79 : decode cX1_crowd 79 = .ok (.iinc 7 1, 3) := dk_132 7 1 (dk_at dksX1_crowd_3 8 rfl rfl)
theorem dX1_crowd_82 : decode cX1_crowd 82 = .ok (.goto (-31), 3) := dk_167 255 225 (dk_at dksX1_crowd_3 11 rfl rfl)
theorem dX1_crowd_85 : decode cX1_crowd 85 = .ok (.lload 5, 2) := dk_22 5 (dk_at dksX1_crowd_3 14 rfl rfl)
theorem dX1_crowd_87 : decode cX1_crowd 87 = .ok (.iload_n 2, 1) := dk_28 (dk_at dksX1_crowd_3 16 rfl rfl)
theorem dX1_crowd_88 : decode cX1_crowd 88 = .ok (.iload_n 1, 1) := dk_27 (dk_at dksX1_crowd_3 17 rfl rfl)
theorem dX1_crowd_89 : decode cX1_crowd 89 = .ok (.invokestatic 311, 3) := dk_184 1 55 (dk_at dksX1_crowd_3 18 rfl rfl)
theorem dX1_crowd_92 : decode cX1_crowd 92 = .ok (.iload 4, 2) := dk_21 4 (dk_at dksX1_crowd_3 21 rfl rfl)
theorem dX1_crowd_94 : decode cX1_crowd 94 = .ok (.invokestatic 314, 3) := dk_184 1 58 (dk_at dksX1_crowd_4 0 rfl rfl)
theorem dX1_crowd_97 : decode cX1_crowd 97 = .ok (.lreturn, 1) := dk_173 (dk_at dksX1_crowd_4 3 rfl rfl)
abbrev cX1_ways : ByteArray := prog_1_method_55_code
def yX1_ways : MethodName := ⟨RX1, "ways", "(II)J"⟩
def dkwX1_ways_1 : List UInt8 := [65, 132, 4, 1, 167, 255, 233, 32, 173]
abbrev dktX1_ways_1 : List UInt8 := dkwX1_ways_1 ++ []
def dkwX1_ways_0 : List UInt8 := [10, 65, 4, 54, 4, 21, 4, 27, 163, 0, 23, 32, 26, 4, 96, 21, 4, 100, 133, 105, 21, 4, 133, 109]
abbrev dktX1_ways_0 : List UInt8 := dkwX1_ways_0 ++ dktX1_ways_1
theorem dksX1_ways_0 : cX1_ways.data.toList.drop 0 = dktX1_ways_0 := by decide +kernel
theorem dksX1_ways_1 : cX1_ways.data.toList.drop 24 = dktX1_ways_1 := dk_seg dksX1_ways_0 24 rfl rfl
theorem dX1_ways_0 : decode cX1_ways 0 = .ok (.lconst 1, 1) := dk_10 (dk_at dksX1_ways_0 0 rfl rfl)
theorem dX1_ways_1 : decode cX1_ways 1 = .ok (.lstore_n 2, 1) := dk_65 (dk_at dksX1_ways_0 1 rfl rfl)
theorem dX1_ways_2 : decode cX1_ways 2 = .ok (.iconst 1, 1) := dk_4 (dk_at dksX1_ways_0 2 rfl rfl)
theorem dX1_ways_3 : decode cX1_ways 3 = .ok (.istore 4, 2) := dk_54 4 (dk_at dksX1_ways_0 3 rfl rfl)
theorem dX1_ways_5 : decode cX1_ways 5 = .ok (.iload 4, 2) := dk_21 4 (dk_at dksX1_ways_0 5 rfl rfl)
theorem dX1_ways_7 : decode cX1_ways 7 = .ok (.iload_n 1, 1) := dk_27 (dk_at dksX1_ways_0 7 rfl rfl)
theorem dX1_ways_8 : decode cX1_ways 8 = .ok (.if_icmp .gt 23, 3) := dk_163 0 23 (dk_at dksX1_ways_0 8 rfl rfl)
theorem dX1_ways_11 : decode cX1_ways 11 = .ok (.lload_n 2, 1) := dk_32 (dk_at dksX1_ways_0 11 rfl rfl)
theorem dX1_ways_12 : decode cX1_ways 12 = .ok (.iload_n 0, 1) := dk_26 (dk_at dksX1_ways_0 12 rfl rfl)
theorem dX1_ways_13 : decode cX1_ways 13 = .ok (.iconst 1, 1) := dk_4 (dk_at dksX1_ways_0 13 rfl rfl)
theorem dX1_ways_14 : decode cX1_ways 14 = .ok (.iadd, 1) := dk_96 (dk_at dksX1_ways_0 14 rfl rfl)
theorem dX1_ways_15 : decode cX1_ways 15 = .ok (.iload 4, 2) := dk_21 4 (dk_at dksX1_ways_0 15 rfl rfl)
theorem dX1_ways_17 : decode cX1_ways 17 = .ok (.isub, 1) := dk_100 (dk_at dksX1_ways_0 17 rfl rfl)
theorem dX1_ways_18 : decode cX1_ways 18 = .ok (.i2l, 1) := dk_133 (dk_at dksX1_ways_0 18 rfl rfl)
theorem dX1_ways_19 : decode cX1_ways 19 = .ok (.lmul, 1) := dk_105 (dk_at dksX1_ways_0 19 rfl rfl)
theorem dX1_ways_20 : decode cX1_ways 20 = .ok (.iload 4, 2) := dk_21 4 (dk_at dksX1_ways_0 20 rfl rfl)
theorem dX1_ways_22 : decode cX1_ways 22 = .ok (.i2l, 1) := dk_133 (dk_at dksX1_ways_0 22 rfl rfl)
theorem dX1_ways_23 : decode cX1_ways 23 = .ok (.ldiv, 1) := dk_109 (dk_at dksX1_ways_0 23 rfl rfl)
theorem dX1_ways_24 : decode cX1_ways 24 = .ok (.lstore_n 2, 1) := dk_65 (dk_at dksX1_ways_1 0 rfl rfl)
theorem dX1_ways_25 : decode cX1_ways 25 = .ok (.iinc 4 1, 3) := dk_132 4 1 (dk_at dksX1_ways_1 1 rfl rfl)
theorem dX1_ways_28 : decode cX1_ways 28 = .ok (.goto (-23), 3) := dk_167 255 233 (dk_at dksX1_ways_1 4 rfl rfl)
theorem dX1_ways_31 : decode cX1_ways 31 = .ok (.lload_n 2, 1) := dk_32 (dk_at dksX1_ways_1 7 rfl rfl)
theorem dX1_ways_32 : decode cX1_ways 32 = .ok (.lreturn, 1) := dk_173 (dk_at dksX1_ways_1 8 rfl rfl)
abbrev cX1_power : ByteArray := prog_1_method_54_code
def yX1_power : MethodName := ⟨RX1, "power", "(II)J"⟩
def dkwX1_power_0 : List UInt8 := [10, 65, 3, 54, 4, 21, 4, 27, 162, 0, 14, 32, 26, 133, 105, 65, 132, 4, 1, 167, 255, 242, 32, 173]
abbrev dktX1_power_0 : List UInt8 := dkwX1_power_0 ++ []
theorem dksX1_power_0 : cX1_power.data.toList.drop 0 = dktX1_power_0 := by decide +kernel
theorem dX1_power_0 : decode cX1_power 0 = .ok (.lconst 1, 1) := dk_10 (dk_at dksX1_power_0 0 rfl rfl)
theorem dX1_power_1 : decode cX1_power 1 = .ok (.lstore_n 2, 1) := dk_65 (dk_at dksX1_power_0 1 rfl rfl)
theorem dX1_power_2 : decode cX1_power 2 = .ok (.iconst 0, 1) := dk_3 (dk_at dksX1_power_0 2 rfl rfl)
theorem dX1_power_3 : decode cX1_power 3 = .ok (.istore 4, 2) := dk_54 4 (dk_at dksX1_power_0 3 rfl rfl)
theorem dX1_power_5 : decode cX1_power 5 = .ok (.iload 4, 2) := dk_21 4 (dk_at dksX1_power_0 5 rfl rfl)
theorem dX1_power_7 : decode cX1_power 7 = .ok (.iload_n 1, 1) := dk_27 (dk_at dksX1_power_0 7 rfl rfl)
theorem dX1_power_8 : decode cX1_power 8 = .ok (.if_icmp .ge 14, 3) := dk_162 0 14 (dk_at dksX1_power_0 8 rfl rfl)
theorem dX1_power_11 : decode cX1_power 11 = .ok (.lload_n 2, 1) := dk_32 (dk_at dksX1_power_0 11 rfl rfl)
theorem dX1_power_12 : decode cX1_power 12 = .ok (.iload_n 0, 1) := dk_26 (dk_at dksX1_power_0 12 rfl rfl)
theorem dX1_power_13 : decode cX1_power 13 = .ok (.i2l, 1) := dk_133 (dk_at dksX1_power_0 13 rfl rfl)
theorem dX1_power_14 : decode cX1_power 14 = .ok (.lmul, 1) := dk_105 (dk_at dksX1_power_0 14 rfl rfl)
theorem dX1_power_15 : decode cX1_power 15 = .ok (.lstore_n 2, 1) := dk_65 (dk_at dksX1_power_0 15 rfl rfl)
theorem dX1_power_16 : decode cX1_power 16 = .ok (.iinc 4 1, 3) := dk_132 4 1 (dk_at dksX1_power_0 16 rfl rfl)
theorem dX1_power_19 : decode cX1_power 19 = .ok (.goto (-14), 3) := dk_167 255 242 (dk_at dksX1_power_0 19 rfl rfl)
theorem dX1_power_22 : decode cX1_power 22 = .ok (.lload_n 2, 1) := dk_32 (dk_at dksX1_power_0 22 rfl rfl)
theorem dX1_power_23 : decode cX1_power 23 = .ok (.lreturn, 1) := dk_173 (dk_at dksX1_power_0 23 rfl rfl)
abbrev cX1_partOf : ByteArray := prog_1_method_53_code
def yX1_partOf : MethodName := ⟨RX1, "partOf", "(JJI)J"⟩
def dkwX1_partOf_0 : List UInt8 := [21, 4, 154, 0, 7, 30, 167, 0, 4, 32, 30, 32, 184, 1, 45, 109, 173]
abbrev dktX1_partOf_0 : List UInt8 := dkwX1_partOf_0 ++ []
theorem dksX1_partOf_0 : cX1_partOf.data.toList.drop 0 = dktX1_partOf_0 := by decide +kernel
theorem dX1_partOf_0 : decode cX1_partOf 0 = .ok (.iload 4, 2) := dk_21 4 (dk_at dksX1_partOf_0 0 rfl rfl)
theorem dX1_partOf_2 : decode cX1_partOf 2 = .ok (.ifCond .ne 7, 3) := dk_154 0 7 (dk_at dksX1_partOf_0 2 rfl rfl)
theorem dX1_partOf_5 : decode cX1_partOf 5 = .ok (.lload_n 0, 1) := dk_30 (dk_at dksX1_partOf_0 5 rfl rfl)
theorem dX1_partOf_6 : decode cX1_partOf 6 = .ok (.goto 4, 3) := dk_167 0 4 (dk_at dksX1_partOf_0 6 rfl rfl)
theorem dX1_partOf_9 : decode cX1_partOf 9 = .ok (.lload_n 2, 1) := dk_32 (dk_at dksX1_partOf_0 9 rfl rfl)
theorem dX1_partOf_10 : decode cX1_partOf 10 = .ok (.lload_n 0, 1) := dk_30 (dk_at dksX1_partOf_0 10 rfl rfl)
theorem dX1_partOf_11 : decode cX1_partOf 11 = .ok (.lload_n 2, 1) := dk_32 (dk_at dksX1_partOf_0 11 rfl rfl)
theorem dX1_partOf_12 : decode cX1_partOf 12 = .ok (.invokestatic 301, 3) := dk_184 1 45 (dk_at dksX1_partOf_0 12 rfl rfl)
theorem dX1_partOf_15 : decode cX1_partOf 15 = .ok (.ldiv, 1) := dk_109 (dk_at dksX1_partOf_0 15 rfl rfl)
theorem dX1_partOf_16 : decode cX1_partOf 16 = .ok (.lreturn, 1) := dk_173 (dk_at dksX1_partOf_0 16 rfl rfl)
abbrev cX1_divisor : ByteArray := prog_1_method_52_code
def yX1_divisor : MethodName := ⟨RX1, "divisor", "(JJ)J"⟩
def dkwX1_divisor_0 : List UInt8 := [32, 9, 148, 154, 0, 7, 30, 167, 0, 10, 32, 30, 32, 113, 184, 1, 45, 173]
abbrev dktX1_divisor_0 : List UInt8 := dkwX1_divisor_0 ++ []
theorem dksX1_divisor_0 : cX1_divisor.data.toList.drop 0 = dktX1_divisor_0 := by decide +kernel
theorem dX1_divisor_0 : decode cX1_divisor 0 = .ok (.lload_n 2, 1) := dk_32 (dk_at dksX1_divisor_0 0 rfl rfl)
theorem dX1_divisor_1 : decode cX1_divisor 1 = .ok (.lconst 0, 1) := dk_9 (dk_at dksX1_divisor_0 1 rfl rfl)
theorem dX1_divisor_2 : decode cX1_divisor 2 = .ok (.lcmp, 1) := dk_148 (dk_at dksX1_divisor_0 2 rfl rfl)
theorem dX1_divisor_3 : decode cX1_divisor 3 = .ok (.ifCond .ne 7, 3) := dk_154 0 7 (dk_at dksX1_divisor_0 3 rfl rfl)
theorem dX1_divisor_6 : decode cX1_divisor 6 = .ok (.lload_n 0, 1) := dk_30 (dk_at dksX1_divisor_0 6 rfl rfl)
theorem dX1_divisor_7 : decode cX1_divisor 7 = .ok (.goto 10, 3) := dk_167 0 10 (dk_at dksX1_divisor_0 7 rfl rfl)
theorem dX1_divisor_10 : decode cX1_divisor 10 = .ok (.lload_n 2, 1) := dk_32 (dk_at dksX1_divisor_0 10 rfl rfl)
theorem dX1_divisor_11 : decode cX1_divisor 11 = .ok (.lload_n 0, 1) := dk_30 (dk_at dksX1_divisor_0 11 rfl rfl)
theorem dX1_divisor_12 : decode cX1_divisor 12 = .ok (.lload_n 2, 1) := dk_32 (dk_at dksX1_divisor_0 12 rfl rfl)
theorem dX1_divisor_13 : decode cX1_divisor 13 = .ok (.lrem, 1) := dk_113 (dk_at dksX1_divisor_0 13 rfl rfl)
theorem dX1_divisor_14 : decode cX1_divisor 14 = .ok (.invokestatic 301, 3) := dk_184 1 45 (dk_at dksX1_divisor_0 14 rfl rfl)
theorem dX1_divisor_17 : decode cX1_divisor 17 = .ok (.lreturn, 1) := dk_173 (dk_at dksX1_divisor_0 17 rfl rfl)
abbrev cX1_mean : ByteArray := prog_1_method_57_code
def yX1_mean : MethodName := ⟨RX1, "mean", "(I)J"⟩
def dkwX1_mean_1 : List UInt8 := [133, 167, 0, 20, 42, 182, 1, 39, 133, 42, 180, 0, 109, 180, 0, 70, 133, 27, 184, 1, 58, 173]
abbrev dktX1_mean_1 : List UInt8 := dkwX1_mean_1 ++ []
def dkwX1_mean_0 : List UInt8 := [27, 3, 4, 184, 0, 30, 154, 0, 7, 20, 1, 49, 173, 42, 180, 0, 109, 180, 0, 70, 154, 0, 8, 27]
abbrev dktX1_mean_0 : List UInt8 := dkwX1_mean_0 ++ dktX1_mean_1
theorem dksX1_mean_0 : cX1_mean.data.toList.drop 0 = dktX1_mean_0 := by decide +kernel
theorem dksX1_mean_1 : cX1_mean.data.toList.drop 24 = dktX1_mean_1 := dk_seg dksX1_mean_0 24 rfl rfl
theorem dX1_mean_0 : decode cX1_mean 0 = .ok (.iload_n 1, 1) := dk_27 (dk_at dksX1_mean_0 0 rfl rfl)
theorem dX1_mean_1 : decode cX1_mean 1 = .ok (.iconst 0, 1) := dk_3 (dk_at dksX1_mean_0 1 rfl rfl)
theorem dX1_mean_2 : decode cX1_mean 2 = .ok (.iconst 1, 1) := dk_4 (dk_at dksX1_mean_0 2 rfl rfl)
theorem dX1_mean_3 : decode cX1_mean 3 = .ok (.invokestatic 30, 3) := dk_184 0 30 (dk_at dksX1_mean_0 3 rfl rfl)
theorem dX1_mean_6 : decode cX1_mean 6 = .ok (.ifCond .ne 7, 3) := dk_154 0 7 (dk_at dksX1_mean_0 6 rfl rfl)
theorem dX1_mean_9 : decode cX1_mean 9 = .ok (.ldc2_w 305, 3) := dk_20 1 49 (dk_at dksX1_mean_0 9 rfl rfl)
theorem dX1_mean_12 : decode cX1_mean 12 = .ok (.lreturn, 1) := dk_173 (dk_at dksX1_mean_0 12 rfl rfl)
theorem dX1_mean_13 : decode cX1_mean 13 = .ok (.aload_n 0, 1) := dk_42 (dk_at dksX1_mean_0 13 rfl rfl)
theorem dX1_mean_14 : decode cX1_mean 14 = .ok (.getfield 109, 3) := dk_180 0 109 (dk_at dksX1_mean_0 14 rfl rfl)
theorem dX1_mean_17 : decode cX1_mean 17 = .ok (.getfield 70, 3) := dk_180 0 70 (dk_at dksX1_mean_0 17 rfl rfl)
theorem dX1_mean_20 : decode cX1_mean 20 = .ok (.ifCond .ne 8, 3) := dk_154 0 8 (dk_at dksX1_mean_0 20 rfl rfl)
theorem dX1_mean_23 : decode cX1_mean 23 = .ok (.iload_n 1, 1) := dk_27 (dk_at dksX1_mean_0 23 rfl rfl)
theorem dX1_mean_24 : decode cX1_mean 24 = .ok (.i2l, 1) := dk_133 (dk_at dksX1_mean_1 0 rfl rfl)
theorem dX1_mean_25 : decode cX1_mean 25 = .ok (.goto 20, 3) := dk_167 0 20 (dk_at dksX1_mean_1 1 rfl rfl)
theorem dX1_mean_28 : decode cX1_mean 28 = .ok (.aload_n 0, 1) := dk_42 (dk_at dksX1_mean_1 4 rfl rfl)
theorem dX1_mean_29 : decode cX1_mean 29 = .ok (.invokevirtual 295, 3) := dk_182 1 39 (dk_at dksX1_mean_1 5 rfl rfl)
theorem dX1_mean_32 : decode cX1_mean 32 = .ok (.i2l, 1) := dk_133 (dk_at dksX1_mean_1 8 rfl rfl)
theorem dX1_mean_33 : decode cX1_mean 33 = .ok (.aload_n 0, 1) := dk_42 (dk_at dksX1_mean_1 9 rfl rfl)
theorem dX1_mean_34 : decode cX1_mean 34 = .ok (.getfield 109, 3) := dk_180 0 109 (dk_at dksX1_mean_1 10 rfl rfl)
theorem dX1_mean_37 : decode cX1_mean 37 = .ok (.getfield 70, 3) := dk_180 0 70 (dk_at dksX1_mean_1 13 rfl rfl)
theorem dX1_mean_40 : decode cX1_mean 40 = .ok (.i2l, 1) := dk_133 (dk_at dksX1_mean_1 16 rfl rfl)
theorem dX1_mean_41 : decode cX1_mean 41 = .ok (.iload_n 1, 1) := dk_27 (dk_at dksX1_mean_1 17 rfl rfl)
theorem dX1_mean_42 : decode cX1_mean 42 = .ok (.invokestatic 314, 3) := dk_184 1 58 (dk_at dksX1_mean_1 18 rfl rfl)
theorem dX1_mean_45 : decode cX1_mean 45 = .ok (.lreturn, 1) := dk_173 (dk_at dksX1_mean_1 21 rfl rfl)
abbrev cX1_joyless : ByteArray := prog_1_method_58_code
def yX1_joyless : MethodName := ⟨RX1, "joyless", "()I"⟩
def dkwX1_joyless_3 : List UInt8 := [167, 255, 191, 27, 172]
abbrev dktX1_joyless_3 : List UInt8 := dkwX1_joyless_3 ++ []
def dkwX1_joyless_2 : List UInt8 := [29, 182, 0, 178, 154, 0, 7, 4, 167, 0, 4, 3, 96, 60, 132, 3, 1, 167, 255, 210, 132, 2, 1]
abbrev dktX1_joyless_2 : List UInt8 := dkwX1_joyless_2 ++ dktX1_joyless_3
def dkwX1_joyless_1 : List UInt8 := [180, 0, 70, 162, 0, 41, 27, 42, 180, 0, 109, 28, 29, 182, 0, 50, 153, 0, 19, 42, 180, 0, 109, 28]
abbrev dktX1_joyless_1 : List UInt8 := dkwX1_joyless_1 ++ dktX1_joyless_2
def dkwX1_joyless_0 : List UInt8 := [3, 60, 3, 61, 28, 42, 180, 0, 109, 180, 0, 70, 162, 0, 60, 3, 62, 29, 42, 180, 0, 109]
abbrev dktX1_joyless_0 : List UInt8 := dkwX1_joyless_0 ++ dktX1_joyless_1
theorem dksX1_joyless_0 : cX1_joyless.data.toList.drop 0 = dktX1_joyless_0 := by decide +kernel
theorem dksX1_joyless_1 : cX1_joyless.data.toList.drop 22 = dktX1_joyless_1 := dk_seg dksX1_joyless_0 22 rfl rfl
theorem dksX1_joyless_2 : cX1_joyless.data.toList.drop 46 = dktX1_joyless_2 := dk_seg dksX1_joyless_1 24 rfl rfl
theorem dksX1_joyless_3 : cX1_joyless.data.toList.drop 69 = dktX1_joyless_3 := dk_seg dksX1_joyless_2 23 rfl rfl
theorem dX1_joyless_0 : decode cX1_joyless 0 = .ok (.iconst 0, 1) := dk_3 (dk_at dksX1_joyless_0 0 rfl rfl)
theorem dX1_joyless_1 : decode cX1_joyless 1 = .ok (.istore_n 1, 1) := dk_60 (dk_at dksX1_joyless_0 1 rfl rfl)
theorem dX1_joyless_2 : decode cX1_joyless 2 = .ok (.iconst 0, 1) := dk_3 (dk_at dksX1_joyless_0 2 rfl rfl)
theorem dX1_joyless_3 : decode cX1_joyless 3 = .ok (.istore_n 2, 1) := dk_61 (dk_at dksX1_joyless_0 3 rfl rfl)
theorem dX1_joyless_4 : decode cX1_joyless 4 = .ok (.iload_n 2, 1) := dk_28 (dk_at dksX1_joyless_0 4 rfl rfl)
theorem dX1_joyless_5 : decode cX1_joyless 5 = .ok (.aload_n 0, 1) := dk_42 (dk_at dksX1_joyless_0 5 rfl rfl)
theorem dX1_joyless_6 : decode cX1_joyless 6 = .ok (.getfield 109, 3) := dk_180 0 109 (dk_at dksX1_joyless_0 6 rfl rfl)
theorem dX1_joyless_9 : decode cX1_joyless 9 = .ok (.getfield 70, 3) := dk_180 0 70 (dk_at dksX1_joyless_0 9 rfl rfl)
theorem dX1_joyless_12 : decode cX1_joyless 12 = .ok (.if_icmp .ge 60, 3) := dk_162 0 60 (dk_at dksX1_joyless_0 12 rfl rfl)
theorem dX1_joyless_15 : decode cX1_joyless 15 = .ok (.iconst 0, 1) := dk_3 (dk_at dksX1_joyless_0 15 rfl rfl)
theorem dX1_joyless_16 : decode cX1_joyless 16 = .ok (.istore_n 3, 1) := dk_62 (dk_at dksX1_joyless_0 16 rfl rfl)
theorem dX1_joyless_17 : decode cX1_joyless 17 = .ok (.iload_n 3, 1) := dk_29 (dk_at dksX1_joyless_0 17 rfl rfl)
theorem dX1_joyless_18 : decode cX1_joyless 18 = .ok (.aload_n 0, 1) := dk_42 (dk_at dksX1_joyless_0 18 rfl rfl)
theorem dX1_joyless_19 : decode cX1_joyless 19 = .ok (.getfield 109, 3) := dk_180 0 109 (dk_at dksX1_joyless_0 19 rfl rfl)
theorem dX1_joyless_22 : decode cX1_joyless 22 = .ok (.getfield 70, 3) := dk_180 0 70 (dk_at dksX1_joyless_1 0 rfl rfl)
theorem dX1_joyless_25 : decode cX1_joyless 25 = .ok (.if_icmp .ge 41, 3) := dk_162 0 41 (dk_at dksX1_joyless_1 3 rfl rfl)
theorem dX1_joyless_28 : decode cX1_joyless 28 = .ok (.iload_n 1, 1) := dk_27 (dk_at dksX1_joyless_1 6 rfl rfl)
theorem dX1_joyless_29 : decode cX1_joyless 29 = .ok (.aload_n 0, 1) := dk_42 (dk_at dksX1_joyless_1 7 rfl rfl)
theorem dX1_joyless_30 : decode cX1_joyless 30 = .ok (.getfield 109, 3) := dk_180 0 109 (dk_at dksX1_joyless_1 8 rfl rfl)
theorem dX1_joyless_33 : decode cX1_joyless 33 = .ok (.iload_n 2, 1) := dk_28 (dk_at dksX1_joyless_1 11 rfl rfl)
theorem dX1_joyless_34 : decode cX1_joyless 34 = .ok (.iload_n 3, 1) := dk_29 (dk_at dksX1_joyless_1 12 rfl rfl)
theorem dX1_joyless_35 : decode cX1_joyless 35 = .ok (.invokevirtual 50, 3) := dk_182 0 50 (dk_at dksX1_joyless_1 13 rfl rfl)
theorem dX1_joyless_38 : decode cX1_joyless 38 = .ok (.ifCond .eq 19, 3) := dk_153 0 19 (dk_at dksX1_joyless_1 16 rfl rfl)
theorem dX1_joyless_41 : decode cX1_joyless 41 = .ok (.aload_n 0, 1) := dk_42 (dk_at dksX1_joyless_1 19 rfl rfl)
theorem dX1_joyless_42 : decode cX1_joyless 42 = .ok (.getfield 109, 3) := dk_180 0 109 (dk_at dksX1_joyless_1 20 rfl rfl)
theorem dX1_joyless_45 : decode cX1_joyless 45 = .ok (.iload_n 2, 1) := dk_28 (dk_at dksX1_joyless_1 23 rfl rfl)
theorem dX1_joyless_46 : decode cX1_joyless 46 = .ok (.iload_n 3, 1) := dk_29 (dk_at dksX1_joyless_2 0 rfl rfl)
theorem dX1_joyless_47 : decode cX1_joyless 47 = .ok (.invokevirtual 178, 3) := dk_182 0 178 (dk_at dksX1_joyless_2 1 rfl rfl)
theorem dX1_joyless_50 : decode cX1_joyless 50 = .ok (.ifCond .ne 7, 3) := dk_154 0 7 (dk_at dksX1_joyless_2 4 rfl rfl)
theorem dX1_joyless_53 : decode cX1_joyless 53 = .ok (.iconst 1, 1) := dk_4 (dk_at dksX1_joyless_2 7 rfl rfl)
theorem dX1_joyless_54 : decode cX1_joyless 54 = .ok (.goto 4, 3) := dk_167 0 4 (dk_at dksX1_joyless_2 8 rfl rfl)
theorem dX1_joyless_57 : decode cX1_joyless 57 = .ok (.iconst 0, 1) := dk_3 (dk_at dksX1_joyless_2 11 rfl rfl)
theorem dX1_joyless_58 : decode cX1_joyless 58 = .ok (.iadd, 1) := dk_96 (dk_at dksX1_joyless_2 12 rfl rfl)
theorem dX1_joyless_59 : decode cX1_joyless 59 = .ok (.istore_n 1, 1) := dk_60 (dk_at dksX1_joyless_2 13 rfl rfl)
theorem dX1_joyless_60 : decode cX1_joyless 60 = .ok (.iinc 3 1, 3) := dk_132 3 1 (dk_at dksX1_joyless_2 14 rfl rfl)
theorem dX1_joyless_63 : decode cX1_joyless 63 = .ok (.goto (-46), 3) := dk_167 255 210 (dk_at dksX1_joyless_2 17 rfl rfl)
theorem dX1_joyless_66 : decode cX1_joyless 66 = .ok (.iinc 2 1, 3) := dk_132 2 1 (dk_at dksX1_joyless_2 20 rfl rfl)
theorem dX1_joyless_69 : decode cX1_joyless 69 = .ok (.goto (-65), 3) := dk_167 255 191 (dk_at dksX1_joyless_3 0 rfl rfl)
theorem dX1_joyless_72 : decode cX1_joyless 72 = .ok (.iload_n 1, 1) := dk_27 (dk_at dksX1_joyless_3 3 rfl rfl)
theorem dX1_joyless_73 : decode cX1_joyless 73 = .ok (.ireturn, 1) := dk_172 (dk_at dksX1_joyless_3 4 rfl rfl)
abbrev cX1_seen : ByteArray := prog_1_method_59_code
def yX1_seen : MethodName := ⟨RX1, "seen", "(I)I"⟩
def dkwX1_seen_5 : List UInt8 := [172]
abbrev dktX1_seen_5 : List UInt8 := dkwX1_seen_5 ++ []
def dkwX1_seen_4 : List UInt8 := [153, 0, 15, 42, 180, 0, 109, 180, 0, 43, 29, 46, 154, 0, 5, 3, 172, 132, 3, 1, 167, 255, 210, 28]
abbrev dktX1_seen_4 : List UInt8 := dkwX1_seen_4 ++ dktX1_seen_5
def dkwX1_seen_3 : List UInt8 := [180, 0, 109, 180, 0, 70, 162, 0, 41, 27, 29, 184, 0, 215, 153, 0, 27, 42, 180, 0, 109, 180, 0, 81]
abbrev dktX1_seen_3 : List UInt8 := dkwX1_seen_3 ++ dktX1_seen_4
def dkwX1_seen_2 : List UInt8 := [182, 0, 241, 153, 0, 7, 4, 167, 0, 4, 3, 96, 61, 132, 3, 1, 167, 255, 215, 3, 62, 29, 42]
abbrev dktX1_seen_2 : List UInt8 := dkwX1_seen_2 ++ dktX1_seen_3
def dkwX1_seen_1 : List UInt8 := [42, 180, 0, 109, 180, 0, 70, 162, 0, 36, 28, 27, 29, 184, 0, 215, 154, 0, 18, 42, 180, 0, 109, 29]
abbrev dktX1_seen_1 : List UInt8 := dkwX1_seen_1 ++ dktX1_seen_2
def dkwX1_seen_0 : List UInt8 := [27, 155, 0, 16, 27, 4, 42, 180, 0, 109, 180, 0, 70, 120, 161, 0, 5, 2, 172, 3, 61, 3, 62, 29]
abbrev dktX1_seen_0 : List UInt8 := dkwX1_seen_0 ++ dktX1_seen_1
theorem dksX1_seen_0 : cX1_seen.data.toList.drop 0 = dktX1_seen_0 := by decide +kernel
theorem dksX1_seen_1 : cX1_seen.data.toList.drop 24 = dktX1_seen_1 := dk_seg dksX1_seen_0 24 rfl rfl
theorem dksX1_seen_2 : cX1_seen.data.toList.drop 48 = dktX1_seen_2 := dk_seg dksX1_seen_1 24 rfl rfl
theorem dksX1_seen_3 : cX1_seen.data.toList.drop 71 = dktX1_seen_3 := dk_seg dksX1_seen_2 23 rfl rfl
theorem dksX1_seen_4 : cX1_seen.data.toList.drop 95 = dktX1_seen_4 := dk_seg dksX1_seen_3 24 rfl rfl
theorem dksX1_seen_5 : cX1_seen.data.toList.drop 119 = dktX1_seen_5 := dk_seg dksX1_seen_4 24 rfl rfl
theorem dX1_seen_0 : decode cX1_seen 0 = .ok (.iload_n 1, 1) := dk_27 (dk_at dksX1_seen_0 0 rfl rfl)
theorem dX1_seen_1 : decode cX1_seen 1 = .ok (.ifCond .lt 16, 3) := dk_155 0 16 (dk_at dksX1_seen_0 1 rfl rfl)
theorem dX1_seen_4 : decode cX1_seen 4 = .ok (.iload_n 1, 1) := dk_27 (dk_at dksX1_seen_0 4 rfl rfl)
theorem dX1_seen_5 : decode cX1_seen 5 = .ok (.iconst 1, 1) := dk_4 (dk_at dksX1_seen_0 5 rfl rfl)
theorem dX1_seen_6 : decode cX1_seen 6 = .ok (.aload_n 0, 1) := dk_42 (dk_at dksX1_seen_0 6 rfl rfl)
theorem dX1_seen_7 : decode cX1_seen 7 = .ok (.getfield 109, 3) := dk_180 0 109 (dk_at dksX1_seen_0 7 rfl rfl)
theorem dX1_seen_10 : decode cX1_seen 10 = .ok (.getfield 70, 3) := dk_180 0 70 (dk_at dksX1_seen_0 10 rfl rfl)
theorem dX1_seen_13 : decode cX1_seen 13 = .ok (.ishl, 1) := dk_120 (dk_at dksX1_seen_0 13 rfl rfl)
theorem dX1_seen_14 : decode cX1_seen 14 = .ok (.if_icmp .lt 5, 3) := dk_161 0 5 (dk_at dksX1_seen_0 14 rfl rfl)
theorem dX1_seen_17 : decode cX1_seen 17 = .ok (.iconst (-1), 1) := dk_2 (dk_at dksX1_seen_0 17 rfl rfl)
theorem dX1_seen_18 : decode cX1_seen 18 = .ok (.ireturn, 1) := dk_172 (dk_at dksX1_seen_0 18 rfl rfl)
theorem dX1_seen_19 : decode cX1_seen 19 = .ok (.iconst 0, 1) := dk_3 (dk_at dksX1_seen_0 19 rfl rfl)
theorem dX1_seen_20 : decode cX1_seen 20 = .ok (.istore_n 2, 1) := dk_61 (dk_at dksX1_seen_0 20 rfl rfl)
theorem dX1_seen_21 : decode cX1_seen 21 = .ok (.iconst 0, 1) := dk_3 (dk_at dksX1_seen_0 21 rfl rfl)
theorem dX1_seen_22 : decode cX1_seen 22 = .ok (.istore_n 3, 1) := dk_62 (dk_at dksX1_seen_0 22 rfl rfl)
theorem dX1_seen_23 : decode cX1_seen 23 = .ok (.iload_n 3, 1) := dk_29 (dk_at dksX1_seen_0 23 rfl rfl)
theorem dX1_seen_24 : decode cX1_seen 24 = .ok (.aload_n 0, 1) := dk_42 (dk_at dksX1_seen_1 0 rfl rfl)
theorem dX1_seen_25 : decode cX1_seen 25 = .ok (.getfield 109, 3) := dk_180 0 109 (dk_at dksX1_seen_1 1 rfl rfl)
theorem dX1_seen_28 : decode cX1_seen 28 = .ok (.getfield 70, 3) := dk_180 0 70 (dk_at dksX1_seen_1 4 rfl rfl)
theorem dX1_seen_31 : decode cX1_seen 31 = .ok (.if_icmp .ge 36, 3) := dk_162 0 36 (dk_at dksX1_seen_1 7 rfl rfl)
theorem dX1_seen_34 : decode cX1_seen 34 = .ok (.iload_n 2, 1) := dk_28 (dk_at dksX1_seen_1 10 rfl rfl)
theorem dX1_seen_35 : decode cX1_seen 35 = .ok (.iload_n 1, 1) := dk_27 (dk_at dksX1_seen_1 11 rfl rfl)
theorem dX1_seen_36 : decode cX1_seen 36 = .ok (.iload_n 3, 1) := dk_29 (dk_at dksX1_seen_1 12 rfl rfl)
theorem dX1_seen_37 : decode cX1_seen 37 = .ok (.invokestatic 215, 3) := dk_184 0 215 (dk_at dksX1_seen_1 13 rfl rfl)
theorem dX1_seen_40 : decode cX1_seen 40 = .ok (.ifCond .ne 18, 3) := dk_154 0 18 (dk_at dksX1_seen_1 16 rfl rfl)
theorem dX1_seen_43 : decode cX1_seen 43 = .ok (.aload_n 0, 1) := dk_42 (dk_at dksX1_seen_1 19 rfl rfl)
theorem dX1_seen_44 : decode cX1_seen 44 = .ok (.getfield 109, 3) := dk_180 0 109 (dk_at dksX1_seen_1 20 rfl rfl)
theorem dX1_seen_47 : decode cX1_seen 47 = .ok (.iload_n 3, 1) := dk_29 (dk_at dksX1_seen_1 23 rfl rfl)
theorem dX1_seen_48 : decode cX1_seen 48 = .ok (.invokevirtual 241, 3) := dk_182 0 241 (dk_at dksX1_seen_2 0 rfl rfl)
theorem dX1_seen_51 : decode cX1_seen 51 = .ok (.ifCond .eq 7, 3) := dk_153 0 7 (dk_at dksX1_seen_2 3 rfl rfl)
theorem dX1_seen_54 : decode cX1_seen 54 = .ok (.iconst 1, 1) := dk_4 (dk_at dksX1_seen_2 6 rfl rfl)
theorem dX1_seen_55 : decode cX1_seen 55 = .ok (.goto 4, 3) := dk_167 0 4 (dk_at dksX1_seen_2 7 rfl rfl)
theorem dX1_seen_58 : decode cX1_seen 58 = .ok (.iconst 0, 1) := dk_3 (dk_at dksX1_seen_2 10 rfl rfl)
theorem dX1_seen_59 : decode cX1_seen 59 = .ok (.iadd, 1) := dk_96 (dk_at dksX1_seen_2 11 rfl rfl)
theorem dX1_seen_60 : decode cX1_seen 60 = .ok (.istore_n 2, 1) := dk_61 (dk_at dksX1_seen_2 12 rfl rfl)
theorem dX1_seen_61 : decode cX1_seen 61 = .ok (.iinc 3 1, 3) := dk_132 3 1 (dk_at dksX1_seen_2 13 rfl rfl)
theorem dX1_seen_64 : decode cX1_seen 64 = .ok (.goto (-41), 3) := dk_167 255 215 (dk_at dksX1_seen_2 16 rfl rfl)
theorem dX1_seen_67 : decode cX1_seen 67 = .ok (.iconst 0, 1) := dk_3 (dk_at dksX1_seen_2 19 rfl rfl)
theorem dX1_seen_68 : decode cX1_seen 68 = .ok (.istore_n 3, 1) := dk_62 (dk_at dksX1_seen_2 20 rfl rfl)
theorem dX1_seen_69 : decode cX1_seen 69 = .ok (.iload_n 3, 1) := dk_29 (dk_at dksX1_seen_2 21 rfl rfl)
theorem dX1_seen_70 : decode cX1_seen 70 = .ok (.aload_n 0, 1) := dk_42 (dk_at dksX1_seen_2 22 rfl rfl)
theorem dX1_seen_71 : decode cX1_seen 71 = .ok (.getfield 109, 3) := dk_180 0 109 (dk_at dksX1_seen_3 0 rfl rfl)
theorem dX1_seen_74 : decode cX1_seen 74 = .ok (.getfield 70, 3) := dk_180 0 70 (dk_at dksX1_seen_3 3 rfl rfl)
theorem dX1_seen_77 : decode cX1_seen 77 = .ok (.if_icmp .ge 41, 3) := dk_162 0 41 (dk_at dksX1_seen_3 6 rfl rfl)
theorem dX1_seen_80 : decode cX1_seen 80 = .ok (.iload_n 1, 1) := dk_27 (dk_at dksX1_seen_3 9 rfl rfl)
theorem dX1_seen_81 : decode cX1_seen 81 = .ok (.iload_n 3, 1) := dk_29 (dk_at dksX1_seen_3 10 rfl rfl)
theorem dX1_seen_82 : decode cX1_seen 82 = .ok (.invokestatic 215, 3) := dk_184 0 215 (dk_at dksX1_seen_3 11 rfl rfl)
theorem dX1_seen_85 : decode cX1_seen 85 = .ok (.ifCond .eq 27, 3) := dk_153 0 27 (dk_at dksX1_seen_3 14 rfl rfl)
theorem dX1_seen_88 : decode cX1_seen 88 = .ok (.aload_n 0, 1) := dk_42 (dk_at dksX1_seen_3 17 rfl rfl)
theorem dX1_seen_89 : decode cX1_seen 89 = .ok (.getfield 109, 3) := dk_180 0 109 (dk_at dksX1_seen_3 18 rfl rfl)
theorem dX1_seen_92 : decode cX1_seen 92 = .ok (.getfield 81, 3) := dk_180 0 81 (dk_at dksX1_seen_3 21 rfl rfl)
theorem dX1_seen_95 : decode cX1_seen 95 = .ok (.ifCond .eq 15, 3) := dk_153 0 15 (dk_at dksX1_seen_4 0 rfl rfl)
theorem dX1_seen_98 : decode cX1_seen 98 = .ok (.aload_n 0, 1) := dk_42 (dk_at dksX1_seen_4 3 rfl rfl)
theorem dX1_seen_99 : decode cX1_seen 99 = .ok (.getfield 109, 3) := dk_180 0 109 (dk_at dksX1_seen_4 4 rfl rfl)
theorem dX1_seen_102 : decode cX1_seen 102 = .ok (.getfield 43, 3) := dk_180 0 43 (dk_at dksX1_seen_4 7 rfl rfl)
theorem dX1_seen_105 : decode cX1_seen 105 = .ok (.iload_n 3, 1) := dk_29 (dk_at dksX1_seen_4 10 rfl rfl)
theorem dX1_seen_106 : decode cX1_seen 106 = .ok (.iaload, 1) := dk_46 (dk_at dksX1_seen_4 11 rfl rfl)
theorem dX1_seen_107 : decode cX1_seen 107 = .ok (.ifCond .ne 5, 3) := dk_154 0 5 (dk_at dksX1_seen_4 12 rfl rfl)
theorem dX1_seen_110 : decode cX1_seen 110 = .ok (.iconst 0, 1) := dk_3 (dk_at dksX1_seen_4 15 rfl rfl)
theorem dX1_seen_111 : decode cX1_seen 111 = .ok (.ireturn, 1) := dk_172 (dk_at dksX1_seen_4 16 rfl rfl)
theorem dX1_seen_112 : decode cX1_seen 112 = .ok (.iinc 3 1, 3) := dk_132 3 1 (dk_at dksX1_seen_4 17 rfl rfl)
theorem dX1_seen_115 : decode cX1_seen 115 = .ok (.goto (-46), 3) := dk_167 255 210 (dk_at dksX1_seen_4 20 rfl rfl)
theorem dX1_seen_118 : decode cX1_seen 118 = .ok (.iload_n 2, 1) := dk_28 (dk_at dksX1_seen_4 23 rfl rfl)
theorem dX1_seen_119 : decode cX1_seen 119 = .ok (.ireturn, 1) := dk_172 (dk_at dksX1_seen_5 0 rfl rfl)
abbrev cX1_forged : ByteArray := prog_1_method_60_code
def yX1_forged : MethodName := ⟨RX1, "forged", "(I)I"⟩
def dkwX1_forged_4 : List UInt8 := [180, 0, 66, 21, 5, 21, 6, 182, 0, 88, 87, 132, 4, 1, 167, 255, 191, 16, 252, 172]
abbrev dktX1_forged_4 : List UInt8 := dkwX1_forged_4 ++ []
def dkwX1_forged_3 : List UInt8 := [184, 1, 21, 54, 6, 42, 180, 0, 66, 21, 5, 21, 6, 182, 0, 50, 154, 0, 6, 21, 4, 172, 42]
abbrev dktX1_forged_3 : List UInt8 := dkwX1_forged_3 ++ dktX1_forged_4
def dkwX1_forged_2 : List UInt8 := [184, 1, 18, 162, 0, 60, 45, 5, 21, 4, 104, 184, 1, 21, 54, 5, 45, 5, 21, 4, 104, 4, 96]
abbrev dktX1_forged_2 : List UInt8 := dkwX1_forged_2 ++ dktX1_forged_3
def dkwX1_forged_1 : List UInt8 := [184, 1, 18, 5, 112, 4, 160, 0, 6, 16, 243, 172, 42, 182, 0, 194, 3, 54, 4, 5, 21, 4, 104, 45]
abbrev dktX1_forged_1 : List UInt8 := dkwX1_forged_1 ++ dktX1_forged_2
def dkwX1_forged_0 : List UInt8 := [42, 27, 182, 1, 15, 61, 28, 153, 0, 5, 28, 172, 42, 180, 0, 128, 27, 50, 180, 0, 132, 78, 45]
abbrev dktX1_forged_0 : List UInt8 := dkwX1_forged_0 ++ dktX1_forged_1
theorem dksX1_forged_0 : cX1_forged.data.toList.drop 0 = dktX1_forged_0 := by decide +kernel
theorem dksX1_forged_1 : cX1_forged.data.toList.drop 23 = dktX1_forged_1 := dk_seg dksX1_forged_0 23 rfl rfl
theorem dksX1_forged_2 : cX1_forged.data.toList.drop 47 = dktX1_forged_2 := dk_seg dksX1_forged_1 24 rfl rfl
theorem dksX1_forged_3 : cX1_forged.data.toList.drop 70 = dktX1_forged_3 := dk_seg dksX1_forged_2 23 rfl rfl
theorem dksX1_forged_4 : cX1_forged.data.toList.drop 93 = dktX1_forged_4 := dk_seg dksX1_forged_3 23 rfl rfl
theorem dX1_forged_0 : decode cX1_forged 0 = .ok (.aload_n 0, 1) := dk_42 (dk_at dksX1_forged_0 0 rfl rfl)
theorem dX1_forged_1 : decode cX1_forged 1 = .ok (.iload_n 1, 1) := dk_27 (dk_at dksX1_forged_0 1 rfl rfl)
theorem dX1_forged_2 : decode cX1_forged 2 = .ok (.invokevirtual 271, 3) := dk_182 1 15 (dk_at dksX1_forged_0 2 rfl rfl)
theorem dX1_forged_5 : decode cX1_forged 5 = .ok (.istore_n 2, 1) := dk_61 (dk_at dksX1_forged_0 5 rfl rfl)
theorem dX1_forged_6 : decode cX1_forged 6 = .ok (.iload_n 2, 1) := dk_28 (dk_at dksX1_forged_0 6 rfl rfl)
theorem dX1_forged_7 : decode cX1_forged 7 = .ok (.ifCond .eq 5, 3) := dk_153 0 5 (dk_at dksX1_forged_0 7 rfl rfl)
theorem dX1_forged_10 : decode cX1_forged 10 = .ok (.iload_n 2, 1) := dk_28 (dk_at dksX1_forged_0 10 rfl rfl)
theorem dX1_forged_11 : decode cX1_forged 11 = .ok (.ireturn, 1) := dk_172 (dk_at dksX1_forged_0 11 rfl rfl)
theorem dX1_forged_12 : decode cX1_forged 12 = .ok (.aload_n 0, 1) := dk_42 (dk_at dksX1_forged_0 12 rfl rfl)
theorem dX1_forged_13 : decode cX1_forged 13 = .ok (.getfield 128, 3) := dk_180 0 128 (dk_at dksX1_forged_0 13 rfl rfl)
theorem dX1_forged_16 : decode cX1_forged 16 = .ok (.iload_n 1, 1) := dk_27 (dk_at dksX1_forged_0 16 rfl rfl)
theorem dX1_forged_17 : decode cX1_forged 17 = .ok (.aaload, 1) := dk_50 (dk_at dksX1_forged_0 17 rfl rfl)
theorem dX1_forged_18 : decode cX1_forged 18 = .ok (.getfield 132, 3) := dk_180 0 132 (dk_at dksX1_forged_0 18 rfl rfl)
theorem dX1_forged_21 : decode cX1_forged 21 = .ok (.astore_n 3, 1) := dk_78 (dk_at dksX1_forged_0 21 rfl rfl)
theorem dX1_forged_22 : decode cX1_forged 22 = .ok (.aload_n 3, 1) := dk_45 (dk_at dksX1_forged_0 22 rfl rfl)
theorem dX1_forged_23 : decode cX1_forged 23 = .ok (.invokestatic 274, 3) := dk_184 1 18 (dk_at dksX1_forged_1 0 rfl rfl)
theorem dX1_forged_26 : decode cX1_forged 26 = .ok (.iconst 2, 1) := dk_5 (dk_at dksX1_forged_1 3 rfl rfl)
theorem dX1_forged_27 : decode cX1_forged 27 = .ok (.irem, 1) := dk_112 (dk_at dksX1_forged_1 4 rfl rfl)
theorem dX1_forged_28 : decode cX1_forged 28 = .ok (.iconst 1, 1) := dk_4 (dk_at dksX1_forged_1 5 rfl rfl)
theorem dX1_forged_29 : decode cX1_forged 29 = .ok (.if_icmp .ne 6, 3) := dk_160 0 6 (dk_at dksX1_forged_1 6 rfl rfl)
theorem dX1_forged_32 : decode cX1_forged 32 = .ok (.bipush (-13), 2) := dk_16 243 (dk_at dksX1_forged_1 9 rfl rfl)
theorem dX1_forged_34 : decode cX1_forged 34 = .ok (.ireturn, 1) := dk_172 (dk_at dksX1_forged_1 11 rfl rfl)
theorem dX1_forged_35 : decode cX1_forged 35 = .ok (.aload_n 0, 1) := dk_42 (dk_at dksX1_forged_1 12 rfl rfl)
theorem dX1_forged_36 : decode cX1_forged 36 = .ok (.invokevirtual 194, 3) := dk_182 0 194 (dk_at dksX1_forged_1 13 rfl rfl)
theorem dX1_forged_39 : decode cX1_forged 39 = .ok (.iconst 0, 1) := dk_3 (dk_at dksX1_forged_1 16 rfl rfl)
theorem dX1_forged_40 : decode cX1_forged 40 = .ok (.istore 4, 2) := dk_54 4 (dk_at dksX1_forged_1 17 rfl rfl)
theorem dX1_forged_42 : decode cX1_forged 42 = .ok (.iconst 2, 1) := dk_5 (dk_at dksX1_forged_1 19 rfl rfl)
theorem dX1_forged_43 : decode cX1_forged 43 = .ok (.iload 4, 2) := dk_21 4 (dk_at dksX1_forged_1 20 rfl rfl)
theorem dX1_forged_45 : decode cX1_forged 45 = .ok (.imul, 1) := dk_104 (dk_at dksX1_forged_1 22 rfl rfl)
theorem dX1_forged_46 : decode cX1_forged 46 = .ok (.aload_n 3, 1) := dk_45 (dk_at dksX1_forged_1 23 rfl rfl)
theorem dX1_forged_47 : decode cX1_forged 47 = .ok (.invokestatic 274, 3) := dk_184 1 18 (dk_at dksX1_forged_2 0 rfl rfl)
theorem dX1_forged_50 : decode cX1_forged 50 = .ok (.if_icmp .ge 60, 3) := dk_162 0 60 (dk_at dksX1_forged_2 3 rfl rfl)
theorem dX1_forged_53 : decode cX1_forged 53 = .ok (.aload_n 3, 1) := dk_45 (dk_at dksX1_forged_2 6 rfl rfl)
theorem dX1_forged_54 : decode cX1_forged 54 = .ok (.iconst 2, 1) := dk_5 (dk_at dksX1_forged_2 7 rfl rfl)
theorem dX1_forged_55 : decode cX1_forged 55 = .ok (.iload 4, 2) := dk_21 4 (dk_at dksX1_forged_2 8 rfl rfl)
theorem dX1_forged_57 : decode cX1_forged 57 = .ok (.imul, 1) := dk_104 (dk_at dksX1_forged_2 10 rfl rfl)
theorem dX1_forged_58 : decode cX1_forged 58 = .ok (.invokestatic 277, 3) := dk_184 1 21 (dk_at dksX1_forged_2 11 rfl rfl)
theorem dX1_forged_61 : decode cX1_forged 61 = .ok (.istore 5, 2) := dk_54 5 (dk_at dksX1_forged_2 14 rfl rfl)
theorem dX1_forged_63 : decode cX1_forged 63 = .ok (.aload_n 3, 1) := dk_45 (dk_at dksX1_forged_2 16 rfl rfl)
theorem dX1_forged_64 : decode cX1_forged 64 = .ok (.iconst 2, 1) := dk_5 (dk_at dksX1_forged_2 17 rfl rfl)
theorem dX1_forged_65 : decode cX1_forged 65 = .ok (.iload 4, 2) := dk_21 4 (dk_at dksX1_forged_2 18 rfl rfl)
theorem dX1_forged_67 : decode cX1_forged 67 = .ok (.imul, 1) := dk_104 (dk_at dksX1_forged_2 20 rfl rfl)
theorem dX1_forged_68 : decode cX1_forged 68 = .ok (.iconst 1, 1) := dk_4 (dk_at dksX1_forged_2 21 rfl rfl)
theorem dX1_forged_69 : decode cX1_forged 69 = .ok (.iadd, 1) := dk_96 (dk_at dksX1_forged_2 22 rfl rfl)
theorem dX1_forged_70 : decode cX1_forged 70 = .ok (.invokestatic 277, 3) := dk_184 1 21 (dk_at dksX1_forged_3 0 rfl rfl)
theorem dX1_forged_73 : decode cX1_forged 73 = .ok (.istore 6, 2) := dk_54 6 (dk_at dksX1_forged_3 3 rfl rfl)
theorem dX1_forged_75 : decode cX1_forged 75 = .ok (.aload_n 0, 1) := dk_42 (dk_at dksX1_forged_3 5 rfl rfl)
theorem dX1_forged_76 : decode cX1_forged 76 = .ok (.getfield 66, 3) := dk_180 0 66 (dk_at dksX1_forged_3 6 rfl rfl)
theorem dX1_forged_79 : decode cX1_forged 79 = .ok (.iload 5, 2) := dk_21 5 (dk_at dksX1_forged_3 9 rfl rfl)
theorem dX1_forged_81 : decode cX1_forged 81 = .ok (.iload 6, 2) := dk_21 6 (dk_at dksX1_forged_3 11 rfl rfl)
theorem dX1_forged_83 : decode cX1_forged 83 = .ok (.invokevirtual 50, 3) := dk_182 0 50 (dk_at dksX1_forged_3 13 rfl rfl)
theorem dX1_forged_86 : decode cX1_forged 86 = .ok (.ifCond .ne 6, 3) := dk_154 0 6 (dk_at dksX1_forged_3 16 rfl rfl)
theorem dX1_forged_89 : decode cX1_forged 89 = .ok (.iload 4, 2) := dk_21 4 (dk_at dksX1_forged_3 19 rfl rfl)
theorem dX1_forged_91 : decode cX1_forged 91 = .ok (.ireturn, 1) := dk_172 (dk_at dksX1_forged_3 21 rfl rfl)
theorem dX1_forged_92 : decode cX1_forged 92 = .ok (.aload_n 0, 1) := dk_42 (dk_at dksX1_forged_3 22 rfl rfl)
theorem dX1_forged_93 : decode cX1_forged 93 = .ok (.getfield 66, 3) := dk_180 0 66 (dk_at dksX1_forged_4 0 rfl rfl)
theorem dX1_forged_96 : decode cX1_forged 96 = .ok (.iload 5, 2) := dk_21 5 (dk_at dksX1_forged_4 3 rfl rfl)
theorem dX1_forged_98 : decode cX1_forged 98 = .ok (.iload 6, 2) := dk_21 6 (dk_at dksX1_forged_4 5 rfl rfl)
theorem dX1_forged_100 : decode cX1_forged 100 = .ok (.invokevirtual 88, 3) := dk_182 0 88 (dk_at dksX1_forged_4 7 rfl rfl)
theorem dX1_forged_103 : decode cX1_forged 103 = .ok (.pop, 1) := dk_87 (dk_at dksX1_forged_4 10 rfl rfl)
theorem dX1_forged_104 : decode cX1_forged 104 = .ok (.iinc 4 1, 3) := dk_132 4 1 (dk_at dksX1_forged_4 11 rfl rfl)
theorem dX1_forged_107 : decode cX1_forged 107 = .ok (.goto (-65), 3) := dk_167 255 191 (dk_at dksX1_forged_4 14 rfl rfl)
theorem dX1_forged_110 : decode cX1_forged 110 = .ok (.bipush (-4), 2) := dk_16 252 (dk_at dksX1_forged_4 17 rfl rfl)
theorem dX1_forged_112 : decode cX1_forged 112 = .ok (.ireturn, 1) := dk_172 (dk_at dksX1_forged_4 19 rfl rfl)
abbrev cX1_judge : ByteArray := prog_1_method_61_code
def yX1_judge : MethodName := ⟨RX1, "judge", "(I)I"⟩
def dkwX1_judge_4 : List UInt8 := [21, 4, 184, 1, 21, 21, 6, 159, 0, 6, 21, 4, 172, 132, 4, 1, 167, 255, 174, 16, 252, 172]
abbrev dktX1_judge_4 : List UInt8 := dkwX1_judge_4 ++ []
def dkwX1_judge_3 : List UInt8 := [182, 0, 88, 54, 6, 45, 21, 4, 184, 1, 21, 45, 184, 1, 62, 159, 0, 22, 21, 5, 155, 0, 14, 45]
abbrev dktX1_judge_3 : List UInt8 := dkwX1_judge_3 ++ dktX1_judge_4
def dkwX1_judge_2 : List UInt8 := [21, 5, 156, 0, 8, 16, 252, 167, 0, 20, 42, 180, 0, 66, 21, 5, 16, 10, 108, 21, 5, 16, 10, 112]
abbrev dktX1_judge_2 : List UInt8 := dkwX1_judge_2 ++ dktX1_judge_3
def dkwX1_judge_1 : List UInt8 := [182, 0, 194, 3, 54, 4, 21, 4, 45, 184, 1, 18, 162, 0, 79, 42, 180, 0, 66, 182, 0, 188, 54, 5]
abbrev dktX1_judge_1 : List UInt8 := dkwX1_judge_1 ++ dktX1_judge_2
def dkwX1_judge_0 : List UInt8 := [42, 27, 182, 1, 15, 61, 28, 153, 0, 5, 28, 172, 42, 180, 0, 128, 27, 50, 180, 0, 132, 78, 42]
abbrev dktX1_judge_0 : List UInt8 := dkwX1_judge_0 ++ dktX1_judge_1
theorem dksX1_judge_0 : cX1_judge.data.toList.drop 0 = dktX1_judge_0 := by decide +kernel
theorem dksX1_judge_1 : cX1_judge.data.toList.drop 23 = dktX1_judge_1 := dk_seg dksX1_judge_0 23 rfl rfl
theorem dksX1_judge_2 : cX1_judge.data.toList.drop 47 = dktX1_judge_2 := dk_seg dksX1_judge_1 24 rfl rfl
theorem dksX1_judge_3 : cX1_judge.data.toList.drop 71 = dktX1_judge_3 := dk_seg dksX1_judge_2 24 rfl rfl
theorem dksX1_judge_4 : cX1_judge.data.toList.drop 95 = dktX1_judge_4 := dk_seg dksX1_judge_3 24 rfl rfl
theorem dX1_judge_0 : decode cX1_judge 0 = .ok (.aload_n 0, 1) := dk_42 (dk_at dksX1_judge_0 0 rfl rfl)
theorem dX1_judge_1 : decode cX1_judge 1 = .ok (.iload_n 1, 1) := dk_27 (dk_at dksX1_judge_0 1 rfl rfl)
theorem dX1_judge_2 : decode cX1_judge 2 = .ok (.invokevirtual 271, 3) := dk_182 1 15 (dk_at dksX1_judge_0 2 rfl rfl)
theorem dX1_judge_5 : decode cX1_judge 5 = .ok (.istore_n 2, 1) := dk_61 (dk_at dksX1_judge_0 5 rfl rfl)
theorem dX1_judge_6 : decode cX1_judge 6 = .ok (.iload_n 2, 1) := dk_28 (dk_at dksX1_judge_0 6 rfl rfl)
theorem dX1_judge_7 : decode cX1_judge 7 = .ok (.ifCond .eq 5, 3) := dk_153 0 5 (dk_at dksX1_judge_0 7 rfl rfl)
theorem dX1_judge_10 : decode cX1_judge 10 = .ok (.iload_n 2, 1) := dk_28 (dk_at dksX1_judge_0 10 rfl rfl)
theorem dX1_judge_11 : decode cX1_judge 11 = .ok (.ireturn, 1) := dk_172 (dk_at dksX1_judge_0 11 rfl rfl)
theorem dX1_judge_12 : decode cX1_judge 12 = .ok (.aload_n 0, 1) := dk_42 (dk_at dksX1_judge_0 12 rfl rfl)
theorem dX1_judge_13 : decode cX1_judge 13 = .ok (.getfield 128, 3) := dk_180 0 128 (dk_at dksX1_judge_0 13 rfl rfl)
theorem dX1_judge_16 : decode cX1_judge 16 = .ok (.iload_n 1, 1) := dk_27 (dk_at dksX1_judge_0 16 rfl rfl)
theorem dX1_judge_17 : decode cX1_judge 17 = .ok (.aaload, 1) := dk_50 (dk_at dksX1_judge_0 17 rfl rfl)
theorem dX1_judge_18 : decode cX1_judge 18 = .ok (.getfield 132, 3) := dk_180 0 132 (dk_at dksX1_judge_0 18 rfl rfl)
theorem dX1_judge_21 : decode cX1_judge 21 = .ok (.astore_n 3, 1) := dk_78 (dk_at dksX1_judge_0 21 rfl rfl)
theorem dX1_judge_22 : decode cX1_judge 22 = .ok (.aload_n 0, 1) := dk_42 (dk_at dksX1_judge_0 22 rfl rfl)
theorem dX1_judge_23 : decode cX1_judge 23 = .ok (.invokevirtual 194, 3) := dk_182 0 194 (dk_at dksX1_judge_1 0 rfl rfl)
theorem dX1_judge_26 : decode cX1_judge 26 = .ok (.iconst 0, 1) := dk_3 (dk_at dksX1_judge_1 3 rfl rfl)
theorem dX1_judge_27 : decode cX1_judge 27 = .ok (.istore 4, 2) := dk_54 4 (dk_at dksX1_judge_1 4 rfl rfl)
theorem dX1_judge_29 : decode cX1_judge 29 = .ok (.iload 4, 2) := dk_21 4 (dk_at dksX1_judge_1 6 rfl rfl)
theorem dX1_judge_31 : decode cX1_judge 31 = .ok (.aload_n 3, 1) := dk_45 (dk_at dksX1_judge_1 8 rfl rfl)
theorem dX1_judge_32 : decode cX1_judge 32 = .ok (.invokestatic 274, 3) := dk_184 1 18 (dk_at dksX1_judge_1 9 rfl rfl)
theorem dX1_judge_35 : decode cX1_judge 35 = .ok (.if_icmp .ge 79, 3) := dk_162 0 79 (dk_at dksX1_judge_1 12 rfl rfl)
theorem dX1_judge_38 : decode cX1_judge 38 = .ok (.aload_n 0, 1) := dk_42 (dk_at dksX1_judge_1 15 rfl rfl)
theorem dX1_judge_39 : decode cX1_judge 39 = .ok (.getfield 66, 3) := dk_180 0 66 (dk_at dksX1_judge_1 16 rfl rfl)
theorem dX1_judge_42 : decode cX1_judge 42 = .ok (.invokevirtual 188, 3) := dk_182 0 188 (dk_at dksX1_judge_1 19 rfl rfl)
theorem dX1_judge_45 : decode cX1_judge 45 = .ok (.istore 5, 2) := dk_54 5 (dk_at dksX1_judge_1 22 rfl rfl)
theorem dX1_judge_47 : decode cX1_judge 47 = .ok (.iload 5, 2) := dk_21 5 (dk_at dksX1_judge_2 0 rfl rfl)
theorem dX1_judge_49 : decode cX1_judge 49 = .ok (.ifCond .ge 8, 3) := dk_156 0 8 (dk_at dksX1_judge_2 2 rfl rfl)
theorem dX1_judge_52 : decode cX1_judge 52 = .ok (.bipush (-4), 2) := dk_16 252 (dk_at dksX1_judge_2 5 rfl rfl)
theorem dX1_judge_54 : decode cX1_judge 54 = .ok (.goto 20, 3) := dk_167 0 20 (dk_at dksX1_judge_2 7 rfl rfl)
theorem dX1_judge_57 : decode cX1_judge 57 = .ok (.aload_n 0, 1) := dk_42 (dk_at dksX1_judge_2 10 rfl rfl)
theorem dX1_judge_58 : decode cX1_judge 58 = .ok (.getfield 66, 3) := dk_180 0 66 (dk_at dksX1_judge_2 11 rfl rfl)
theorem dX1_judge_61 : decode cX1_judge 61 = .ok (.iload 5, 2) := dk_21 5 (dk_at dksX1_judge_2 14 rfl rfl)
theorem dX1_judge_63 : decode cX1_judge 63 = .ok (.bipush 10, 2) := dk_16 10 (dk_at dksX1_judge_2 16 rfl rfl)
theorem dX1_judge_65 : decode cX1_judge 65 = .ok (.idiv, 1) := dk_108 (dk_at dksX1_judge_2 18 rfl rfl)
theorem dX1_judge_66 : decode cX1_judge 66 = .ok (.iload 5, 2) := dk_21 5 (dk_at dksX1_judge_2 19 rfl rfl)
theorem dX1_judge_68 : decode cX1_judge 68 = .ok (.bipush 10, 2) := dk_16 10 (dk_at dksX1_judge_2 21 rfl rfl)
theorem dX1_judge_70 : decode cX1_judge 70 = .ok (.irem, 1) := dk_112 (dk_at dksX1_judge_2 23 rfl rfl)
theorem dX1_judge_71 : decode cX1_judge 71 = .ok (.invokevirtual 88, 3) := dk_182 0 88 (dk_at dksX1_judge_3 0 rfl rfl)
theorem dX1_judge_74 : decode cX1_judge 74 = .ok (.istore 6, 2) := dk_54 6 (dk_at dksX1_judge_3 3 rfl rfl)
theorem dX1_judge_76 : decode cX1_judge 76 = .ok (.aload_n 3, 1) := dk_45 (dk_at dksX1_judge_3 5 rfl rfl)
theorem dX1_judge_77 : decode cX1_judge 77 = .ok (.iload 4, 2) := dk_21 4 (dk_at dksX1_judge_3 6 rfl rfl)
theorem dX1_judge_79 : decode cX1_judge 79 = .ok (.invokestatic 277, 3) := dk_184 1 21 (dk_at dksX1_judge_3 8 rfl rfl)
theorem dX1_judge_82 : decode cX1_judge 82 = .ok (.aload_n 3, 1) := dk_45 (dk_at dksX1_judge_3 11 rfl rfl)
theorem dX1_judge_83 : decode cX1_judge 83 = .ok (.invokestatic 318, 3) := dk_184 1 62 (dk_at dksX1_judge_3 12 rfl rfl)
theorem dX1_judge_86 : decode cX1_judge 86 = .ok (.if_icmp .eq 22, 3) := dk_159 0 22 (dk_at dksX1_judge_3 15 rfl rfl)
theorem dX1_judge_89 : decode cX1_judge 89 = .ok (.iload 5, 2) := dk_21 5 (dk_at dksX1_judge_3 18 rfl rfl)
theorem dX1_judge_91 : decode cX1_judge 91 = .ok (.ifCond .lt 14, 3) := dk_155 0 14 (dk_at dksX1_judge_3 20 rfl rfl)
theorem dX1_judge_94 : decode cX1_judge 94 = .ok (.aload_n 3, 1) := dk_45 (dk_at dksX1_judge_3 23 rfl rfl)
theorem dX1_judge_95 : decode cX1_judge 95 = .ok (.iload 4, 2) := dk_21 4 (dk_at dksX1_judge_4 0 rfl rfl)
theorem dX1_judge_97 : decode cX1_judge 97 = .ok (.invokestatic 277, 3) := dk_184 1 21 (dk_at dksX1_judge_4 2 rfl rfl)
theorem dX1_judge_100 : decode cX1_judge 100 = .ok (.iload 6, 2) := dk_21 6 (dk_at dksX1_judge_4 5 rfl rfl)
theorem dX1_judge_102 : decode cX1_judge 102 = .ok (.if_icmp .eq 6, 3) := dk_159 0 6 (dk_at dksX1_judge_4 7 rfl rfl)
theorem dX1_judge_105 : decode cX1_judge 105 = .ok (.iload 4, 2) := dk_21 4 (dk_at dksX1_judge_4 10 rfl rfl)
theorem dX1_judge_107 : decode cX1_judge 107 = .ok (.ireturn, 1) := dk_172 (dk_at dksX1_judge_4 12 rfl rfl)
theorem dX1_judge_108 : decode cX1_judge 108 = .ok (.iinc 4 1, 3) := dk_132 4 1 (dk_at dksX1_judge_4 13 rfl rfl)
theorem dX1_judge_111 : decode cX1_judge 111 = .ok (.goto (-82), 3) := dk_167 255 174 (dk_at dksX1_judge_4 16 rfl rfl)
theorem dX1_judge_114 : decode cX1_judge 114 = .ok (.bipush (-4), 2) := dk_16 252 (dk_at dksX1_judge_4 19 rfl rfl)
theorem dX1_judge_116 : decode cX1_judge 116 = .ok (.ireturn, 1) := dk_172 (dk_at dksX1_judge_4 21 rfl rfl)
abbrev cX1_leastElement : ByteArray := prog_1_method_40_code
def yX1_leastElement : MethodName := ⟨RX1, "leastElement", "(Ljava/lang/Object;)I"⟩
def dkwX1_leastElement_1 : List UInt8 := [167, 0, 6, 19, 1, 10, 172]
abbrev dktX1_leastElement_1 : List UInt8 := dkwX1_leastElement_1 ++ []
def dkwX1_leastElement_0 : List UInt8 := [42, 193, 0, 138, 153, 0, 8, 16, 128, 167, 0, 19, 42, 193, 1, 3, 153, 0, 9, 17, 128, 0]
abbrev dktX1_leastElement_0 : List UInt8 := dkwX1_leastElement_0 ++ dktX1_leastElement_1
theorem dksX1_leastElement_0 : cX1_leastElement.data.toList.drop 0 = dktX1_leastElement_0 := by decide +kernel
theorem dksX1_leastElement_1 : cX1_leastElement.data.toList.drop 22 = dktX1_leastElement_1 := dk_seg dksX1_leastElement_0 22 rfl rfl
theorem dX1_leastElement_0 : decode cX1_leastElement 0 = .ok (.aload_n 0, 1) := dk_42 (dk_at dksX1_leastElement_0 0 rfl rfl)
theorem dX1_leastElement_1 : decode cX1_leastElement 1 = .ok (.instanceof 138, 3) := dk_193 0 138 (dk_at dksX1_leastElement_0 1 rfl rfl)
theorem dX1_leastElement_4 : decode cX1_leastElement 4 = .ok (.ifCond .eq 8, 3) := dk_153 0 8 (dk_at dksX1_leastElement_0 4 rfl rfl)
theorem dX1_leastElement_7 : decode cX1_leastElement 7 = .ok (.bipush (-128), 2) := dk_16 128 (dk_at dksX1_leastElement_0 7 rfl rfl)
theorem dX1_leastElement_9 : decode cX1_leastElement 9 = .ok (.goto 19, 3) := dk_167 0 19 (dk_at dksX1_leastElement_0 9 rfl rfl)
theorem dX1_leastElement_12 : decode cX1_leastElement 12 = .ok (.aload_n 0, 1) := dk_42 (dk_at dksX1_leastElement_0 12 rfl rfl)
theorem dX1_leastElement_13 : decode cX1_leastElement 13 = .ok (.instanceof 259, 3) := dk_193 1 3 (dk_at dksX1_leastElement_0 13 rfl rfl)
theorem dX1_leastElement_16 : decode cX1_leastElement 16 = .ok (.ifCond .eq 9, 3) := dk_153 0 9 (dk_at dksX1_leastElement_0 16 rfl rfl)
theorem dX1_leastElement_19 : decode cX1_leastElement 19 = .ok (.sipush (-32768), 3) := dk_17 128 0 (dk_at dksX1_leastElement_0 19 rfl rfl)
theorem dX1_leastElement_22 : decode cX1_leastElement 22 = .ok (.goto 6, 3) := dk_167 0 6 (dk_at dksX1_leastElement_1 0 rfl rfl)
theorem dX1_leastElement_25 : decode cX1_leastElement 25 = .ok (.ldc_w 266, 3) := dk_19 1 10 (dk_at dksX1_leastElement_1 3 rfl rfl)
theorem dX1_leastElement_28 : decode cX1_leastElement 28 = .ok (.ireturn, 1) := dk_172 (dk_at dksX1_leastElement_1 6 rfl rfl)
abbrev cX1_fetes : ByteArray := prog_1_method_63_code
def yX1_fetes : MethodName := ⟨RX1, "fetes", "(III)I"⟩
def dkwX1_fetes_6 : List UInt8 := [167, 255, 165, 29, 154, 0, 8, 21, 4, 167, 0, 5, 21, 5, 172]
abbrev dktX1_fetes_6 : List UInt8 := dkwX1_fetes_6 ++ []
def dkwX1_fetes_5 : List UInt8 := [21, 8, 21, 9, 182, 0, 88, 96, 54, 4, 132, 5, 1, 132, 7, 1, 167, 255, 184, 132, 6, 1]
abbrev dktX1_fetes_5 : List UInt8 := dkwX1_fetes_5 ++ dktX1_fetes_6
def dkwX1_fetes_4 : List UInt8 := [42, 180, 0, 66, 21, 8, 21, 9, 182, 0, 50, 154, 0, 6, 167, 0, 22, 21, 4, 42, 180, 0, 66]
abbrev dktX1_fetes_4 : List UInt8 := dkwX1_fetes_4 ++ dktX1_fetes_5
def dkwX1_fetes_3 : List UInt8 := [180, 0, 109, 180, 0, 70, 182, 1, 71, 54, 8, 42, 42, 180, 0, 109, 180, 0, 70, 182, 1, 71, 54, 9]
abbrev dktX1_fetes_3 : List UInt8 := dkwX1_fetes_3 ++ dktX1_fetes_4
def dkwX1_fetes_2 : List UInt8 := [54, 6, 21, 6, 27, 162, 0, 91, 42, 182, 0, 194, 3, 54, 7, 21, 7, 16, 10, 162, 0, 71, 42, 42]
abbrev dktX1_fetes_2 : List UInt8 := dkwX1_fetes_2 ++ dktX1_fetes_3
def dkwX1_fetes_1 : List UInt8 := [180, 0, 109, 180, 0, 70, 154, 0, 6, 16, 253, 172, 42, 28, 181, 1, 65, 3, 54, 4, 3, 54, 5, 3]
abbrev dktX1_fetes_1 : List UInt8 := dkwX1_fetes_1 ++ dktX1_fetes_2
def dkwX1_fetes_0 : List UInt8 := [27, 4, 16, 20, 184, 0, 30, 153, 0, 12, 29, 3, 4, 184, 0, 30, 154, 0, 5, 2, 172, 42]
abbrev dktX1_fetes_0 : List UInt8 := dkwX1_fetes_0 ++ dktX1_fetes_1
theorem dksX1_fetes_0 : cX1_fetes.data.toList.drop 0 = dktX1_fetes_0 := by decide +kernel
theorem dksX1_fetes_1 : cX1_fetes.data.toList.drop 22 = dktX1_fetes_1 := dk_seg dksX1_fetes_0 22 rfl rfl
theorem dksX1_fetes_2 : cX1_fetes.data.toList.drop 46 = dktX1_fetes_2 := dk_seg dksX1_fetes_1 24 rfl rfl
theorem dksX1_fetes_3 : cX1_fetes.data.toList.drop 70 = dktX1_fetes_3 := dk_seg dksX1_fetes_2 24 rfl rfl
theorem dksX1_fetes_4 : cX1_fetes.data.toList.drop 94 = dktX1_fetes_4 := dk_seg dksX1_fetes_3 24 rfl rfl
theorem dksX1_fetes_5 : cX1_fetes.data.toList.drop 117 = dktX1_fetes_5 := dk_seg dksX1_fetes_4 23 rfl rfl
theorem dksX1_fetes_6 : cX1_fetes.data.toList.drop 139 = dktX1_fetes_6 := dk_seg dksX1_fetes_5 22 rfl rfl
theorem dX1_fetes_0 : decode cX1_fetes 0 = .ok (.iload_n 1, 1) := dk_27 (dk_at dksX1_fetes_0 0 rfl rfl)
theorem dX1_fetes_1 : decode cX1_fetes 1 = .ok (.iconst 1, 1) := dk_4 (dk_at dksX1_fetes_0 1 rfl rfl)
theorem dX1_fetes_2 : decode cX1_fetes 2 = .ok (.bipush 20, 2) := dk_16 20 (dk_at dksX1_fetes_0 2 rfl rfl)
theorem dX1_fetes_4 : decode cX1_fetes 4 = .ok (.invokestatic 30, 3) := dk_184 0 30 (dk_at dksX1_fetes_0 4 rfl rfl)
theorem dX1_fetes_7 : decode cX1_fetes 7 = .ok (.ifCond .eq 12, 3) := dk_153 0 12 (dk_at dksX1_fetes_0 7 rfl rfl)
theorem dX1_fetes_10 : decode cX1_fetes 10 = .ok (.iload_n 3, 1) := dk_29 (dk_at dksX1_fetes_0 10 rfl rfl)
theorem dX1_fetes_11 : decode cX1_fetes 11 = .ok (.iconst 0, 1) := dk_3 (dk_at dksX1_fetes_0 11 rfl rfl)
theorem dX1_fetes_12 : decode cX1_fetes 12 = .ok (.iconst 1, 1) := dk_4 (dk_at dksX1_fetes_0 12 rfl rfl)
theorem dX1_fetes_13 : decode cX1_fetes 13 = .ok (.invokestatic 30, 3) := dk_184 0 30 (dk_at dksX1_fetes_0 13 rfl rfl)
theorem dX1_fetes_16 : decode cX1_fetes 16 = .ok (.ifCond .ne 5, 3) := dk_154 0 5 (dk_at dksX1_fetes_0 16 rfl rfl)
theorem dX1_fetes_19 : decode cX1_fetes 19 = .ok (.iconst (-1), 1) := dk_2 (dk_at dksX1_fetes_0 19 rfl rfl)
theorem dX1_fetes_20 : decode cX1_fetes 20 = .ok (.ireturn, 1) := dk_172 (dk_at dksX1_fetes_0 20 rfl rfl)
theorem dX1_fetes_21 : decode cX1_fetes 21 = .ok (.aload_n 0, 1) := dk_42 (dk_at dksX1_fetes_0 21 rfl rfl)
theorem dX1_fetes_22 : decode cX1_fetes 22 = .ok (.getfield 109, 3) := dk_180 0 109 (dk_at dksX1_fetes_1 0 rfl rfl)
theorem dX1_fetes_25 : decode cX1_fetes 25 = .ok (.getfield 70, 3) := dk_180 0 70 (dk_at dksX1_fetes_1 3 rfl rfl)
theorem dX1_fetes_28 : decode cX1_fetes 28 = .ok (.ifCond .ne 6, 3) := dk_154 0 6 (dk_at dksX1_fetes_1 6 rfl rfl)
theorem dX1_fetes_31 : decode cX1_fetes 31 = .ok (.bipush (-3), 2) := dk_16 253 (dk_at dksX1_fetes_1 9 rfl rfl)
theorem dX1_fetes_33 : decode cX1_fetes 33 = .ok (.ireturn, 1) := dk_172 (dk_at dksX1_fetes_1 11 rfl rfl)
theorem dX1_fetes_34 : decode cX1_fetes 34 = .ok (.aload_n 0, 1) := dk_42 (dk_at dksX1_fetes_1 12 rfl rfl)
theorem dX1_fetes_35 : decode cX1_fetes 35 = .ok (.iload_n 2, 1) := dk_28 (dk_at dksX1_fetes_1 13 rfl rfl)
theorem dX1_fetes_36 : decode cX1_fetes 36 = .ok (.putfield 321, 3) := dk_181 1 65 (dk_at dksX1_fetes_1 14 rfl rfl)
theorem dX1_fetes_39 : decode cX1_fetes 39 = .ok (.iconst 0, 1) := dk_3 (dk_at dksX1_fetes_1 17 rfl rfl)
theorem dX1_fetes_40 : decode cX1_fetes 40 = .ok (.istore 4, 2) := dk_54 4 (dk_at dksX1_fetes_1 18 rfl rfl)
theorem dX1_fetes_42 : decode cX1_fetes 42 = .ok (.iconst 0, 1) := dk_3 (dk_at dksX1_fetes_1 20 rfl rfl)
theorem dX1_fetes_43 : decode cX1_fetes 43 = .ok (.istore 5, 2) := dk_54 5 (dk_at dksX1_fetes_1 21 rfl rfl)
theorem dX1_fetes_45 : decode cX1_fetes 45 = .ok (.iconst 0, 1) := dk_3 (dk_at dksX1_fetes_1 23 rfl rfl)
theorem dX1_fetes_46 : decode cX1_fetes 46 = .ok (.istore 6, 2) := dk_54 6 (dk_at dksX1_fetes_2 0 rfl rfl)
theorem dX1_fetes_48 : decode cX1_fetes 48 = .ok (.iload 6, 2) := dk_21 6 (dk_at dksX1_fetes_2 2 rfl rfl)
theorem dX1_fetes_50 : decode cX1_fetes 50 = .ok (.iload_n 1, 1) := dk_27 (dk_at dksX1_fetes_2 4 rfl rfl)
theorem dX1_fetes_51 : decode cX1_fetes 51 = .ok (.if_icmp .ge 91, 3) := dk_162 0 91 (dk_at dksX1_fetes_2 5 rfl rfl)
theorem dX1_fetes_54 : decode cX1_fetes 54 = .ok (.aload_n 0, 1) := dk_42 (dk_at dksX1_fetes_2 8 rfl rfl)
theorem dX1_fetes_55 : decode cX1_fetes 55 = .ok (.invokevirtual 194, 3) := dk_182 0 194 (dk_at dksX1_fetes_2 9 rfl rfl)
theorem dX1_fetes_58 : decode cX1_fetes 58 = .ok (.iconst 0, 1) := dk_3 (dk_at dksX1_fetes_2 12 rfl rfl)
theorem dX1_fetes_59 : decode cX1_fetes 59 = .ok (.istore 7, 2) := dk_54 7 (dk_at dksX1_fetes_2 13 rfl rfl)
theorem dX1_fetes_61 : decode cX1_fetes 61 = .ok (.iload 7, 2) := dk_21 7 (dk_at dksX1_fetes_2 15 rfl rfl)
theorem dX1_fetes_63 : decode cX1_fetes 63 = .ok (.bipush 10, 2) := dk_16 10 (dk_at dksX1_fetes_2 17 rfl rfl)
theorem dX1_fetes_65 : decode cX1_fetes 65 = .ok (.if_icmp .ge 71, 3) := dk_162 0 71 (dk_at dksX1_fetes_2 19 rfl rfl)
theorem dX1_fetes_68 : decode cX1_fetes 68 = .ok (.aload_n 0, 1) := dk_42 (dk_at dksX1_fetes_2 22 rfl rfl)
theorem dX1_fetes_69 : decode cX1_fetes 69 = .ok (.aload_n 0, 1) := dk_42 (dk_at dksX1_fetes_2 23 rfl rfl)
theorem dX1_fetes_70 : decode cX1_fetes 70 = .ok (.getfield 109, 3) := dk_180 0 109 (dk_at dksX1_fetes_3 0 rfl rfl)
theorem dX1_fetes_73 : decode cX1_fetes 73 = .ok (.getfield 70, 3) := dk_180 0 70 (dk_at dksX1_fetes_3 3 rfl rfl)
theorem dX1_fetes_76 : decode cX1_fetes 76 = .ok (.invokevirtual 327, 3) := dk_182 1 71 (dk_at dksX1_fetes_3 6 rfl rfl)
theorem dX1_fetes_79 : decode cX1_fetes 79 = .ok (.istore 8, 2) := dk_54 8 (dk_at dksX1_fetes_3 9 rfl rfl)
theorem dX1_fetes_81 : decode cX1_fetes 81 = .ok (.aload_n 0, 1) := dk_42 (dk_at dksX1_fetes_3 11 rfl rfl)
theorem dX1_fetes_82 : decode cX1_fetes 82 = .ok (.aload_n 0, 1) := dk_42 (dk_at dksX1_fetes_3 12 rfl rfl)
theorem dX1_fetes_83 : decode cX1_fetes 83 = .ok (.getfield 109, 3) := dk_180 0 109 (dk_at dksX1_fetes_3 13 rfl rfl)
theorem dX1_fetes_86 : decode cX1_fetes 86 = .ok (.getfield 70, 3) := dk_180 0 70 (dk_at dksX1_fetes_3 16 rfl rfl)
theorem dX1_fetes_89 : decode cX1_fetes 89 = .ok (.invokevirtual 327, 3) := dk_182 1 71 (dk_at dksX1_fetes_3 19 rfl rfl)
theorem dX1_fetes_92 : decode cX1_fetes 92 = .ok (.istore 9, 2) := dk_54 9 (dk_at dksX1_fetes_3 22 rfl rfl)
theorem dX1_fetes_94 : decode cX1_fetes 94 = .ok (.aload_n 0, 1) := dk_42 (dk_at dksX1_fetes_4 0 rfl rfl)
theorem dX1_fetes_95 : decode cX1_fetes 95 = .ok (.getfield 66, 3) := dk_180 0 66 (dk_at dksX1_fetes_4 1 rfl rfl)
theorem dX1_fetes_98 : decode cX1_fetes 98 = .ok (.iload 8, 2) := dk_21 8 (dk_at dksX1_fetes_4 4 rfl rfl)
theorem dX1_fetes_100 : decode cX1_fetes 100 = .ok (.iload 9, 2) := dk_21 9 (dk_at dksX1_fetes_4 6 rfl rfl)
theorem dX1_fetes_102 : decode cX1_fetes 102 = .ok (.invokevirtual 50, 3) := dk_182 0 50 (dk_at dksX1_fetes_4 8 rfl rfl)
theorem dX1_fetes_105 : decode cX1_fetes 105 = .ok (.ifCond .ne 6, 3) := dk_154 0 6 (dk_at dksX1_fetes_4 11 rfl rfl)
theorem dX1_fetes_108 : decode cX1_fetes 108 = .ok (.goto 22, 3) := dk_167 0 22 (dk_at dksX1_fetes_4 14 rfl rfl)
theorem dX1_fetes_111 : decode cX1_fetes 111 = .ok (.iload 4, 2) := dk_21 4 (dk_at dksX1_fetes_4 17 rfl rfl)
theorem dX1_fetes_113 : decode cX1_fetes 113 = .ok (.aload_n 0, 1) := dk_42 (dk_at dksX1_fetes_4 19 rfl rfl)
theorem dX1_fetes_114 : decode cX1_fetes 114 = .ok (.getfield 66, 3) := dk_180 0 66 (dk_at dksX1_fetes_4 20 rfl rfl)
theorem dX1_fetes_117 : decode cX1_fetes 117 = .ok (.iload 8, 2) := dk_21 8 (dk_at dksX1_fetes_5 0 rfl rfl)
theorem dX1_fetes_119 : decode cX1_fetes 119 = .ok (.iload 9, 2) := dk_21 9 (dk_at dksX1_fetes_5 2 rfl rfl)
theorem dX1_fetes_121 : decode cX1_fetes 121 = .ok (.invokevirtual 88, 3) := dk_182 0 88 (dk_at dksX1_fetes_5 4 rfl rfl)
theorem dX1_fetes_124 : decode cX1_fetes 124 = .ok (.iadd, 1) := dk_96 (dk_at dksX1_fetes_5 7 rfl rfl)
theorem dX1_fetes_125 : decode cX1_fetes 125 = .ok (.istore 4, 2) := dk_54 4 (dk_at dksX1_fetes_5 8 rfl rfl)
theorem dX1_fetes_127 : decode cX1_fetes 127 = .ok (.iinc 5 1, 3) := dk_132 5 1 (dk_at dksX1_fetes_5 10 rfl rfl)
theorem dX1_fetes_130 : decode cX1_fetes 130 = .ok (.iinc 7 1, 3) := dk_132 7 1 (dk_at dksX1_fetes_5 13 rfl rfl)
theorem dX1_fetes_133 : decode cX1_fetes 133 = .ok (.goto (-72), 3) := dk_167 255 184 (dk_at dksX1_fetes_5 16 rfl rfl)
theorem dX1_fetes_136 : decode cX1_fetes 136 = .ok (.iinc 6 1, 3) := dk_132 6 1 (dk_at dksX1_fetes_5 19 rfl rfl)
theorem dX1_fetes_139 : decode cX1_fetes 139 = .ok (.goto (-91), 3) := dk_167 255 165 (dk_at dksX1_fetes_6 0 rfl rfl)
theorem dX1_fetes_142 : decode cX1_fetes 142 = .ok (.iload_n 3, 1) := dk_29 (dk_at dksX1_fetes_6 3 rfl rfl)
theorem dX1_fetes_143 : decode cX1_fetes 143 = .ok (.ifCond .ne 8, 3) := dk_154 0 8 (dk_at dksX1_fetes_6 4 rfl rfl)
theorem dX1_fetes_146 : decode cX1_fetes 146 = .ok (.iload 4, 2) := dk_21 4 (dk_at dksX1_fetes_6 7 rfl rfl)
theorem dX1_fetes_148 : decode cX1_fetes 148 = .ok (.goto 5, 3) := dk_167 0 5 (dk_at dksX1_fetes_6 9 rfl rfl)
theorem dX1_fetes_151 : decode cX1_fetes 151 = .ok (.iload 5, 2) := dk_21 5 (dk_at dksX1_fetes_6 12 rfl rfl)
theorem dX1_fetes_153 : decode cX1_fetes 153 = .ok (.ireturn, 1) := dk_172 (dk_at dksX1_fetes_6 14 rfl rfl)
abbrev cX1_draw : ByteArray := prog_1_method_62_code
def yX1_draw : MethodName := ⟨RX1, "draw", "(I)I"⟩
def dkwX1_draw_1 : List UInt8 := [19, 1, 70, 108, 27, 112, 172]
abbrev dktX1_draw_1 : List UInt8 := dkwX1_draw_1 ++ []
def dkwX1_draw_0 : List UInt8 := [42, 42, 180, 1, 65, 19, 1, 68, 104, 17, 48, 57, 96, 181, 1, 65, 42, 180, 1, 65, 19, 1, 69, 126]
abbrev dktX1_draw_0 : List UInt8 := dkwX1_draw_0 ++ dktX1_draw_1
theorem dksX1_draw_0 : cX1_draw.data.toList.drop 0 = dktX1_draw_0 := by decide +kernel
theorem dksX1_draw_1 : cX1_draw.data.toList.drop 24 = dktX1_draw_1 := dk_seg dksX1_draw_0 24 rfl rfl
theorem dX1_draw_0 : decode cX1_draw 0 = .ok (.aload_n 0, 1) := dk_42 (dk_at dksX1_draw_0 0 rfl rfl)
theorem dX1_draw_1 : decode cX1_draw 1 = .ok (.aload_n 0, 1) := dk_42 (dk_at dksX1_draw_0 1 rfl rfl)
theorem dX1_draw_2 : decode cX1_draw 2 = .ok (.getfield 321, 3) := dk_180 1 65 (dk_at dksX1_draw_0 2 rfl rfl)
theorem dX1_draw_5 : decode cX1_draw 5 = .ok (.ldc_w 324, 3) := dk_19 1 68 (dk_at dksX1_draw_0 5 rfl rfl)
theorem dX1_draw_8 : decode cX1_draw 8 = .ok (.imul, 1) := dk_104 (dk_at dksX1_draw_0 8 rfl rfl)
theorem dX1_draw_9 : decode cX1_draw 9 = .ok (.sipush 12345, 3) := dk_17 48 57 (dk_at dksX1_draw_0 9 rfl rfl)
theorem dX1_draw_12 : decode cX1_draw 12 = .ok (.iadd, 1) := dk_96 (dk_at dksX1_draw_0 12 rfl rfl)
theorem dX1_draw_13 : decode cX1_draw 13 = .ok (.putfield 321, 3) := dk_181 1 65 (dk_at dksX1_draw_0 13 rfl rfl)
theorem dX1_draw_16 : decode cX1_draw 16 = .ok (.aload_n 0, 1) := dk_42 (dk_at dksX1_draw_0 16 rfl rfl)
theorem dX1_draw_17 : decode cX1_draw 17 = .ok (.getfield 321, 3) := dk_180 1 65 (dk_at dksX1_draw_0 17 rfl rfl)
theorem dX1_draw_20 : decode cX1_draw 20 = .ok (.ldc_w 325, 3) := dk_19 1 69 (dk_at dksX1_draw_0 20 rfl rfl)
theorem dX1_draw_23 : decode cX1_draw 23 = .ok (.iand, 1) := dk_126 (dk_at dksX1_draw_0 23 rfl rfl)
theorem dX1_draw_24 : decode cX1_draw 24 = .ok (.ldc_w 326, 3) := dk_19 1 70 (dk_at dksX1_draw_1 0 rfl rfl)
theorem dX1_draw_27 : decode cX1_draw 27 = .ok (.idiv, 1) := dk_108 (dk_at dksX1_draw_1 3 rfl rfl)
theorem dX1_draw_28 : decode cX1_draw 28 = .ok (.iload_n 1, 1) := dk_27 (dk_at dksX1_draw_1 4 rfl rfl)
theorem dX1_draw_29 : decode cX1_draw 29 = .ok (.irem, 1) := dk_112 (dk_at dksX1_draw_1 5 rfl rfl)
theorem dX1_draw_30 : decode cX1_draw 30 = .ok (.ireturn, 1) := dk_172 (dk_at dksX1_draw_1 6 rfl rfl)
abbrev cX1_image : ByteArray := prog_1_method_64_code
def yX1_image : MethodName := ⟨RX1, "image", "()I"⟩
def dkwX1_image_0 : List UInt8 := [42, 180, 1, 74, 42, 180, 0, 109, 182, 0, 112, 42, 4, 181, 1, 77, 42, 180, 0, 109, 180, 0, 54, 172]
abbrev dktX1_image_0 : List UInt8 := dkwX1_image_0 ++ []
theorem dksX1_image_0 : cX1_image.data.toList.drop 0 = dktX1_image_0 := by decide +kernel
theorem dX1_image_0 : decode cX1_image 0 = .ok (.aload_n 0, 1) := dk_42 (dk_at dksX1_image_0 0 rfl rfl)
theorem dX1_image_1 : decode cX1_image 1 = .ok (.getfield 330, 3) := dk_180 1 74 (dk_at dksX1_image_0 1 rfl rfl)
theorem dX1_image_4 : decode cX1_image 4 = .ok (.aload_n 0, 1) := dk_42 (dk_at dksX1_image_0 4 rfl rfl)
theorem dX1_image_5 : decode cX1_image 5 = .ok (.getfield 109, 3) := dk_180 0 109 (dk_at dksX1_image_0 5 rfl rfl)
theorem dX1_image_8 : decode cX1_image 8 = .ok (.invokevirtual 112, 3) := dk_182 0 112 (dk_at dksX1_image_0 8 rfl rfl)
theorem dX1_image_11 : decode cX1_image 11 = .ok (.aload_n 0, 1) := dk_42 (dk_at dksX1_image_0 11 rfl rfl)
theorem dX1_image_12 : decode cX1_image 12 = .ok (.iconst 1, 1) := dk_4 (dk_at dksX1_image_0 12 rfl rfl)
theorem dX1_image_13 : decode cX1_image 13 = .ok (.putfield 333, 3) := dk_181 1 77 (dk_at dksX1_image_0 13 rfl rfl)
theorem dX1_image_16 : decode cX1_image 16 = .ok (.aload_n 0, 1) := dk_42 (dk_at dksX1_image_0 16 rfl rfl)
theorem dX1_image_17 : decode cX1_image 17 = .ok (.getfield 109, 3) := dk_180 0 109 (dk_at dksX1_image_0 17 rfl rfl)
theorem dX1_image_20 : decode cX1_image 20 = .ok (.getfield 54, 3) := dk_180 0 54 (dk_at dksX1_image_0 20 rfl rfl)
theorem dX1_image_23 : decode cX1_image 23 = .ok (.ireturn, 1) := dk_172 (dk_at dksX1_image_0 23 rfl rfl)
abbrev cX1_restore : ByteArray := prog_1_method_65_code
def yX1_restore : MethodName := ⟨RX1, "restore", "()I"⟩
def dkwX1_restore_1 : List UInt8 := [180, 0, 109, 180, 0, 54, 172]
abbrev dktX1_restore_1 : List UInt8 := dkwX1_restore_1 ++ []
def dkwX1_restore_0 : List UInt8 := [42, 180, 1, 77, 154, 0, 6, 16, 253, 172, 42, 180, 0, 109, 42, 180, 1, 74, 182, 0, 112, 42]
abbrev dktX1_restore_0 : List UInt8 := dkwX1_restore_0 ++ dktX1_restore_1
theorem dksX1_restore_0 : cX1_restore.data.toList.drop 0 = dktX1_restore_0 := by decide +kernel
theorem dksX1_restore_1 : cX1_restore.data.toList.drop 22 = dktX1_restore_1 := dk_seg dksX1_restore_0 22 rfl rfl
theorem dX1_restore_0 : decode cX1_restore 0 = .ok (.aload_n 0, 1) := dk_42 (dk_at dksX1_restore_0 0 rfl rfl)
theorem dX1_restore_1 : decode cX1_restore 1 = .ok (.getfield 333, 3) := dk_180 1 77 (dk_at dksX1_restore_0 1 rfl rfl)
theorem dX1_restore_4 : decode cX1_restore 4 = .ok (.ifCond .ne 6, 3) := dk_154 0 6 (dk_at dksX1_restore_0 4 rfl rfl)
theorem dX1_restore_7 : decode cX1_restore 7 = .ok (.bipush (-3), 2) := dk_16 253 (dk_at dksX1_restore_0 7 rfl rfl)
theorem dX1_restore_9 : decode cX1_restore 9 = .ok (.ireturn, 1) := dk_172 (dk_at dksX1_restore_0 9 rfl rfl)
theorem dX1_restore_10 : decode cX1_restore 10 = .ok (.aload_n 0, 1) := dk_42 (dk_at dksX1_restore_0 10 rfl rfl)
theorem dX1_restore_11 : decode cX1_restore 11 = .ok (.getfield 109, 3) := dk_180 0 109 (dk_at dksX1_restore_0 11 rfl rfl)
theorem dX1_restore_14 : decode cX1_restore 14 = .ok (.aload_n 0, 1) := dk_42 (dk_at dksX1_restore_0 14 rfl rfl)
theorem dX1_restore_15 : decode cX1_restore 15 = .ok (.getfield 330, 3) := dk_180 1 74 (dk_at dksX1_restore_0 15 rfl rfl)
theorem dX1_restore_18 : decode cX1_restore 18 = .ok (.invokevirtual 112, 3) := dk_182 0 112 (dk_at dksX1_restore_0 18 rfl rfl)
theorem dX1_restore_21 : decode cX1_restore 21 = .ok (.aload_n 0, 1) := dk_42 (dk_at dksX1_restore_0 21 rfl rfl)
theorem dX1_restore_22 : decode cX1_restore 22 = .ok (.getfield 109, 3) := dk_180 0 109 (dk_at dksX1_restore_1 0 rfl rfl)
theorem dX1_restore_25 : decode cX1_restore 25 = .ok (.getfield 54, 3) := dk_180 0 54 (dk_at dksX1_restore_1 3 rfl rfl)
theorem dX1_restore_28 : decode cX1_restore 28 = .ok (.ireturn, 1) := dk_172 (dk_at dksX1_restore_1 6 rfl rfl)
abbrev cX1_count : ByteArray := prog_1_method_66_code
def yX1_count : MethodName := ⟨RX1, "count", "(I)I"⟩
def dkwX1_count_7 : List UInt8 := [46, 154, 0, 9, 4, 29, 120, 167, 0, 4, 3, 128, 61, 132, 3, 1, 167, 255, 220, 28, 172, 2, 172]
abbrev dktX1_count_7 : List UInt8 := dkwX1_count_7 ++ []
def dkwX1_count_6 : List UInt8 := [28, 172, 3, 62, 29, 42, 180, 0, 109, 180, 0, 70, 162, 0, 31, 28, 42, 180, 0, 109, 180, 0, 160, 29]
abbrev dktX1_count_6 : List UInt8 := dkwX1_count_6 ++ dktX1_count_7
def dkwX1_count_5 : List UInt8 := [180, 0, 70, 162, 0, 21, 28, 42, 180, 0, 109, 180, 0, 160, 29, 46, 96, 61, 132, 3, 1, 167, 255, 230]
abbrev dktX1_count_5 : List UInt8 := dkwX1_count_5 ++ dktX1_count_6
def dkwX1_count_4 : List UInt8 := [180, 0, 47, 29, 46, 96, 61, 132, 3, 1, 167, 255, 230, 28, 172, 3, 62, 29, 42, 180, 0, 109]
abbrev dktX1_count_4 : List UInt8 := dkwX1_count_4 ++ dktX1_count_5
def dkwX1_count_3 : List UInt8 := [42, 182, 1, 39, 172, 3, 62, 29, 42, 180, 0, 109, 180, 0, 70, 162, 0, 21, 28, 42, 180, 0, 109]
abbrev dktX1_count_3 : List UInt8 := dkwX1_count_3 ++ dktX1_count_4
def dkwX1_count_2 : List UInt8 := [42, 180, 0, 109, 180, 0, 70, 172, 42, 180, 0, 109, 180, 0, 81, 172, 42, 180, 0, 109, 180, 0, 54, 172]
abbrev dktX1_count_2 : List UInt8 := dkwX1_count_2 ++ dktX1_count_3
def dkwX1_count_1 : List UInt8 := [170, 0, 0, 0, 179, 0, 0, 0, 0, 0, 0, 0, 6, 0, 0, 0, 41, 0, 0, 0, 49, 0, 0, 0, 57, 0, 0, 0, 65, 0, 0, 0, 70, 0, 0, 0, 103, 0, 0, 0, 136]
abbrev dktX1_count_1 : List UInt8 := dkwX1_count_1 ++ dktX1_count_2
def dkwX1_count_0 : List UInt8 := [3, 61, 27]
abbrev dktX1_count_0 : List UInt8 := dkwX1_count_0 ++ dktX1_count_1
theorem dksX1_count_0 : cX1_count.data.toList.drop 0 = dktX1_count_0 := by decide +kernel
theorem dksX1_count_1 : cX1_count.data.toList.drop 3 = dktX1_count_1 := dk_seg dksX1_count_0 3 rfl rfl
theorem dksX1_count_2 : cX1_count.data.toList.drop 44 = dktX1_count_2 := dk_seg dksX1_count_1 41 rfl rfl
theorem dksX1_count_3 : cX1_count.data.toList.drop 68 = dktX1_count_3 := dk_seg dksX1_count_2 24 rfl rfl
theorem dksX1_count_4 : cX1_count.data.toList.drop 91 = dktX1_count_4 := dk_seg dksX1_count_3 23 rfl rfl
theorem dksX1_count_5 : cX1_count.data.toList.drop 113 = dktX1_count_5 := dk_seg dksX1_count_4 22 rfl rfl
theorem dksX1_count_6 : cX1_count.data.toList.drop 137 = dktX1_count_6 := dk_seg dksX1_count_5 24 rfl rfl
theorem dksX1_count_7 : cX1_count.data.toList.drop 161 = dktX1_count_7 := dk_seg dksX1_count_6 24 rfl rfl
theorem dX1_count_0 : decode cX1_count 0 = .ok (.iconst 0, 1) := dk_3 (dk_at dksX1_count_0 0 rfl rfl)
theorem dX1_count_1 : decode cX1_count 1 = .ok (.istore_n 2, 1) := dk_61 (dk_at dksX1_count_0 1 rfl rfl)
theorem dX1_count_2 : decode cX1_count 2 = .ok (.iload_n 1, 1) := dk_27 (dk_at dksX1_count_0 2 rfl rfl)
theorem dX1_count_3 : decode cX1_count 3 = .ok (.tableswitch 179 0 6 #[41, 49, 57, 65, 70, 103, 136], 41) := by decide +kernel
theorem dX1_count_44 : decode cX1_count 44 = .ok (.aload_n 0, 1) := dk_42 (dk_at dksX1_count_2 0 rfl rfl)
theorem dX1_count_45 : decode cX1_count 45 = .ok (.getfield 109, 3) := dk_180 0 109 (dk_at dksX1_count_2 1 rfl rfl)
theorem dX1_count_48 : decode cX1_count 48 = .ok (.getfield 70, 3) := dk_180 0 70 (dk_at dksX1_count_2 4 rfl rfl)
theorem dX1_count_51 : decode cX1_count 51 = .ok (.ireturn, 1) := dk_172 (dk_at dksX1_count_2 7 rfl rfl)
theorem dX1_count_52 : decode cX1_count 52 = .ok (.aload_n 0, 1) := dk_42 (dk_at dksX1_count_2 8 rfl rfl)
theorem dX1_count_53 : decode cX1_count 53 = .ok (.getfield 109, 3) := dk_180 0 109 (dk_at dksX1_count_2 9 rfl rfl)
theorem dX1_count_56 : decode cX1_count 56 = .ok (.getfield 81, 3) := dk_180 0 81 (dk_at dksX1_count_2 12 rfl rfl)
theorem dX1_count_59 : decode cX1_count 59 = .ok (.ireturn, 1) := dk_172 (dk_at dksX1_count_2 15 rfl rfl)
theorem dX1_count_60 : decode cX1_count 60 = .ok (.aload_n 0, 1) := dk_42 (dk_at dksX1_count_2 16 rfl rfl)
theorem dX1_count_61 : decode cX1_count 61 = .ok (.getfield 109, 3) := dk_180 0 109 (dk_at dksX1_count_2 17 rfl rfl)
theorem dX1_count_64 : decode cX1_count 64 = .ok (.getfield 54, 3) := dk_180 0 54 (dk_at dksX1_count_2 20 rfl rfl)
theorem dX1_count_67 : decode cX1_count 67 = .ok (.ireturn, 1) := dk_172 (dk_at dksX1_count_2 23 rfl rfl)
theorem dX1_count_68 : decode cX1_count 68 = .ok (.aload_n 0, 1) := dk_42 (dk_at dksX1_count_3 0 rfl rfl)
theorem dX1_count_69 : decode cX1_count 69 = .ok (.invokevirtual 295, 3) := dk_182 1 39 (dk_at dksX1_count_3 1 rfl rfl)
theorem dX1_count_72 : decode cX1_count 72 = .ok (.ireturn, 1) := dk_172 (dk_at dksX1_count_3 4 rfl rfl)
theorem dX1_count_73 : decode cX1_count 73 = .ok (.iconst 0, 1) := dk_3 (dk_at dksX1_count_3 5 rfl rfl)
theorem dX1_count_74 : decode cX1_count 74 = .ok (.istore_n 3, 1) := dk_62 (dk_at dksX1_count_3 6 rfl rfl)
theorem dX1_count_75 : decode cX1_count 75 = .ok (.iload_n 3, 1) := dk_29 (dk_at dksX1_count_3 7 rfl rfl)
theorem dX1_count_76 : decode cX1_count 76 = .ok (.aload_n 0, 1) := dk_42 (dk_at dksX1_count_3 8 rfl rfl)
theorem dX1_count_77 : decode cX1_count 77 = .ok (.getfield 109, 3) := dk_180 0 109 (dk_at dksX1_count_3 9 rfl rfl)
theorem dX1_count_80 : decode cX1_count 80 = .ok (.getfield 70, 3) := dk_180 0 70 (dk_at dksX1_count_3 12 rfl rfl)
theorem dX1_count_83 : decode cX1_count 83 = .ok (.if_icmp .ge 21, 3) := dk_162 0 21 (dk_at dksX1_count_3 15 rfl rfl)
theorem dX1_count_86 : decode cX1_count 86 = .ok (.iload_n 2, 1) := dk_28 (dk_at dksX1_count_3 18 rfl rfl)
theorem dX1_count_87 : decode cX1_count 87 = .ok (.aload_n 0, 1) := dk_42 (dk_at dksX1_count_3 19 rfl rfl)
theorem dX1_count_88 : decode cX1_count 88 = .ok (.getfield 109, 3) := dk_180 0 109 (dk_at dksX1_count_3 20 rfl rfl)
theorem dX1_count_91 : decode cX1_count 91 = .ok (.getfield 47, 3) := dk_180 0 47 (dk_at dksX1_count_4 0 rfl rfl)
theorem dX1_count_94 : decode cX1_count 94 = .ok (.iload_n 3, 1) := dk_29 (dk_at dksX1_count_4 3 rfl rfl)
theorem dX1_count_95 : decode cX1_count 95 = .ok (.iaload, 1) := dk_46 (dk_at dksX1_count_4 4 rfl rfl)
theorem dX1_count_96 : decode cX1_count 96 = .ok (.iadd, 1) := dk_96 (dk_at dksX1_count_4 5 rfl rfl)
theorem dX1_count_97 : decode cX1_count 97 = .ok (.istore_n 2, 1) := dk_61 (dk_at dksX1_count_4 6 rfl rfl)
theorem dX1_count_98 : decode cX1_count 98 = .ok (.iinc 3 1, 3) := dk_132 3 1 (dk_at dksX1_count_4 7 rfl rfl)
theorem dX1_count_101 : decode cX1_count 101 = .ok (.goto (-26), 3) := dk_167 255 230 (dk_at dksX1_count_4 10 rfl rfl)
theorem dX1_count_104 : decode cX1_count 104 = .ok (.iload_n 2, 1) := dk_28 (dk_at dksX1_count_4 13 rfl rfl)
theorem dX1_count_105 : decode cX1_count 105 = .ok (.ireturn, 1) := dk_172 (dk_at dksX1_count_4 14 rfl rfl)
theorem dX1_count_106 : decode cX1_count 106 = .ok (.iconst 0, 1) := dk_3 (dk_at dksX1_count_4 15 rfl rfl)
theorem dX1_count_107 : decode cX1_count 107 = .ok (.istore_n 3, 1) := dk_62 (dk_at dksX1_count_4 16 rfl rfl)
theorem dX1_count_108 : decode cX1_count 108 = .ok (.iload_n 3, 1) := dk_29 (dk_at dksX1_count_4 17 rfl rfl)
theorem dX1_count_109 : decode cX1_count 109 = .ok (.aload_n 0, 1) := dk_42 (dk_at dksX1_count_4 18 rfl rfl)
theorem dX1_count_110 : decode cX1_count 110 = .ok (.getfield 109, 3) := dk_180 0 109 (dk_at dksX1_count_4 19 rfl rfl)
theorem dX1_count_113 : decode cX1_count 113 = .ok (.getfield 70, 3) := dk_180 0 70 (dk_at dksX1_count_5 0 rfl rfl)
theorem dX1_count_116 : decode cX1_count 116 = .ok (.if_icmp .ge 21, 3) := dk_162 0 21 (dk_at dksX1_count_5 3 rfl rfl)
theorem dX1_count_119 : decode cX1_count 119 = .ok (.iload_n 2, 1) := dk_28 (dk_at dksX1_count_5 6 rfl rfl)
theorem dX1_count_120 : decode cX1_count 120 = .ok (.aload_n 0, 1) := dk_42 (dk_at dksX1_count_5 7 rfl rfl)
theorem dX1_count_121 : decode cX1_count 121 = .ok (.getfield 109, 3) := dk_180 0 109 (dk_at dksX1_count_5 8 rfl rfl)
theorem dX1_count_124 : decode cX1_count 124 = .ok (.getfield 160, 3) := dk_180 0 160 (dk_at dksX1_count_5 11 rfl rfl)
theorem dX1_count_127 : decode cX1_count 127 = .ok (.iload_n 3, 1) := dk_29 (dk_at dksX1_count_5 14 rfl rfl)
theorem dX1_count_128 : decode cX1_count 128 = .ok (.iaload, 1) := dk_46 (dk_at dksX1_count_5 15 rfl rfl)
theorem dX1_count_129 : decode cX1_count 129 = .ok (.iadd, 1) := dk_96 (dk_at dksX1_count_5 16 rfl rfl)
theorem dX1_count_130 : decode cX1_count 130 = .ok (.istore_n 2, 1) := dk_61 (dk_at dksX1_count_5 17 rfl rfl)
theorem dX1_count_131 : decode cX1_count 131 = .ok (.iinc 3 1, 3) := dk_132 3 1 (dk_at dksX1_count_5 18 rfl rfl)
theorem dX1_count_134 : decode cX1_count 134 = .ok (.goto (-26), 3) := dk_167 255 230 (dk_at dksX1_count_5 21 rfl rfl)
theorem dX1_count_137 : decode cX1_count 137 = .ok (.iload_n 2, 1) := dk_28 (dk_at dksX1_count_6 0 rfl rfl)
theorem dX1_count_138 : decode cX1_count 138 = .ok (.ireturn, 1) := dk_172 (dk_at dksX1_count_6 1 rfl rfl)
theorem dX1_count_139 : decode cX1_count 139 = .ok (.iconst 0, 1) := dk_3 (dk_at dksX1_count_6 2 rfl rfl)
theorem dX1_count_140 : decode cX1_count 140 = .ok (.istore_n 3, 1) := dk_62 (dk_at dksX1_count_6 3 rfl rfl)
theorem dX1_count_141 : decode cX1_count 141 = .ok (.iload_n 3, 1) := dk_29 (dk_at dksX1_count_6 4 rfl rfl)
theorem dX1_count_142 : decode cX1_count 142 = .ok (.aload_n 0, 1) := dk_42 (dk_at dksX1_count_6 5 rfl rfl)
theorem dX1_count_143 : decode cX1_count 143 = .ok (.getfield 109, 3) := dk_180 0 109 (dk_at dksX1_count_6 6 rfl rfl)
theorem dX1_count_146 : decode cX1_count 146 = .ok (.getfield 70, 3) := dk_180 0 70 (dk_at dksX1_count_6 9 rfl rfl)
theorem dX1_count_149 : decode cX1_count 149 = .ok (.if_icmp .ge 31, 3) := dk_162 0 31 (dk_at dksX1_count_6 12 rfl rfl)
theorem dX1_count_152 : decode cX1_count 152 = .ok (.iload_n 2, 1) := dk_28 (dk_at dksX1_count_6 15 rfl rfl)
theorem dX1_count_153 : decode cX1_count 153 = .ok (.aload_n 0, 1) := dk_42 (dk_at dksX1_count_6 16 rfl rfl)
theorem dX1_count_154 : decode cX1_count 154 = .ok (.getfield 109, 3) := dk_180 0 109 (dk_at dksX1_count_6 17 rfl rfl)
theorem dX1_count_157 : decode cX1_count 157 = .ok (.getfield 160, 3) := dk_180 0 160 (dk_at dksX1_count_6 20 rfl rfl)
theorem dX1_count_160 : decode cX1_count 160 = .ok (.iload_n 3, 1) := dk_29 (dk_at dksX1_count_6 23 rfl rfl)
theorem dX1_count_161 : decode cX1_count 161 = .ok (.iaload, 1) := dk_46 (dk_at dksX1_count_7 0 rfl rfl)
theorem dX1_count_162 : decode cX1_count 162 = .ok (.ifCond .ne 9, 3) := dk_154 0 9 (dk_at dksX1_count_7 1 rfl rfl)
theorem dX1_count_165 : decode cX1_count 165 = .ok (.iconst 1, 1) := dk_4 (dk_at dksX1_count_7 4 rfl rfl)
theorem dX1_count_166 : decode cX1_count 166 = .ok (.iload_n 3, 1) := dk_29 (dk_at dksX1_count_7 5 rfl rfl)
theorem dX1_count_167 : decode cX1_count 167 = .ok (.ishl, 1) := dk_120 (dk_at dksX1_count_7 6 rfl rfl)
theorem dX1_count_168 : decode cX1_count 168 = .ok (.goto 4, 3) := dk_167 0 4 (dk_at dksX1_count_7 7 rfl rfl)
theorem dX1_count_171 : decode cX1_count 171 = .ok (.iconst 0, 1) := dk_3 (dk_at dksX1_count_7 10 rfl rfl)
theorem dX1_count_172 : decode cX1_count 172 = .ok (.ior, 1) := dk_128 (dk_at dksX1_count_7 11 rfl rfl)
theorem dX1_count_173 : decode cX1_count 173 = .ok (.istore_n 2, 1) := dk_61 (dk_at dksX1_count_7 12 rfl rfl)
theorem dX1_count_174 : decode cX1_count 174 = .ok (.iinc 3 1, 3) := dk_132 3 1 (dk_at dksX1_count_7 13 rfl rfl)
theorem dX1_count_177 : decode cX1_count 177 = .ok (.goto (-36), 3) := dk_167 255 220 (dk_at dksX1_count_7 16 rfl rfl)
theorem dX1_count_180 : decode cX1_count 180 = .ok (.iload_n 2, 1) := dk_28 (dk_at dksX1_count_7 19 rfl rfl)
theorem dX1_count_181 : decode cX1_count 181 = .ok (.ireturn, 1) := dk_172 (dk_at dksX1_count_7 20 rfl rfl)
theorem dX1_count_182 : decode cX1_count 182 = .ok (.iconst (-1), 1) := dk_2 (dk_at dksX1_count_7 21 rfl rfl)
theorem dX1_count_183 : decode cX1_count 183 = .ok (.ireturn, 1) := dk_172 (dk_at dksX1_count_7 22 rfl rfl)
abbrev cX1_init : ByteArray := prog_1_method_67_code
def yX1_init : MethodName := ⟨RX1, "<init>", "()V"⟩
def dkwX1_init_4 : List UInt8 := [132, 1, 1, 167, 255, 234, 177]
abbrev dktX1_init_4 : List UInt8 := dkwX1_init_4 ++ []
def dkwX1_init_3 : List UInt8 := [181, 0, 128, 3, 60, 27, 16, 8, 162, 0, 22, 42, 180, 0, 128, 27, 187, 0, 133, 89, 183, 1, 86, 83]
abbrev dktX1_init_3 : List UInt8 := dkwX1_init_3 ++ dktX1_init_4
def dkwX1_init_2 : List UInt8 := [17, 5, 0, 188, 10, 181, 0, 203, 42, 16, 8, 188, 10, 181, 0, 228, 42, 16, 8, 189, 0, 133]
abbrev dktX1_init_2 : List UInt8 := dkwX1_init_2 ++ dktX1_init_3
def dkwX1_init_1 : List UInt8 := [181, 1, 74, 42, 187, 0, 35, 89, 183, 1, 85, 181, 0, 66, 42, 16, 100, 189, 0, 59, 181, 0, 101, 42]
abbrev dktX1_init_1 : List UInt8 := dkwX1_init_1 ++ dktX1_init_2
def dkwX1_init_0 : List UInt8 := [42, 183, 1, 81, 42, 187, 0, 35, 89, 183, 1, 85, 181, 0, 109, 42, 187, 0, 35, 89, 183, 1, 85]
abbrev dktX1_init_0 : List UInt8 := dkwX1_init_0 ++ dktX1_init_1
theorem dksX1_init_0 : cX1_init.data.toList.drop 0 = dktX1_init_0 := by decide +kernel
theorem dksX1_init_1 : cX1_init.data.toList.drop 23 = dktX1_init_1 := dk_seg dksX1_init_0 23 rfl rfl
theorem dksX1_init_2 : cX1_init.data.toList.drop 47 = dktX1_init_2 := dk_seg dksX1_init_1 24 rfl rfl
theorem dksX1_init_3 : cX1_init.data.toList.drop 69 = dktX1_init_3 := dk_seg dksX1_init_2 22 rfl rfl
theorem dksX1_init_4 : cX1_init.data.toList.drop 93 = dktX1_init_4 := dk_seg dksX1_init_3 24 rfl rfl
theorem dX1_init_0 : decode cX1_init 0 = .ok (.aload_n 0, 1) := dk_42 (dk_at dksX1_init_0 0 rfl rfl)
theorem dX1_init_1 : decode cX1_init 1 = .ok (.invokespecial 337, 3) := dk_183 1 81 (dk_at dksX1_init_0 1 rfl rfl)
theorem dX1_init_4 : decode cX1_init 4 = .ok (.aload_n 0, 1) := dk_42 (dk_at dksX1_init_0 4 rfl rfl)
theorem dX1_init_5 : decode cX1_init 5 = .ok (.new 35, 3) := dk_187 0 35 (dk_at dksX1_init_0 5 rfl rfl)
theorem dX1_init_8 : decode cX1_init 8 = .ok (.dup, 1) := dk_89 (dk_at dksX1_init_0 8 rfl rfl)
theorem dX1_init_9 : decode cX1_init 9 = .ok (.invokespecial 341, 3) := dk_183 1 85 (dk_at dksX1_init_0 9 rfl rfl)
theorem dX1_init_12 : decode cX1_init 12 = .ok (.putfield 109, 3) := dk_181 0 109 (dk_at dksX1_init_0 12 rfl rfl)
theorem dX1_init_15 : decode cX1_init 15 = .ok (.aload_n 0, 1) := dk_42 (dk_at dksX1_init_0 15 rfl rfl)
theorem dX1_init_16 : decode cX1_init 16 = .ok (.new 35, 3) := dk_187 0 35 (dk_at dksX1_init_0 16 rfl rfl)
theorem dX1_init_19 : decode cX1_init 19 = .ok (.dup, 1) := dk_89 (dk_at dksX1_init_0 19 rfl rfl)
theorem dX1_init_20 : decode cX1_init 20 = .ok (.invokespecial 341, 3) := dk_183 1 85 (dk_at dksX1_init_0 20 rfl rfl)
theorem dX1_init_23 : decode cX1_init 23 = .ok (.putfield 330, 3) := dk_181 1 74 (dk_at dksX1_init_1 0 rfl rfl)
theorem dX1_init_26 : decode cX1_init 26 = .ok (.aload_n 0, 1) := dk_42 (dk_at dksX1_init_1 3 rfl rfl)
theorem dX1_init_27 : decode cX1_init 27 = .ok (.new 35, 3) := dk_187 0 35 (dk_at dksX1_init_1 4 rfl rfl)
theorem dX1_init_30 : decode cX1_init 30 = .ok (.dup, 1) := dk_89 (dk_at dksX1_init_1 7 rfl rfl)
theorem dX1_init_31 : decode cX1_init 31 = .ok (.invokespecial 341, 3) := dk_183 1 85 (dk_at dksX1_init_1 8 rfl rfl)
theorem dX1_init_34 : decode cX1_init 34 = .ok (.putfield 66, 3) := dk_181 0 66 (dk_at dksX1_init_1 11 rfl rfl)
theorem dX1_init_37 : decode cX1_init 37 = .ok (.aload_n 0, 1) := dk_42 (dk_at dksX1_init_1 14 rfl rfl)
theorem dX1_init_38 : decode cX1_init 38 = .ok (.bipush 100, 2) := dk_16 100 (dk_at dksX1_init_1 15 rfl rfl)
theorem dX1_init_40 : decode cX1_init 40 = .ok (.anewarray 59, 3) := dk_189 0 59 (dk_at dksX1_init_1 17 rfl rfl)
theorem dX1_init_43 : decode cX1_init 43 = .ok (.putfield 101, 3) := dk_181 0 101 (dk_at dksX1_init_1 20 rfl rfl)
theorem dX1_init_46 : decode cX1_init 46 = .ok (.aload_n 0, 1) := dk_42 (dk_at dksX1_init_1 23 rfl rfl)
theorem dX1_init_47 : decode cX1_init 47 = .ok (.sipush 1280, 3) := dk_17 5 0 (dk_at dksX1_init_2 0 rfl rfl)
theorem dX1_init_50 : decode cX1_init 50 = .ok (.newarray .int, 2) := dk_188_10 (dk_at dksX1_init_2 3 rfl rfl)
theorem dX1_init_52 : decode cX1_init 52 = .ok (.putfield 203, 3) := dk_181 0 203 (dk_at dksX1_init_2 5 rfl rfl)
theorem dX1_init_55 : decode cX1_init 55 = .ok (.aload_n 0, 1) := dk_42 (dk_at dksX1_init_2 8 rfl rfl)
theorem dX1_init_56 : decode cX1_init 56 = .ok (.bipush 8, 2) := dk_16 8 (dk_at dksX1_init_2 9 rfl rfl)
theorem dX1_init_58 : decode cX1_init 58 = .ok (.newarray .int, 2) := dk_188_10 (dk_at dksX1_init_2 11 rfl rfl)
theorem dX1_init_60 : decode cX1_init 60 = .ok (.putfield 228, 3) := dk_181 0 228 (dk_at dksX1_init_2 13 rfl rfl)
theorem dX1_init_63 : decode cX1_init 63 = .ok (.aload_n 0, 1) := dk_42 (dk_at dksX1_init_2 16 rfl rfl)
theorem dX1_init_64 : decode cX1_init 64 = .ok (.bipush 8, 2) := dk_16 8 (dk_at dksX1_init_2 17 rfl rfl)
theorem dX1_init_66 : decode cX1_init 66 = .ok (.anewarray 133, 3) := dk_189 0 133 (dk_at dksX1_init_2 19 rfl rfl)
theorem dX1_init_69 : decode cX1_init 69 = .ok (.putfield 128, 3) := dk_181 0 128 (dk_at dksX1_init_3 0 rfl rfl)
theorem dX1_init_72 : decode cX1_init 72 = .ok (.iconst 0, 1) := dk_3 (dk_at dksX1_init_3 3 rfl rfl)
theorem dX1_init_73 : decode cX1_init 73 = .ok (.istore_n 1, 1) := dk_60 (dk_at dksX1_init_3 4 rfl rfl)
theorem dX1_init_74 : decode cX1_init 74 = .ok (.iload_n 1, 1) := dk_27 (dk_at dksX1_init_3 5 rfl rfl)
theorem dX1_init_75 : decode cX1_init 75 = .ok (.bipush 8, 2) := dk_16 8 (dk_at dksX1_init_3 6 rfl rfl)
theorem dX1_init_77 : decode cX1_init 77 = .ok (.if_icmp .ge 22, 3) := dk_162 0 22 (dk_at dksX1_init_3 8 rfl rfl)
theorem dX1_init_80 : decode cX1_init 80 = .ok (.aload_n 0, 1) := dk_42 (dk_at dksX1_init_3 11 rfl rfl)
theorem dX1_init_81 : decode cX1_init 81 = .ok (.getfield 128, 3) := dk_180 0 128 (dk_at dksX1_init_3 12 rfl rfl)
theorem dX1_init_84 : decode cX1_init 84 = .ok (.iload_n 1, 1) := dk_27 (dk_at dksX1_init_3 15 rfl rfl)
theorem dX1_init_85 : decode cX1_init 85 = .ok (.new 133, 3) := dk_187 0 133 (dk_at dksX1_init_3 16 rfl rfl)
theorem dX1_init_88 : decode cX1_init 88 = .ok (.dup, 1) := dk_89 (dk_at dksX1_init_3 19 rfl rfl)
theorem dX1_init_89 : decode cX1_init 89 = .ok (.invokespecial 342, 3) := dk_183 1 86 (dk_at dksX1_init_3 20 rfl rfl)
theorem dX1_init_92 : decode cX1_init 92 = .ok (.aastore, 1) := dk_83 (dk_at dksX1_init_3 23 rfl rfl)
theorem dX1_init_93 : decode cX1_init 93 = .ok (.iinc 1 1, 3) := dk_132 1 1 (dk_at dksX1_init_4 0 rfl rfl)
theorem dX1_init_96 : decode cX1_init 96 = .ok (.goto (-22), 3) := dk_167 255 234 (dk_at dksX1_init_4 3 rfl rfl)
theorem dX1_init_99 : decode cX1_init 99 = .ok (.return_, 1) := dk_177 (dk_at dksX1_init_4 6 rfl rfl)
abbrev cX1_keep : ByteArray := prog_1_method_68_code
def yX1_keep : MethodName := ⟨RX1, "keep", "(IIII)I"⟩
def dkwX1_keep_2 : List UInt8 := [28, 154, 0, 7, 1, 167, 0, 9, 29, 21, 4, 184, 0, 73, 181, 0, 132, 3, 172]
abbrev dktX1_keep_2 : List UInt8 := dkwX1_keep_2 ++ []
def dkwX1_keep_1 : List UInt8 := [16, 7, 184, 0, 30, 153, 0, 11, 21, 4, 184, 0, 247, 154, 0, 5, 2, 172, 42, 180, 0, 128, 27, 50]
abbrev dktX1_keep_1 : List UInt8 := dkwX1_keep_1 ++ dktX1_keep_2
def dkwX1_keep_0 : List UInt8 := [42, 27, 182, 0, 125, 153, 0, 35, 28, 3, 4, 184, 0, 30, 153, 0, 26, 28, 4, 160, 0, 23, 29, 3]
abbrev dktX1_keep_0 : List UInt8 := dkwX1_keep_0 ++ dktX1_keep_1
theorem dksX1_keep_0 : cX1_keep.data.toList.drop 0 = dktX1_keep_0 := by decide +kernel
theorem dksX1_keep_1 : cX1_keep.data.toList.drop 24 = dktX1_keep_1 := dk_seg dksX1_keep_0 24 rfl rfl
theorem dksX1_keep_2 : cX1_keep.data.toList.drop 48 = dktX1_keep_2 := dk_seg dksX1_keep_1 24 rfl rfl
theorem dX1_keep_0 : decode cX1_keep 0 = .ok (.aload_n 0, 1) := dk_42 (dk_at dksX1_keep_0 0 rfl rfl)
theorem dX1_keep_1 : decode cX1_keep 1 = .ok (.iload_n 1, 1) := dk_27 (dk_at dksX1_keep_0 1 rfl rfl)
theorem dX1_keep_2 : decode cX1_keep 2 = .ok (.invokevirtual 125, 3) := dk_182 0 125 (dk_at dksX1_keep_0 2 rfl rfl)
theorem dX1_keep_5 : decode cX1_keep 5 = .ok (.ifCond .eq 35, 3) := dk_153 0 35 (dk_at dksX1_keep_0 5 rfl rfl)
theorem dX1_keep_8 : decode cX1_keep 8 = .ok (.iload_n 2, 1) := dk_28 (dk_at dksX1_keep_0 8 rfl rfl)
theorem dX1_keep_9 : decode cX1_keep 9 = .ok (.iconst 0, 1) := dk_3 (dk_at dksX1_keep_0 9 rfl rfl)
theorem dX1_keep_10 : decode cX1_keep 10 = .ok (.iconst 1, 1) := dk_4 (dk_at dksX1_keep_0 10 rfl rfl)
theorem dX1_keep_11 : decode cX1_keep 11 = .ok (.invokestatic 30, 3) := dk_184 0 30 (dk_at dksX1_keep_0 11 rfl rfl)
theorem dX1_keep_14 : decode cX1_keep 14 = .ok (.ifCond .eq 26, 3) := dk_153 0 26 (dk_at dksX1_keep_0 14 rfl rfl)
theorem dX1_keep_17 : decode cX1_keep 17 = .ok (.iload_n 2, 1) := dk_28 (dk_at dksX1_keep_0 17 rfl rfl)
theorem dX1_keep_18 : decode cX1_keep 18 = .ok (.iconst 1, 1) := dk_4 (dk_at dksX1_keep_0 18 rfl rfl)
theorem dX1_keep_19 : decode cX1_keep 19 = .ok (.if_icmp .ne 23, 3) := dk_160 0 23 (dk_at dksX1_keep_0 19 rfl rfl)
theorem dX1_keep_22 : decode cX1_keep 22 = .ok (.iload_n 3, 1) := dk_29 (dk_at dksX1_keep_0 22 rfl rfl)
theorem dX1_keep_23 : decode cX1_keep 23 = .ok (.iconst 0, 1) := dk_3 (dk_at dksX1_keep_0 23 rfl rfl)
theorem dX1_keep_24 : decode cX1_keep 24 = .ok (.bipush 7, 2) := dk_16 7 (dk_at dksX1_keep_1 0 rfl rfl)
theorem dX1_keep_26 : decode cX1_keep 26 = .ok (.invokestatic 30, 3) := dk_184 0 30 (dk_at dksX1_keep_1 2 rfl rfl)
theorem dX1_keep_29 : decode cX1_keep 29 = .ok (.ifCond .eq 11, 3) := dk_153 0 11 (dk_at dksX1_keep_1 5 rfl rfl)
theorem dX1_keep_32 : decode cX1_keep 32 = .ok (.iload 4, 2) := dk_21 4 (dk_at dksX1_keep_1 8 rfl rfl)
theorem dX1_keep_34 : decode cX1_keep 34 = .ok (.invokestatic 247, 3) := dk_184 0 247 (dk_at dksX1_keep_1 10 rfl rfl)
theorem dX1_keep_37 : decode cX1_keep 37 = .ok (.ifCond .ne 5, 3) := dk_154 0 5 (dk_at dksX1_keep_1 13 rfl rfl)
theorem dX1_keep_40 : decode cX1_keep 40 = .ok (.iconst (-1), 1) := dk_2 (dk_at dksX1_keep_1 16 rfl rfl)
theorem dX1_keep_41 : decode cX1_keep 41 = .ok (.ireturn, 1) := dk_172 (dk_at dksX1_keep_1 17 rfl rfl)
theorem dX1_keep_42 : decode cX1_keep 42 = .ok (.aload_n 0, 1) := dk_42 (dk_at dksX1_keep_1 18 rfl rfl)
theorem dX1_keep_43 : decode cX1_keep 43 = .ok (.getfield 128, 3) := dk_180 0 128 (dk_at dksX1_keep_1 19 rfl rfl)
theorem dX1_keep_46 : decode cX1_keep 46 = .ok (.iload_n 1, 1) := dk_27 (dk_at dksX1_keep_1 22 rfl rfl)
theorem dX1_keep_47 : decode cX1_keep 47 = .ok (.aaload, 1) := dk_50 (dk_at dksX1_keep_1 23 rfl rfl)
theorem dX1_keep_48 : decode cX1_keep 48 = .ok (.iload_n 2, 1) := dk_28 (dk_at dksX1_keep_2 0 rfl rfl)
theorem dX1_keep_49 : decode cX1_keep 49 = .ok (.ifCond .ne 7, 3) := dk_154 0 7 (dk_at dksX1_keep_2 1 rfl rfl)
theorem dX1_keep_52 : decode cX1_keep 52 = .ok (.aconst_null, 1) := dk_1 (dk_at dksX1_keep_2 4 rfl rfl)
theorem dX1_keep_53 : decode cX1_keep 53 = .ok (.goto 9, 3) := dk_167 0 9 (dk_at dksX1_keep_2 5 rfl rfl)
theorem dX1_keep_56 : decode cX1_keep 56 = .ok (.iload_n 3, 1) := dk_29 (dk_at dksX1_keep_2 8 rfl rfl)
theorem dX1_keep_57 : decode cX1_keep 57 = .ok (.iload 4, 2) := dk_21 4 (dk_at dksX1_keep_2 9 rfl rfl)
theorem dX1_keep_59 : decode cX1_keep 59 = .ok (.invokestatic 73, 3) := dk_184 0 73 (dk_at dksX1_keep_2 11 rfl rfl)
theorem dX1_keep_62 : decode cX1_keep 62 = .ok (.putfield 132, 3) := dk_181 0 132 (dk_at dksX1_keep_2 14 rfl rfl)
theorem dX1_keep_65 : decode cX1_keep 65 = .ok (.iconst 0, 1) := dk_3 (dk_at dksX1_keep_2 17 rfl rfl)
theorem dX1_keep_66 : decode cX1_keep 66 = .ok (.ireturn, 1) := dk_172 (dk_at dksX1_keep_2 18 rfl rfl)
abbrev cX1_row : ByteArray := prog_1_method_69_code
def yX1_row : MethodName := ⟨RX1, "row", "(III)I"⟩
def dkwX1_row_3 : List UInt8 := [16, 242, 172]
abbrev dktX1_row_3 : List UInt8 := dkwX1_row_3 ++ []
def dkwX1_row_2 : List UInt8 := [167, 0, 8, 29, 188, 10, 58, 4, 42, 180, 0, 128, 27, 50, 25, 4, 181, 0, 132, 3, 172, 58, 4]
abbrev dktX1_row_2 : List UInt8 := dkwX1_row_2 ++ dktX1_row_3
def dkwX1_row_1 : List UInt8 := [172, 28, 154, 0, 11, 29, 188, 8, 58, 4, 167, 0, 21, 28, 4, 160, 0, 11, 29, 188, 9, 58, 4]
abbrev dktX1_row_1 : List UInt8 := dkwX1_row_1 ++ dktX1_row_2
def dkwX1_row_0 : List UInt8 := [42, 27, 182, 0, 125, 153, 0, 18, 28, 3, 5, 184, 0, 30, 153, 0, 9, 29, 16, 100, 164, 0, 5, 2]
abbrev dktX1_row_0 : List UInt8 := dkwX1_row_0 ++ dktX1_row_1
theorem dksX1_row_0 : cX1_row.data.toList.drop 0 = dktX1_row_0 := by decide +kernel
theorem dksX1_row_1 : cX1_row.data.toList.drop 24 = dktX1_row_1 := dk_seg dksX1_row_0 24 rfl rfl
theorem dksX1_row_2 : cX1_row.data.toList.drop 47 = dktX1_row_2 := dk_seg dksX1_row_1 23 rfl rfl
theorem dksX1_row_3 : cX1_row.data.toList.drop 70 = dktX1_row_3 := dk_seg dksX1_row_2 23 rfl rfl
theorem dX1_row_0 : decode cX1_row 0 = .ok (.aload_n 0, 1) := dk_42 (dk_at dksX1_row_0 0 rfl rfl)
theorem dX1_row_1 : decode cX1_row 1 = .ok (.iload_n 1, 1) := dk_27 (dk_at dksX1_row_0 1 rfl rfl)
theorem dX1_row_2 : decode cX1_row 2 = .ok (.invokevirtual 125, 3) := dk_182 0 125 (dk_at dksX1_row_0 2 rfl rfl)
theorem dX1_row_5 : decode cX1_row 5 = .ok (.ifCond .eq 18, 3) := dk_153 0 18 (dk_at dksX1_row_0 5 rfl rfl)
theorem dX1_row_8 : decode cX1_row 8 = .ok (.iload_n 2, 1) := dk_28 (dk_at dksX1_row_0 8 rfl rfl)
theorem dX1_row_9 : decode cX1_row 9 = .ok (.iconst 0, 1) := dk_3 (dk_at dksX1_row_0 9 rfl rfl)
theorem dX1_row_10 : decode cX1_row 10 = .ok (.iconst 2, 1) := dk_5 (dk_at dksX1_row_0 10 rfl rfl)
theorem dX1_row_11 : decode cX1_row 11 = .ok (.invokestatic 30, 3) := dk_184 0 30 (dk_at dksX1_row_0 11 rfl rfl)
theorem dX1_row_14 : decode cX1_row 14 = .ok (.ifCond .eq 9, 3) := dk_153 0 9 (dk_at dksX1_row_0 14 rfl rfl)
theorem dX1_row_17 : decode cX1_row 17 = .ok (.iload_n 3, 1) := dk_29 (dk_at dksX1_row_0 17 rfl rfl)
theorem dX1_row_18 : decode cX1_row 18 = .ok (.bipush 100, 2) := dk_16 100 (dk_at dksX1_row_0 18 rfl rfl)
theorem dX1_row_20 : decode cX1_row 20 = .ok (.if_icmp .le 5, 3) := dk_164 0 5 (dk_at dksX1_row_0 20 rfl rfl)
theorem dX1_row_23 : decode cX1_row 23 = .ok (.iconst (-1), 1) := dk_2 (dk_at dksX1_row_0 23 rfl rfl)
theorem dX1_row_24 : decode cX1_row 24 = .ok (.ireturn, 1) := dk_172 (dk_at dksX1_row_1 0 rfl rfl)
theorem dX1_row_25 : decode cX1_row 25 = .ok (.iload_n 2, 1) := dk_28 (dk_at dksX1_row_1 1 rfl rfl)
theorem dX1_row_26 : decode cX1_row 26 = .ok (.ifCond .ne 11, 3) := dk_154 0 11 (dk_at dksX1_row_1 2 rfl rfl)
theorem dX1_row_29 : decode cX1_row 29 = .ok (.iload_n 3, 1) := dk_29 (dk_at dksX1_row_1 5 rfl rfl)
theorem dX1_row_30 : decode cX1_row 30 = .ok (.newarray .byte, 2) := dk_188_8 (dk_at dksX1_row_1 6 rfl rfl)
theorem dX1_row_32 : decode cX1_row 32 = .ok (.astore 4, 2) := dk_58 4 (dk_at dksX1_row_1 8 rfl rfl)
theorem dX1_row_34 : decode cX1_row 34 = .ok (.goto 21, 3) := dk_167 0 21 (dk_at dksX1_row_1 10 rfl rfl)
theorem dX1_row_37 : decode cX1_row 37 = .ok (.iload_n 2, 1) := dk_28 (dk_at dksX1_row_1 13 rfl rfl)
theorem dX1_row_38 : decode cX1_row 38 = .ok (.iconst 1, 1) := dk_4 (dk_at dksX1_row_1 14 rfl rfl)
theorem dX1_row_39 : decode cX1_row 39 = .ok (.if_icmp .ne 11, 3) := dk_160 0 11 (dk_at dksX1_row_1 15 rfl rfl)
theorem dX1_row_42 : decode cX1_row 42 = .ok (.iload_n 3, 1) := dk_29 (dk_at dksX1_row_1 18 rfl rfl)
theorem dX1_row_43 : decode cX1_row 43 = .ok (.newarray .short, 2) := dk_188_9 (dk_at dksX1_row_1 19 rfl rfl)
theorem dX1_row_45 : decode cX1_row 45 = .ok (.astore 4, 2) := dk_58 4 (dk_at dksX1_row_1 21 rfl rfl)
theorem dX1_row_47 : decode cX1_row 47 = .ok (.goto 8, 3) := dk_167 0 8 (dk_at dksX1_row_2 0 rfl rfl)
theorem dX1_row_50 : decode cX1_row 50 = .ok (.iload_n 3, 1) := dk_29 (dk_at dksX1_row_2 3 rfl rfl)
theorem dX1_row_51 : decode cX1_row 51 = .ok (.newarray .int, 2) := dk_188_10 (dk_at dksX1_row_2 4 rfl rfl)
theorem dX1_row_53 : decode cX1_row 53 = .ok (.astore 4, 2) := dk_58 4 (dk_at dksX1_row_2 6 rfl rfl)
theorem dX1_row_55 : decode cX1_row 55 = .ok (.aload_n 0, 1) := dk_42 (dk_at dksX1_row_2 8 rfl rfl)
theorem dX1_row_56 : decode cX1_row 56 = .ok (.getfield 128, 3) := dk_180 0 128 (dk_at dksX1_row_2 9 rfl rfl)
theorem dX1_row_59 : decode cX1_row 59 = .ok (.iload_n 1, 1) := dk_27 (dk_at dksX1_row_2 12 rfl rfl)
theorem dX1_row_60 : decode cX1_row 60 = .ok (.aaload, 1) := dk_50 (dk_at dksX1_row_2 13 rfl rfl)
theorem dX1_row_61 : decode cX1_row 61 = .ok (.aload 4, 2) := dk_25 4 (dk_at dksX1_row_2 14 rfl rfl)
theorem dX1_row_63 : decode cX1_row 63 = .ok (.putfield 132, 3) := dk_181 0 132 (dk_at dksX1_row_2 16 rfl rfl)
theorem dX1_row_66 : decode cX1_row 66 = .ok (.iconst 0, 1) := dk_3 (dk_at dksX1_row_2 19 rfl rfl)
theorem dX1_row_67 : decode cX1_row 67 = .ok (.ireturn, 1) := dk_172 (dk_at dksX1_row_2 20 rfl rfl)
theorem dX1_row_68 : decode cX1_row 68 = .ok (.astore 4, 2) := dk_58 4 (dk_at dksX1_row_2 21 rfl rfl)
theorem dX1_row_70 : decode cX1_row 70 = .ok (.bipush (-14), 2) := dk_16 242 (dk_at dksX1_row_3 0 rfl rfl)
theorem dX1_row_72 : decode cX1_row 72 = .ok (.ireturn, 1) := dk_172 (dk_at dksX1_row_3 2 rfl rfl)
abbrev cX1_put : ByteArray := prog_1_method_70_code
def yX1_put : MethodName := ⟨RX1, "put", "(III)I"⟩
def dkwX1_put_3 : List UInt8 := [25, 4, 192, 1, 5, 28, 29, 79, 3, 172, 58, 5, 16, 244, 172, 58, 5, 16, 243, 172]
abbrev dktX1_put_3 : List UInt8 := dkwX1_put_3 ++ []
def dkwX1_put_2 : List UInt8 := [167, 0, 31, 25, 4, 193, 1, 3, 153, 0, 15, 25, 4, 192, 1, 3, 28, 29, 147, 86, 167, 0, 11]
abbrev dktX1_put_2 : List UInt8 := dkwX1_put_2 ++ dktX1_put_3
def dkwX1_put_1 : List UInt8 := [199, 0, 6, 16, 245, 172, 25, 4, 193, 0, 138, 153, 0, 15, 25, 4, 192, 0, 138, 28, 29, 145, 84]
abbrev dktX1_put_1 : List UInt8 := dkwX1_put_1 ++ dktX1_put_2
def dkwX1_put_0 : List UInt8 := [42, 27, 182, 0, 125, 154, 0, 5, 2, 172, 42, 180, 0, 128, 27, 50, 180, 0, 132, 58, 4, 25, 4]
abbrev dktX1_put_0 : List UInt8 := dkwX1_put_0 ++ dktX1_put_1
theorem dksX1_put_0 : cX1_put.data.toList.drop 0 = dktX1_put_0 := by decide +kernel
theorem dksX1_put_1 : cX1_put.data.toList.drop 23 = dktX1_put_1 := dk_seg dksX1_put_0 23 rfl rfl
theorem dksX1_put_2 : cX1_put.data.toList.drop 46 = dktX1_put_2 := dk_seg dksX1_put_1 23 rfl rfl
theorem dksX1_put_3 : cX1_put.data.toList.drop 69 = dktX1_put_3 := dk_seg dksX1_put_2 23 rfl rfl
theorem dX1_put_0 : decode cX1_put 0 = .ok (.aload_n 0, 1) := dk_42 (dk_at dksX1_put_0 0 rfl rfl)
theorem dX1_put_1 : decode cX1_put 1 = .ok (.iload_n 1, 1) := dk_27 (dk_at dksX1_put_0 1 rfl rfl)
theorem dX1_put_2 : decode cX1_put 2 = .ok (.invokevirtual 125, 3) := dk_182 0 125 (dk_at dksX1_put_0 2 rfl rfl)
theorem dX1_put_5 : decode cX1_put 5 = .ok (.ifCond .ne 5, 3) := dk_154 0 5 (dk_at dksX1_put_0 5 rfl rfl)
theorem dX1_put_8 : decode cX1_put 8 = .ok (.iconst (-1), 1) := dk_2 (dk_at dksX1_put_0 8 rfl rfl)
theorem dX1_put_9 : decode cX1_put 9 = .ok (.ireturn, 1) := dk_172 (dk_at dksX1_put_0 9 rfl rfl)
theorem dX1_put_10 : decode cX1_put 10 = .ok (.aload_n 0, 1) := dk_42 (dk_at dksX1_put_0 10 rfl rfl)
theorem dX1_put_11 : decode cX1_put 11 = .ok (.getfield 128, 3) := dk_180 0 128 (dk_at dksX1_put_0 11 rfl rfl)
theorem dX1_put_14 : decode cX1_put 14 = .ok (.iload_n 1, 1) := dk_27 (dk_at dksX1_put_0 14 rfl rfl)
theorem dX1_put_15 : decode cX1_put 15 = .ok (.aaload, 1) := dk_50 (dk_at dksX1_put_0 15 rfl rfl)
theorem dX1_put_16 : decode cX1_put 16 = .ok (.getfield 132, 3) := dk_180 0 132 (dk_at dksX1_put_0 16 rfl rfl)
theorem dX1_put_19 : decode cX1_put 19 = .ok (.astore 4, 2) := dk_58 4 (dk_at dksX1_put_0 19 rfl rfl)
theorem dX1_put_21 : decode cX1_put 21 = .ok (.aload 4, 2) := dk_25 4 (dk_at dksX1_put_0 21 rfl rfl)
theorem dX1_put_23 : decode cX1_put 23 = .ok (.ifnonnull 6, 3) := dk_199 0 6 (dk_at dksX1_put_1 0 rfl rfl)
theorem dX1_put_26 : decode cX1_put 26 = .ok (.bipush (-11), 2) := dk_16 245 (dk_at dksX1_put_1 3 rfl rfl)
theorem dX1_put_28 : decode cX1_put 28 = .ok (.ireturn, 1) := dk_172 (dk_at dksX1_put_1 5 rfl rfl)
theorem dX1_put_29 : decode cX1_put 29 = .ok (.aload 4, 2) := dk_25 4 (dk_at dksX1_put_1 6 rfl rfl)
theorem dX1_put_31 : decode cX1_put 31 = .ok (.instanceof 138, 3) := dk_193 0 138 (dk_at dksX1_put_1 8 rfl rfl)
theorem dX1_put_34 : decode cX1_put 34 = .ok (.ifCond .eq 15, 3) := dk_153 0 15 (dk_at dksX1_put_1 11 rfl rfl)
theorem dX1_put_37 : decode cX1_put 37 = .ok (.aload 4, 2) := dk_25 4 (dk_at dksX1_put_1 14 rfl rfl)
theorem dX1_put_39 : decode cX1_put 39 = .ok (.checkcast 138, 3) := dk_192 0 138 (dk_at dksX1_put_1 16 rfl rfl)
theorem dX1_put_42 : decode cX1_put 42 = .ok (.iload_n 2, 1) := dk_28 (dk_at dksX1_put_1 19 rfl rfl)
theorem dX1_put_43 : decode cX1_put 43 = .ok (.iload_n 3, 1) := dk_29 (dk_at dksX1_put_1 20 rfl rfl)
theorem dX1_put_44 : decode cX1_put 44 = .ok (.i2b, 1) := dk_145 (dk_at dksX1_put_1 21 rfl rfl)
theorem dX1_put_45 : decode cX1_put 45 = .ok (.bastore, 1) := dk_84 (dk_at dksX1_put_1 22 rfl rfl)
theorem dX1_put_46 : decode cX1_put 46 = .ok (.goto 31, 3) := dk_167 0 31 (dk_at dksX1_put_2 0 rfl rfl)
theorem dX1_put_49 : decode cX1_put 49 = .ok (.aload 4, 2) := dk_25 4 (dk_at dksX1_put_2 3 rfl rfl)
theorem dX1_put_51 : decode cX1_put 51 = .ok (.instanceof 259, 3) := dk_193 1 3 (dk_at dksX1_put_2 5 rfl rfl)
theorem dX1_put_54 : decode cX1_put 54 = .ok (.ifCond .eq 15, 3) := dk_153 0 15 (dk_at dksX1_put_2 8 rfl rfl)
theorem dX1_put_57 : decode cX1_put 57 = .ok (.aload 4, 2) := dk_25 4 (dk_at dksX1_put_2 11 rfl rfl)
theorem dX1_put_59 : decode cX1_put 59 = .ok (.checkcast 259, 3) := dk_192 1 3 (dk_at dksX1_put_2 13 rfl rfl)
theorem dX1_put_62 : decode cX1_put 62 = .ok (.iload_n 2, 1) := dk_28 (dk_at dksX1_put_2 16 rfl rfl)
theorem dX1_put_63 : decode cX1_put 63 = .ok (.iload_n 3, 1) := dk_29 (dk_at dksX1_put_2 17 rfl rfl)
theorem dX1_put_64 : decode cX1_put 64 = .ok (.i2s, 1) := dk_147 (dk_at dksX1_put_2 18 rfl rfl)
theorem dX1_put_65 : decode cX1_put 65 = .ok (.sastore, 1) := dk_86 (dk_at dksX1_put_2 19 rfl rfl)
theorem dX1_put_66 : decode cX1_put 66 = .ok (.goto 11, 3) := dk_167 0 11 (dk_at dksX1_put_2 20 rfl rfl)
theorem dX1_put_69 : decode cX1_put 69 = .ok (.aload 4, 2) := dk_25 4 (dk_at dksX1_put_3 0 rfl rfl)
theorem dX1_put_71 : decode cX1_put 71 = .ok (.checkcast 261, 3) := dk_192 1 5 (dk_at dksX1_put_3 2 rfl rfl)
theorem dX1_put_74 : decode cX1_put 74 = .ok (.iload_n 2, 1) := dk_28 (dk_at dksX1_put_3 5 rfl rfl)
theorem dX1_put_75 : decode cX1_put 75 = .ok (.iload_n 3, 1) := dk_29 (dk_at dksX1_put_3 6 rfl rfl)
theorem dX1_put_76 : decode cX1_put 76 = .ok (.iastore, 1) := dk_79 (dk_at dksX1_put_3 7 rfl rfl)
theorem dX1_put_77 : decode cX1_put 77 = .ok (.iconst 0, 1) := dk_3 (dk_at dksX1_put_3 8 rfl rfl)
theorem dX1_put_78 : decode cX1_put 78 = .ok (.ireturn, 1) := dk_172 (dk_at dksX1_put_3 9 rfl rfl)
theorem dX1_put_79 : decode cX1_put 79 = .ok (.astore 5, 2) := dk_58 5 (dk_at dksX1_put_3 10 rfl rfl)
theorem dX1_put_81 : decode cX1_put 81 = .ok (.bipush (-12), 2) := dk_16 244 (dk_at dksX1_put_3 12 rfl rfl)
theorem dX1_put_83 : decode cX1_put 83 = .ok (.ireturn, 1) := dk_172 (dk_at dksX1_put_3 14 rfl rfl)
theorem dX1_put_84 : decode cX1_put 84 = .ok (.astore 5, 2) := dk_58 5 (dk_at dksX1_put_3 15 rfl rfl)
theorem dX1_put_86 : decode cX1_put 86 = .ok (.bipush (-13), 2) := dk_16 243 (dk_at dksX1_put_3 17 rfl rfl)
theorem dX1_put_88 : decode cX1_put 88 = .ok (.ireturn, 1) := dk_172 (dk_at dksX1_put_3 19 rfl rfl)
abbrev cX1_copy : ByteArray := prog_1_method_72_code
def yX1_copy : MethodName := ⟨RX1, "copy", "(IIIII)I"⟩
def dkwX1_copy_4 : List UInt8 := [58, 8, 16, 243, 172]
abbrev dktX1_copy_4 : List UInt8 := dkwX1_copy_4 ++ []
def dkwX1_copy_3 : List UInt8 := [184, 1, 11, 159, 0, 6, 16, 244, 172, 25, 6, 28, 25, 7, 21, 4, 21, 5, 184, 1, 99, 21, 5, 172]
abbrev dktX1_copy_3 : List UInt8 := dkwX1_copy_3 ++ dktX1_copy_4
def dkwX1_copy_2 : List UInt8 := [199, 0, 6, 16, 245, 172, 25, 6, 184, 1, 11, 2, 159, 0, 16, 25, 6, 184, 1, 11, 25, 7]
abbrev dktX1_copy_2 : List UInt8 := dkwX1_copy_2 ++ dktX1_copy_3
def dkwX1_copy_1 : List UInt8 := [180, 0, 132, 58, 6, 42, 180, 0, 128, 29, 50, 180, 0, 132, 58, 7, 25, 6, 198, 0, 8, 25, 7]
abbrev dktX1_copy_1 : List UInt8 := dkwX1_copy_1 ++ dktX1_copy_2
def dkwX1_copy_0 : List UInt8 := [42, 27, 182, 0, 125, 153, 0, 11, 42, 29, 182, 0, 125, 154, 0, 5, 2, 172, 42, 180, 0, 128, 27, 50]
abbrev dktX1_copy_0 : List UInt8 := dkwX1_copy_0 ++ dktX1_copy_1
theorem dksX1_copy_0 : cX1_copy.data.toList.drop 0 = dktX1_copy_0 := by decide +kernel
theorem dksX1_copy_1 : cX1_copy.data.toList.drop 24 = dktX1_copy_1 := dk_seg dksX1_copy_0 24 rfl rfl
theorem dksX1_copy_2 : cX1_copy.data.toList.drop 47 = dktX1_copy_2 := dk_seg dksX1_copy_1 23 rfl rfl
theorem dksX1_copy_3 : cX1_copy.data.toList.drop 69 = dktX1_copy_3 := dk_seg dksX1_copy_2 22 rfl rfl
theorem dksX1_copy_4 : cX1_copy.data.toList.drop 93 = dktX1_copy_4 := dk_seg dksX1_copy_3 24 rfl rfl
theorem dX1_copy_0 : decode cX1_copy 0 = .ok (.aload_n 0, 1) := dk_42 (dk_at dksX1_copy_0 0 rfl rfl)
theorem dX1_copy_1 : decode cX1_copy 1 = .ok (.iload_n 1, 1) := dk_27 (dk_at dksX1_copy_0 1 rfl rfl)
theorem dX1_copy_2 : decode cX1_copy 2 = .ok (.invokevirtual 125, 3) := dk_182 0 125 (dk_at dksX1_copy_0 2 rfl rfl)
theorem dX1_copy_5 : decode cX1_copy 5 = .ok (.ifCond .eq 11, 3) := dk_153 0 11 (dk_at dksX1_copy_0 5 rfl rfl)
theorem dX1_copy_8 : decode cX1_copy 8 = .ok (.aload_n 0, 1) := dk_42 (dk_at dksX1_copy_0 8 rfl rfl)
theorem dX1_copy_9 : decode cX1_copy 9 = .ok (.iload_n 3, 1) := dk_29 (dk_at dksX1_copy_0 9 rfl rfl)
theorem dX1_copy_10 : decode cX1_copy 10 = .ok (.invokevirtual 125, 3) := dk_182 0 125 (dk_at dksX1_copy_0 10 rfl rfl)
theorem dX1_copy_13 : decode cX1_copy 13 = .ok (.ifCond .ne 5, 3) := dk_154 0 5 (dk_at dksX1_copy_0 13 rfl rfl)
theorem dX1_copy_16 : decode cX1_copy 16 = .ok (.iconst (-1), 1) := dk_2 (dk_at dksX1_copy_0 16 rfl rfl)
theorem dX1_copy_17 : decode cX1_copy 17 = .ok (.ireturn, 1) := dk_172 (dk_at dksX1_copy_0 17 rfl rfl)
theorem dX1_copy_18 : decode cX1_copy 18 = .ok (.aload_n 0, 1) := dk_42 (dk_at dksX1_copy_0 18 rfl rfl)
theorem dX1_copy_19 : decode cX1_copy 19 = .ok (.getfield 128, 3) := dk_180 0 128 (dk_at dksX1_copy_0 19 rfl rfl)
theorem dX1_copy_22 : decode cX1_copy 22 = .ok (.iload_n 1, 1) := dk_27 (dk_at dksX1_copy_0 22 rfl rfl)
theorem dX1_copy_23 : decode cX1_copy 23 = .ok (.aaload, 1) := dk_50 (dk_at dksX1_copy_0 23 rfl rfl)
theorem dX1_copy_24 : decode cX1_copy 24 = .ok (.getfield 132, 3) := dk_180 0 132 (dk_at dksX1_copy_1 0 rfl rfl)
theorem dX1_copy_27 : decode cX1_copy 27 = .ok (.astore 6, 2) := dk_58 6 (dk_at dksX1_copy_1 3 rfl rfl)
theorem dX1_copy_29 : decode cX1_copy 29 = .ok (.aload_n 0, 1) := dk_42 (dk_at dksX1_copy_1 5 rfl rfl)
theorem dX1_copy_30 : decode cX1_copy 30 = .ok (.getfield 128, 3) := dk_180 0 128 (dk_at dksX1_copy_1 6 rfl rfl)
theorem dX1_copy_33 : decode cX1_copy 33 = .ok (.iload_n 3, 1) := dk_29 (dk_at dksX1_copy_1 9 rfl rfl)
theorem dX1_copy_34 : decode cX1_copy 34 = .ok (.aaload, 1) := dk_50 (dk_at dksX1_copy_1 10 rfl rfl)
theorem dX1_copy_35 : decode cX1_copy 35 = .ok (.getfield 132, 3) := dk_180 0 132 (dk_at dksX1_copy_1 11 rfl rfl)
theorem dX1_copy_38 : decode cX1_copy 38 = .ok (.astore 7, 2) := dk_58 7 (dk_at dksX1_copy_1 14 rfl rfl)
theorem dX1_copy_40 : decode cX1_copy 40 = .ok (.aload 6, 2) := dk_25 6 (dk_at dksX1_copy_1 16 rfl rfl)
theorem dX1_copy_42 : decode cX1_copy 42 = .ok (.ifnull 8, 3) := dk_198 0 8 (dk_at dksX1_copy_1 18 rfl rfl)
theorem dX1_copy_45 : decode cX1_copy 45 = .ok (.aload 7, 2) := dk_25 7 (dk_at dksX1_copy_1 21 rfl rfl)
theorem dX1_copy_47 : decode cX1_copy 47 = .ok (.ifnonnull 6, 3) := dk_199 0 6 (dk_at dksX1_copy_2 0 rfl rfl)
theorem dX1_copy_50 : decode cX1_copy 50 = .ok (.bipush (-11), 2) := dk_16 245 (dk_at dksX1_copy_2 3 rfl rfl)
theorem dX1_copy_52 : decode cX1_copy 52 = .ok (.ireturn, 1) := dk_172 (dk_at dksX1_copy_2 5 rfl rfl)
theorem dX1_copy_53 : decode cX1_copy 53 = .ok (.aload 6, 2) := dk_25 6 (dk_at dksX1_copy_2 6 rfl rfl)
theorem dX1_copy_55 : decode cX1_copy 55 = .ok (.invokestatic 267, 3) := dk_184 1 11 (dk_at dksX1_copy_2 8 rfl rfl)
theorem dX1_copy_58 : decode cX1_copy 58 = .ok (.iconst (-1), 1) := dk_2 (dk_at dksX1_copy_2 11 rfl rfl)
theorem dX1_copy_59 : decode cX1_copy 59 = .ok (.if_icmp .eq 16, 3) := dk_159 0 16 (dk_at dksX1_copy_2 12 rfl rfl)
theorem dX1_copy_62 : decode cX1_copy 62 = .ok (.aload 6, 2) := dk_25 6 (dk_at dksX1_copy_2 15 rfl rfl)
theorem dX1_copy_64 : decode cX1_copy 64 = .ok (.invokestatic 267, 3) := dk_184 1 11 (dk_at dksX1_copy_2 17 rfl rfl)
theorem dX1_copy_67 : decode cX1_copy 67 = .ok (.aload 7, 2) := dk_25 7 (dk_at dksX1_copy_2 20 rfl rfl)
theorem dX1_copy_69 : decode cX1_copy 69 = .ok (.invokestatic 267, 3) := dk_184 1 11 (dk_at dksX1_copy_3 0 rfl rfl)
theorem dX1_copy_72 : decode cX1_copy 72 = .ok (.if_icmp .eq 6, 3) := dk_159 0 6 (dk_at dksX1_copy_3 3 rfl rfl)
theorem dX1_copy_75 : decode cX1_copy 75 = .ok (.bipush (-12), 2) := dk_16 244 (dk_at dksX1_copy_3 6 rfl rfl)
theorem dX1_copy_77 : decode cX1_copy 77 = .ok (.ireturn, 1) := dk_172 (dk_at dksX1_copy_3 8 rfl rfl)
theorem dX1_copy_78 : decode cX1_copy 78 = .ok (.aload 6, 2) := dk_25 6 (dk_at dksX1_copy_3 9 rfl rfl)
theorem dX1_copy_80 : decode cX1_copy 80 = .ok (.iload_n 2, 1) := dk_28 (dk_at dksX1_copy_3 11 rfl rfl)
theorem dX1_copy_81 : decode cX1_copy 81 = .ok (.aload 7, 2) := dk_25 7 (dk_at dksX1_copy_3 12 rfl rfl)
theorem dX1_copy_83 : decode cX1_copy 83 = .ok (.iload 4, 2) := dk_21 4 (dk_at dksX1_copy_3 14 rfl rfl)
theorem dX1_copy_85 : decode cX1_copy 85 = .ok (.iload 5, 2) := dk_21 5 (dk_at dksX1_copy_3 16 rfl rfl)
theorem dX1_copy_87 : decode cX1_copy 87 = .ok (.invokestatic 355, 3) := dk_184 1 99 (dk_at dksX1_copy_3 18 rfl rfl)
theorem dX1_copy_90 : decode cX1_copy 90 = .ok (.iload 5, 2) := dk_21 5 (dk_at dksX1_copy_3 21 rfl rfl)
theorem dX1_copy_92 : decode cX1_copy 92 = .ok (.ireturn, 1) := dk_172 (dk_at dksX1_copy_3 23 rfl rfl)
theorem dX1_copy_93 : decode cX1_copy 93 = .ok (.astore 8, 2) := dk_58 8 (dk_at dksX1_copy_4 0 rfl rfl)
theorem dX1_copy_95 : decode cX1_copy 95 = .ok (.bipush (-13), 2) := dk_16 243 (dk_at dksX1_copy_4 2 rfl rfl)
theorem dX1_copy_97 : decode cX1_copy 97 = .ok (.ireturn, 1) := dk_172 (dk_at dksX1_copy_4 4 rfl rfl)
abbrev cX1_cost : ByteArray := prog_1_method_73_code
def yX1_cost : MethodName := ⟨RX1, "cost", "(I)I"⟩
def dkwX1_cost_1 : List UInt8 := [182, 1, 107, 172, 77, 16, 245, 172, 77, 16, 244, 172]
abbrev dktX1_cost_1 : List UInt8 := dkwX1_cost_1 ++ []
def dkwX1_cost_0 : List UInt8 := [42, 27, 182, 0, 125, 154, 0, 5, 2, 172, 42, 180, 0, 128, 27, 50, 180, 0, 132, 192, 0, 1]
abbrev dktX1_cost_0 : List UInt8 := dkwX1_cost_0 ++ dktX1_cost_1
theorem dksX1_cost_0 : cX1_cost.data.toList.drop 0 = dktX1_cost_0 := by decide +kernel
theorem dksX1_cost_1 : cX1_cost.data.toList.drop 22 = dktX1_cost_1 := dk_seg dksX1_cost_0 22 rfl rfl
theorem dX1_cost_0 : decode cX1_cost 0 = .ok (.aload_n 0, 1) := dk_42 (dk_at dksX1_cost_0 0 rfl rfl)
theorem dX1_cost_1 : decode cX1_cost 1 = .ok (.iload_n 1, 1) := dk_27 (dk_at dksX1_cost_0 1 rfl rfl)
theorem dX1_cost_2 : decode cX1_cost 2 = .ok (.invokevirtual 125, 3) := dk_182 0 125 (dk_at dksX1_cost_0 2 rfl rfl)
theorem dX1_cost_5 : decode cX1_cost 5 = .ok (.ifCond .ne 5, 3) := dk_154 0 5 (dk_at dksX1_cost_0 5 rfl rfl)
theorem dX1_cost_8 : decode cX1_cost 8 = .ok (.iconst (-1), 1) := dk_2 (dk_at dksX1_cost_0 8 rfl rfl)
theorem dX1_cost_9 : decode cX1_cost 9 = .ok (.ireturn, 1) := dk_172 (dk_at dksX1_cost_0 9 rfl rfl)
theorem dX1_cost_10 : decode cX1_cost 10 = .ok (.aload_n 0, 1) := dk_42 (dk_at dksX1_cost_0 10 rfl rfl)
theorem dX1_cost_11 : decode cX1_cost 11 = .ok (.getfield 128, 3) := dk_180 0 128 (dk_at dksX1_cost_0 11 rfl rfl)
theorem dX1_cost_14 : decode cX1_cost 14 = .ok (.iload_n 1, 1) := dk_27 (dk_at dksX1_cost_0 14 rfl rfl)
theorem dX1_cost_15 : decode cX1_cost 15 = .ok (.aaload, 1) := dk_50 (dk_at dksX1_cost_0 15 rfl rfl)
theorem dX1_cost_16 : decode cX1_cost 16 = .ok (.getfield 132, 3) := dk_180 0 132 (dk_at dksX1_cost_0 16 rfl rfl)
theorem dX1_cost_19 : decode cX1_cost 19 = .ok (.checkcast 1, 3) := dk_192 0 1 (dk_at dksX1_cost_0 19 rfl rfl)
theorem dX1_cost_22 : decode cX1_cost 22 = .ok (.invokevirtual 363, 3) := dk_182 1 107 (dk_at dksX1_cost_1 0 rfl rfl)
theorem dX1_cost_25 : decode cX1_cost 25 = .ok (.ireturn, 1) := dk_172 (dk_at dksX1_cost_1 3 rfl rfl)
theorem dX1_cost_26 : decode cX1_cost 26 = .ok (.astore_n 2, 1) := dk_77 (dk_at dksX1_cost_1 4 rfl rfl)
theorem dX1_cost_27 : decode cX1_cost 27 = .ok (.bipush (-11), 2) := dk_16 245 (dk_at dksX1_cost_1 5 rfl rfl)
theorem dX1_cost_29 : decode cX1_cost 29 = .ok (.ireturn, 1) := dk_172 (dk_at dksX1_cost_1 7 rfl rfl)
theorem dX1_cost_30 : decode cX1_cost 30 = .ok (.astore_n 2, 1) := dk_77 (dk_at dksX1_cost_1 8 rfl rfl)
theorem dX1_cost_31 : decode cX1_cost 31 = .ok (.bipush (-12), 2) := dk_16 244 (dk_at dksX1_cost_1 9 rfl rfl)
theorem dX1_cost_33 : decode cX1_cost 33 = .ok (.ireturn, 1) := dk_172 (dk_at dksX1_cost_1 11 rfl rfl)
abbrev cX1_toss : ByteArray := prog_1_method_74_code
def yX1_toss : MethodName := ⟨RX1, "toss", "(I)I"⟩
def dkwX1_toss_2 : List UInt8 := [16, 241, 172, 77, 16, 244, 172]
abbrev dktX1_toss_2 : List UInt8 := dkwX1_toss_2 ++ []
def dkwX1_toss_1 : List UInt8 := [172, 42, 180, 0, 128, 27, 50, 180, 0, 132, 192, 0, 1, 182, 1, 110, 191, 77, 44, 180, 1, 116, 172, 77]
abbrev dktX1_toss_1 : List UInt8 := dkwX1_toss_1 ++ dktX1_toss_2
def dkwX1_toss_0 : List UInt8 := [42, 27, 182, 0, 125, 154, 0, 5, 2, 172, 42, 180, 0, 128, 27, 50, 180, 0, 132, 199, 0, 6, 16, 245]
abbrev dktX1_toss_0 : List UInt8 := dkwX1_toss_0 ++ dktX1_toss_1
theorem dksX1_toss_0 : cX1_toss.data.toList.drop 0 = dktX1_toss_0 := by decide +kernel
theorem dksX1_toss_1 : cX1_toss.data.toList.drop 24 = dktX1_toss_1 := dk_seg dksX1_toss_0 24 rfl rfl
theorem dksX1_toss_2 : cX1_toss.data.toList.drop 48 = dktX1_toss_2 := dk_seg dksX1_toss_1 24 rfl rfl
theorem dX1_toss_0 : decode cX1_toss 0 = .ok (.aload_n 0, 1) := dk_42 (dk_at dksX1_toss_0 0 rfl rfl)
theorem dX1_toss_1 : decode cX1_toss 1 = .ok (.iload_n 1, 1) := dk_27 (dk_at dksX1_toss_0 1 rfl rfl)
theorem dX1_toss_2 : decode cX1_toss 2 = .ok (.invokevirtual 125, 3) := dk_182 0 125 (dk_at dksX1_toss_0 2 rfl rfl)
theorem dX1_toss_5 : decode cX1_toss 5 = .ok (.ifCond .ne 5, 3) := dk_154 0 5 (dk_at dksX1_toss_0 5 rfl rfl)
theorem dX1_toss_8 : decode cX1_toss 8 = .ok (.iconst (-1), 1) := dk_2 (dk_at dksX1_toss_0 8 rfl rfl)
theorem dX1_toss_9 : decode cX1_toss 9 = .ok (.ireturn, 1) := dk_172 (dk_at dksX1_toss_0 9 rfl rfl)
theorem dX1_toss_10 : decode cX1_toss 10 = .ok (.aload_n 0, 1) := dk_42 (dk_at dksX1_toss_0 10 rfl rfl)
theorem dX1_toss_11 : decode cX1_toss 11 = .ok (.getfield 128, 3) := dk_180 0 128 (dk_at dksX1_toss_0 11 rfl rfl)
theorem dX1_toss_14 : decode cX1_toss 14 = .ok (.iload_n 1, 1) := dk_27 (dk_at dksX1_toss_0 14 rfl rfl)
theorem dX1_toss_15 : decode cX1_toss 15 = .ok (.aaload, 1) := dk_50 (dk_at dksX1_toss_0 15 rfl rfl)
theorem dX1_toss_16 : decode cX1_toss 16 = .ok (.getfield 132, 3) := dk_180 0 132 (dk_at dksX1_toss_0 16 rfl rfl)
theorem dX1_toss_19 : decode cX1_toss 19 = .ok (.ifnonnull 6, 3) := dk_199 0 6 (dk_at dksX1_toss_0 19 rfl rfl)
theorem dX1_toss_22 : decode cX1_toss 22 = .ok (.bipush (-11), 2) := dk_16 245 (dk_at dksX1_toss_0 22 rfl rfl)
theorem dX1_toss_24 : decode cX1_toss 24 = .ok (.ireturn, 1) := dk_172 (dk_at dksX1_toss_1 0 rfl rfl)
theorem dX1_toss_25 : decode cX1_toss 25 = .ok (.aload_n 0, 1) := dk_42 (dk_at dksX1_toss_1 1 rfl rfl)
theorem dX1_toss_26 : decode cX1_toss 26 = .ok (.getfield 128, 3) := dk_180 0 128 (dk_at dksX1_toss_1 2 rfl rfl)
theorem dX1_toss_29 : decode cX1_toss 29 = .ok (.iload_n 1, 1) := dk_27 (dk_at dksX1_toss_1 5 rfl rfl)
theorem dX1_toss_30 : decode cX1_toss 30 = .ok (.aaload, 1) := dk_50 (dk_at dksX1_toss_1 6 rfl rfl)
theorem dX1_toss_31 : decode cX1_toss 31 = .ok (.getfield 132, 3) := dk_180 0 132 (dk_at dksX1_toss_1 7 rfl rfl)
theorem dX1_toss_34 : decode cX1_toss 34 = .ok (.checkcast 1, 3) := dk_192 0 1 (dk_at dksX1_toss_1 10 rfl rfl)
theorem dX1_toss_37 : decode cX1_toss 37 = .ok (.invokevirtual 366, 3) := dk_182 1 110 (dk_at dksX1_toss_1 13 rfl rfl)
theorem dX1_toss_40 : decode cX1_toss 40 = .ok (.athrow, 1) := dk_191 (dk_at dksX1_toss_1 16 rfl rfl)
theorem dX1_toss_41 : decode cX1_toss 41 = .ok (.astore_n 2, 1) := dk_77 (dk_at dksX1_toss_1 17 rfl rfl)
theorem dX1_toss_42 : decode cX1_toss 42 = .ok (.aload_n 2, 1) := dk_44 (dk_at dksX1_toss_1 18 rfl rfl)
theorem dX1_toss_43 : decode cX1_toss 43 = .ok (.getfield 372, 3) := dk_180 1 116 (dk_at dksX1_toss_1 19 rfl rfl)
theorem dX1_toss_46 : decode cX1_toss 46 = .ok (.ireturn, 1) := dk_172 (dk_at dksX1_toss_1 22 rfl rfl)
theorem dX1_toss_47 : decode cX1_toss 47 = .ok (.astore_n 2, 1) := dk_77 (dk_at dksX1_toss_1 23 rfl rfl)
theorem dX1_toss_48 : decode cX1_toss 48 = .ok (.bipush (-15), 2) := dk_16 241 (dk_at dksX1_toss_2 0 rfl rfl)
theorem dX1_toss_50 : decode cX1_toss 50 = .ok (.ireturn, 1) := dk_172 (dk_at dksX1_toss_2 2 rfl rfl)
theorem dX1_toss_51 : decode cX1_toss 51 = .ok (.astore_n 2, 1) := dk_77 (dk_at dksX1_toss_2 3 rfl rfl)
theorem dX1_toss_52 : decode cX1_toss 52 = .ok (.bipush (-12), 2) := dk_16 244 (dk_at dksX1_toss_2 4 rfl rfl)
theorem dX1_toss_54 : decode cX1_toss 54 = .ok (.ireturn, 1) := dk_172 (dk_at dksX1_toss_2 6 rfl rfl)
abbrev cX1_element : ByteArray := prog_1_method_71_code
def yX1_element : MethodName := ⟨RX1, "element", "(II)J"⟩
def dkwX1_element_4 : List UInt8 := [191]
abbrev dktX1_element_4 : List UInt8 := dkwX1_element_4 ++ []
def dkwX1_element_3 : List UInt8 := [89, 183, 1, 98, 191, 58, 4, 187, 1, 96, 89, 183, 1, 98, 191, 58, 4, 187, 1, 96, 89, 183, 1, 98]
abbrev dktX1_element_3 : List UInt8 := dkwX1_element_3 ++ dktX1_element_4
def dkwX1_element_2 : List UInt8 := [153, 0, 11, 45, 192, 1, 3, 28, 53, 133, 173, 45, 192, 1, 5, 28, 46, 133, 173, 58, 4, 187, 1, 96]
abbrev dktX1_element_2 : List UInt8 := dkwX1_element_2 ++ dktX1_element_3
def dkwX1_element_1 : List UInt8 := [180, 0, 132, 78, 45, 193, 0, 138, 153, 0, 11, 45, 192, 0, 138, 28, 51, 133, 173, 45, 193, 1, 3]
abbrev dktX1_element_1 : List UInt8 := dkwX1_element_1 ++ dktX1_element_2
def dkwX1_element_0 : List UInt8 := [42, 27, 182, 0, 125, 154, 0, 11, 187, 1, 91, 89, 183, 1, 93, 191, 42, 180, 0, 128, 27, 50]
abbrev dktX1_element_0 : List UInt8 := dkwX1_element_0 ++ dktX1_element_1
theorem dksX1_element_0 : cX1_element.data.toList.drop 0 = dktX1_element_0 := by decide +kernel
theorem dksX1_element_1 : cX1_element.data.toList.drop 22 = dktX1_element_1 := dk_seg dksX1_element_0 22 rfl rfl
theorem dksX1_element_2 : cX1_element.data.toList.drop 45 = dktX1_element_2 := dk_seg dksX1_element_1 23 rfl rfl
theorem dksX1_element_3 : cX1_element.data.toList.drop 69 = dktX1_element_3 := dk_seg dksX1_element_2 24 rfl rfl
theorem dksX1_element_4 : cX1_element.data.toList.drop 93 = dktX1_element_4 := dk_seg dksX1_element_3 24 rfl rfl
theorem dX1_element_0 : decode cX1_element 0 = .ok (.aload_n 0, 1) := dk_42 (dk_at dksX1_element_0 0 rfl rfl)
theorem dX1_element_1 : decode cX1_element 1 = .ok (.iload_n 1, 1) := dk_27 (dk_at dksX1_element_0 1 rfl rfl)
theorem dX1_element_2 : decode cX1_element 2 = .ok (.invokevirtual 125, 3) := dk_182 0 125 (dk_at dksX1_element_0 2 rfl rfl)
theorem dX1_element_5 : decode cX1_element 5 = .ok (.ifCond .ne 11, 3) := dk_154 0 11 (dk_at dksX1_element_0 5 rfl rfl)
theorem dX1_element_8 : decode cX1_element 8 = .ok (.new 347, 3) := dk_187 1 91 (dk_at dksX1_element_0 8 rfl rfl)
theorem dX1_element_11 : decode cX1_element 11 = .ok (.dup, 1) := dk_89 (dk_at dksX1_element_0 11 rfl rfl)
theorem dX1_element_12 : decode cX1_element 12 = .ok (.invokespecial 349, 3) := dk_183 1 93 (dk_at dksX1_element_0 12 rfl rfl)
theorem dX1_element_15 : decode cX1_element 15 = .ok (.athrow, 1) := dk_191 (dk_at dksX1_element_0 15 rfl rfl)
theorem dX1_element_16 : decode cX1_element 16 = .ok (.aload_n 0, 1) := dk_42 (dk_at dksX1_element_0 16 rfl rfl)
theorem dX1_element_17 : decode cX1_element 17 = .ok (.getfield 128, 3) := dk_180 0 128 (dk_at dksX1_element_0 17 rfl rfl)
theorem dX1_element_20 : decode cX1_element 20 = .ok (.iload_n 1, 1) := dk_27 (dk_at dksX1_element_0 20 rfl rfl)
theorem dX1_element_21 : decode cX1_element 21 = .ok (.aaload, 1) := dk_50 (dk_at dksX1_element_0 21 rfl rfl)
theorem dX1_element_22 : decode cX1_element 22 = .ok (.getfield 132, 3) := dk_180 0 132 (dk_at dksX1_element_1 0 rfl rfl)
theorem dX1_element_25 : decode cX1_element 25 = .ok (.astore_n 3, 1) := dk_78 (dk_at dksX1_element_1 3 rfl rfl)
theorem dX1_element_26 : decode cX1_element 26 = .ok (.aload_n 3, 1) := dk_45 (dk_at dksX1_element_1 4 rfl rfl)
theorem dX1_element_27 : decode cX1_element 27 = .ok (.instanceof 138, 3) := dk_193 0 138 (dk_at dksX1_element_1 5 rfl rfl)
theorem dX1_element_30 : decode cX1_element 30 = .ok (.ifCond .eq 11, 3) := dk_153 0 11 (dk_at dksX1_element_1 8 rfl rfl)
theorem dX1_element_33 : decode cX1_element 33 = .ok (.aload_n 3, 1) := dk_45 (dk_at dksX1_element_1 11 rfl rfl)
theorem dX1_element_34 : decode cX1_element 34 = .ok (.checkcast 138, 3) := dk_192 0 138 (dk_at dksX1_element_1 12 rfl rfl)
theorem dX1_element_37 : decode cX1_element 37 = .ok (.iload_n 2, 1) := dk_28 (dk_at dksX1_element_1 15 rfl rfl)
theorem dX1_element_38 : decode cX1_element 38 = .ok (.baload, 1) := dk_51 (dk_at dksX1_element_1 16 rfl rfl)
theorem dX1_element_39 : decode cX1_element 39 = .ok (.i2l, 1) := dk_133 (dk_at dksX1_element_1 17 rfl rfl)
theorem dX1_element_40 : decode cX1_element 40 = .ok (.lreturn, 1) := dk_173 (dk_at dksX1_element_1 18 rfl rfl)
theorem dX1_element_41 : decode cX1_element 41 = .ok (.aload_n 3, 1) := dk_45 (dk_at dksX1_element_1 19 rfl rfl)
theorem dX1_element_42 : decode cX1_element 42 = .ok (.instanceof 259, 3) := dk_193 1 3 (dk_at dksX1_element_1 20 rfl rfl)
theorem dX1_element_45 : decode cX1_element 45 = .ok (.ifCond .eq 11, 3) := dk_153 0 11 (dk_at dksX1_element_2 0 rfl rfl)
theorem dX1_element_48 : decode cX1_element 48 = .ok (.aload_n 3, 1) := dk_45 (dk_at dksX1_element_2 3 rfl rfl)
theorem dX1_element_49 : decode cX1_element 49 = .ok (.checkcast 259, 3) := dk_192 1 3 (dk_at dksX1_element_2 4 rfl rfl)
theorem dX1_element_52 : decode cX1_element 52 = .ok (.iload_n 2, 1) := dk_28 (dk_at dksX1_element_2 7 rfl rfl)
theorem dX1_element_53 : decode cX1_element 53 = .ok (.saload, 1) := dk_53 (dk_at dksX1_element_2 8 rfl rfl)
theorem dX1_element_54 : decode cX1_element 54 = .ok (.i2l, 1) := dk_133 (dk_at dksX1_element_2 9 rfl rfl)
theorem dX1_element_55 : decode cX1_element 55 = .ok (.lreturn, 1) := dk_173 (dk_at dksX1_element_2 10 rfl rfl)
theorem dX1_element_56 : decode cX1_element 56 = .ok (.aload_n 3, 1) := dk_45 (dk_at dksX1_element_2 11 rfl rfl)
theorem dX1_element_57 : decode cX1_element 57 = .ok (.checkcast 261, 3) := dk_192 1 5 (dk_at dksX1_element_2 12 rfl rfl)
theorem dX1_element_60 : decode cX1_element 60 = .ok (.iload_n 2, 1) := dk_28 (dk_at dksX1_element_2 15 rfl rfl)
theorem dX1_element_61 : decode cX1_element 61 = .ok (.iaload, 1) := dk_46 (dk_at dksX1_element_2 16 rfl rfl)
theorem dX1_element_62 : decode cX1_element 62 = .ok (.i2l, 1) := dk_133 (dk_at dksX1_element_2 17 rfl rfl)
theorem dX1_element_63 : decode cX1_element 63 = .ok (.lreturn, 1) := dk_173 (dk_at dksX1_element_2 18 rfl rfl)
theorem dX1_element_64 : decode cX1_element 64 = .ok (.astore 4, 2) := dk_58 4 (dk_at dksX1_element_2 19 rfl rfl)
theorem dX1_element_66 : decode cX1_element 66 = .ok (.new 352, 3) := dk_187 1 96 (dk_at dksX1_element_2 21 rfl rfl)
theorem dX1_element_69 : decode cX1_element 69 = .ok (.dup, 1) := dk_89 (dk_at dksX1_element_3 0 rfl rfl)
theorem dX1_element_70 : decode cX1_element 70 = .ok (.invokespecial 354, 3) := dk_183 1 98 (dk_at dksX1_element_3 1 rfl rfl)
theorem dX1_element_73 : decode cX1_element 73 = .ok (.athrow, 1) := dk_191 (dk_at dksX1_element_3 4 rfl rfl)
theorem dX1_element_74 : decode cX1_element 74 = .ok (.astore 4, 2) := dk_58 4 (dk_at dksX1_element_3 5 rfl rfl)
theorem dX1_element_76 : decode cX1_element 76 = .ok (.new 352, 3) := dk_187 1 96 (dk_at dksX1_element_3 7 rfl rfl)
theorem dX1_element_79 : decode cX1_element 79 = .ok (.dup, 1) := dk_89 (dk_at dksX1_element_3 10 rfl rfl)
theorem dX1_element_80 : decode cX1_element 80 = .ok (.invokespecial 354, 3) := dk_183 1 98 (dk_at dksX1_element_3 11 rfl rfl)
theorem dX1_element_83 : decode cX1_element 83 = .ok (.athrow, 1) := dk_191 (dk_at dksX1_element_3 14 rfl rfl)
theorem dX1_element_84 : decode cX1_element 84 = .ok (.astore 4, 2) := dk_58 4 (dk_at dksX1_element_3 15 rfl rfl)
theorem dX1_element_86 : decode cX1_element 86 = .ok (.new 352, 3) := dk_187 1 96 (dk_at dksX1_element_3 17 rfl rfl)
theorem dX1_element_89 : decode cX1_element 89 = .ok (.dup, 1) := dk_89 (dk_at dksX1_element_3 20 rfl rfl)
theorem dX1_element_90 : decode cX1_element 90 = .ok (.invokespecial 354, 3) := dk_183 1 98 (dk_at dksX1_element_3 21 rfl rfl)
theorem dX1_element_93 : decode cX1_element 93 = .ok (.athrow, 1) := dk_191 (dk_at dksX1_element_4 0 rfl rfl)
theorem q39 : (Jvm.Cond.initialized "CakesToTheWatched") ∈ lw_all := lw_g (lw_at lw_m1 1 rfl) rfl
theorem q71 : (Jvm.Cond.instanceMethod ({ cls := "CakesToTheWatched", name := "fete", desc := "(I)I" } : Jvm.MethodName)) ∈ lw_all := lw_g (lw_at lw_m1 33 rfl) rfl
theorem q72 : (Jvm.Cond.selects "CakesToTheWatched" ({ cls := "CakesToTheWatched", name := "fete", desc := "(I)I" } : Jvm.MethodName) ({ cls := "CakesToTheWatched", name := "fete", desc := "(I)I" } : Jvm.MethodName)) ∈ lw_all := lw_g (lw_at lw_m1 34 rfl) rfl
theorem q73 : (Jvm.Cond.codeWith ({ cls := "CakesToTheWatched", name := "fete", desc := "(I)I" } : Jvm.MethodName) prog_1_method_11_code (3 : Nat) (Option.some Jvm.ClassFile.FieldType.int) [((10 : Nat), (37 : Nat), (38 : Nat), (144 : Nat)), ((10 : Nat), (37 : Nat), (42 : Nat), (119 : Nat))]) ∈ lw_all := lw_g (lw_at lw_m1 35 rfl) rfl
theorem q74 : (Jvm.Cond.classLink "CakesToTheWatched" (144 : Nat) "java/lang/ClassCastException") ∈ lw_all := lw_g (lw_at lw_m1 36 rfl) rfl
theorem q165 : (Jvm.Cond.classLink "CakesToTheWatched" (119 : Nat) "CakesToTheWatched$Broken") ∈ lw_all := lw_g (lw_at lw_m1 127 rfl) rfl
theorem q166 : (Jvm.Cond.methodLink "CakesToTheWatched" (125 : Nat) ({ cls := "CakesToTheWatched", name := "isShelf", desc := "(I)Z" } : Jvm.MethodName)) ∈ lw_all := lw_g (lw_at lw_m1 128 rfl) rfl
theorem q167 : (Jvm.Cond.privateMethod ({ cls := "CakesToTheWatched", name := "isShelf", desc := "(I)Z" } : Jvm.MethodName)) ∈ lw_tbl := lw_at lw_m1 129 rfl
theorem q168 : (Jvm.Cond.instanceMethod ({ cls := "CakesToTheWatched", name := "isShelf", desc := "(I)Z" } : Jvm.MethodName)) ∈ lw_all := lw_g (lw_at lw_m1 130 rfl) rfl
theorem q169 : (Jvm.Cond.instantiable "CakesToTheWatched" (9 : Nat)) ∈ lw_all := lw_g (lw_at lw_m1 131 rfl) rfl
theorem q170 : (Jvm.Cond.code ({ cls := "CakesToTheWatched", name := "isShelf", desc := "(I)Z" } : Jvm.MethodName) prog_1_method_4_code (2 : Nat) (Option.some Jvm.ClassFile.FieldType.boolean)) ∈ lw_all := lw_g (lw_at lw_m1 132 rfl) rfl
theorem q171 : (Jvm.Cond.methodLink "CakesToTheWatched" (30 : Nat) ({ cls := "CakesToTheWatched", name := "isIn", desc := "(III)Z" } : Jvm.MethodName)) ∈ lw_all := lw_g (lw_at lw_m1 133 rfl) rfl
theorem q172 : (Jvm.Cond.static ({ cls := "CakesToTheWatched", name := "isIn", desc := "(III)Z" } : Jvm.MethodName)) ∈ lw_all := lw_g (lw_at lw_m1 134 rfl) rfl
theorem q173 : (Jvm.Cond.code ({ cls := "CakesToTheWatched", name := "isIn", desc := "(III)Z" } : Jvm.MethodName) prog_1_method_1_code (3 : Nat) (Option.some Jvm.ClassFile.FieldType.boolean)) ∈ lw_all := lw_g (lw_at lw_m1 135 rfl) rfl
theorem q174 : (Jvm.Cond.classLink "CakesToTheWatched" (138 : Nat) "[B") ∈ lw_all := lw_g (lw_at lw_m1 136 rfl) rfl
theorem q175 : (Jvm.Cond.methodLink "CakesToTheWatched" (140 : Nat) ({ cls := "CakesToTheWatched", name := "reads", desc := "([B)I" } : Jvm.MethodName)) ∈ lw_all := lw_g (lw_at lw_m1 137 rfl) rfl
theorem q176 : (Jvm.Cond.privateMethod ({ cls := "CakesToTheWatched", name := "reads", desc := "([B)I" } : Jvm.MethodName)) ∈ lw_tbl := lw_at lw_m1 138 rfl
theorem q177 : (Jvm.Cond.instanceMethod ({ cls := "CakesToTheWatched", name := "reads", desc := "([B)I" } : Jvm.MethodName)) ∈ lw_all := lw_g (lw_at lw_m1 139 rfl) rfl
theorem q178 : (Jvm.Cond.code ({ cls := "CakesToTheWatched", name := "reads", desc := "([B)I" } : Jvm.MethodName) prog_1_method_10_code (4 : Nat) (Option.some Jvm.ClassFile.FieldType.int)) ∈ lw_all := lw_g (lw_at lw_m1 140 rfl) rfl
theorem q179 : (Jvm.Cond.classLink "CakesToTheWatched" (96 : Nat) "CakesToTheWatched$FeteReader") ∈ lw_all := lw_g (lw_at lw_m1 141 rfl) rfl
theorem q181 : (Jvm.Cond.methodLink "CakesToTheWatched" (98 : Nat) ({ cls := "CakesToTheWatched$FeteReader", name := "<init>", desc := "([B)V" } : Jvm.MethodName)) ∈ lw_all := lw_g (lw_at lw_m1 143 rfl) rfl
theorem q192 : (Jvm.Cond.methodLink "CakesToTheWatched" (105 : Nat) ({ cls := "CakesToTheWatched$FeteReader", name := "whole", desc := "([LCakesToTheWatched$Told;)I" } : Jvm.MethodName)) ∈ lw_all := lw_g (lw_at lw_m1 154 rfl) rfl
theorem q212 : (Jvm.Cond.fieldLink "CakesToTheWatched" (63 : Nat) "CakesToTheWatched$Told" "letter" "I") ∈ lw_all := lw_g (lw_at lw_m1 174 rfl) rfl
theorem q214 : (Jvm.Cond.fieldLink "CakesToTheWatched" (121 : Nat) "CakesToTheWatched$Told" "at" "I") ∈ lw_all := lw_g (lw_at lw_m1 176 rfl) rfl
theorem q216 : (Jvm.Cond.fieldLink "CakesToTheWatched" (58 : Nat) "CakesToTheWatched$Told" "numbers" "[I") ∈ lw_all := lw_g (lw_at lw_m1 178 rfl) rfl
theorem q258 : (Jvm.Cond.fieldLink "CakesToTheWatched" (146 : Nat) "CakesToTheWatched$Broken" "code" "I") ∈ lw_all := lw_g (lw_at lw_m1 220 rfl) rfl
theorem q267 : (Jvm.Cond.methodLink "CakesToTheWatched" (112 : Nat) ({ cls := "CakesToTheWatched$Fete", name := "takes", desc := "(LCakesToTheWatched$Fete;)V" } : Jvm.MethodName)) ∈ lw_all := lw_g (lw_at lw_m1 229 rfl) rfl
theorem q277 : (Jvm.Cond.methodLink "CakesToTheWatched" (116 : Nat) ({ cls := "CakesToTheWatched", name := "comes", desc := "(LCakesToTheWatched$Told;)Z" } : Jvm.MethodName)) ∈ lw_all := lw_g (lw_at lw_m1 239 rfl) rfl
theorem q278 : (Jvm.Cond.privateMethod ({ cls := "CakesToTheWatched", name := "comes", desc := "(LCakesToTheWatched$Told;)Z" } : Jvm.MethodName)) ∈ lw_tbl := lw_at lw_m2 0 rfl
theorem q279 : (Jvm.Cond.instanceMethod ({ cls := "CakesToTheWatched", name := "comes", desc := "(LCakesToTheWatched$Told;)Z" } : Jvm.MethodName)) ∈ lw_all := lw_g (lw_at lw_m2 1 rfl) rfl
theorem q280 : (Jvm.Cond.code ({ cls := "CakesToTheWatched", name := "comes", desc := "(LCakesToTheWatched$Told;)Z" } : Jvm.MethodName) prog_1_method_9_code (3 : Nat) (Option.some Jvm.ClassFile.FieldType.boolean)) ∈ lw_all := lw_g (lw_at lw_m2 2 rfl) rfl
theorem q281 : (Jvm.Cond.methodLink "CakesToTheWatched" (40 : Nat) ({ cls := "CakesToTheWatched", name := "isFeeling", desc := "(I)Z" } : Jvm.MethodName)) ∈ lw_all := lw_g (lw_at lw_m2 3 rfl) rfl
theorem q282 : (Jvm.Cond.static ({ cls := "CakesToTheWatched", name := "isFeeling", desc := "(I)Z" } : Jvm.MethodName)) ∈ lw_all := lw_g (lw_at lw_m2 4 rfl) rfl
theorem q283 : (Jvm.Cond.code ({ cls := "CakesToTheWatched", name := "isFeeling", desc := "(I)Z" } : Jvm.MethodName) prog_1_method_6_code (1 : Nat) (Option.some Jvm.ClassFile.FieldType.boolean)) ∈ lw_all := lw_g (lw_at lw_m2 5 rfl) rfl
theorem q284 : (Jvm.Cond.methodLink "CakesToTheWatched" (73 : Nat) ({ cls := "CakesToTheWatched", name := "guestOf", desc := "(II)LCakesToTheWatched$Guest;" } : Jvm.MethodName)) ∈ lw_all := lw_g (lw_at lw_m2 6 rfl) rfl
theorem q285 : (Jvm.Cond.static ({ cls := "CakesToTheWatched", name := "guestOf", desc := "(II)LCakesToTheWatched$Guest;" } : Jvm.MethodName)) ∈ lw_all := lw_g (lw_at lw_m2 7 rfl) rfl
theorem q286 : (Jvm.Cond.code ({ cls := "CakesToTheWatched", name := "guestOf", desc := "(II)LCakesToTheWatched$Guest;" } : Jvm.MethodName) prog_1_method_3_code (2 : Nat) (Option.some (Jvm.ClassFile.FieldType.object "CakesToTheWatched$Guest"))) ∈ lw_all := lw_g (lw_at lw_m2 8 rfl) rfl
theorem q287 : (Jvm.Cond.classLink "CakesToTheWatched" (1 : Nat) "CakesToTheWatched$Guest") ∈ lw_all := lw_g (lw_at lw_m2 9 rfl) rfl
theorem q289 : (Jvm.Cond.methodLink "CakesToTheWatched" (3 : Nat) ({ cls := "CakesToTheWatched$Guest", name := "<init>", desc := "(I)V" } : Jvm.MethodName)) ∈ lw_all := lw_g (lw_at lw_m2 11 rfl) rfl
theorem q300 : (Jvm.Cond.fieldLink "CakesToTheWatched" (157 : Nat) "CakesToTheWatched$Guest" "figure" "I") ∈ lw_all := lw_g (lw_at lw_m2 22 rfl) rfl
theorem q304 : (Jvm.Cond.classLink "CakesToTheWatched" (7 : Nat) "CakesToTheWatched$Child") ∈ lw_all := lw_g (lw_at lw_m2 26 rfl) rfl
theorem q306 : (Jvm.Cond.methodLink "CakesToTheWatched" (9 : Nat) ({ cls := "CakesToTheWatched$Child", name := "<init>", desc := "(I)V" } : Jvm.MethodName)) ∈ lw_all := lw_g (lw_at lw_m2 28 rfl) rfl
theorem q312 : (Jvm.Cond.classLink "CakesToTheWatched" (10 : Nat) "CakesToTheWatched$Deacon") ∈ lw_all := lw_g (lw_at lw_m2 34 rfl) rfl
theorem q314 : (Jvm.Cond.methodLink "CakesToTheWatched" (12 : Nat) ({ cls := "CakesToTheWatched$Deacon", name := "<init>", desc := "(I)V" } : Jvm.MethodName)) ∈ lw_all := lw_g (lw_at lw_m2 36 rfl) rfl
theorem q320 : (Jvm.Cond.classLink "CakesToTheWatched" (13 : Nat) "CakesToTheWatched$Taster") ∈ lw_all := lw_g (lw_at lw_m2 42 rfl) rfl
theorem q322 : (Jvm.Cond.methodLink "CakesToTheWatched" (15 : Nat) ({ cls := "CakesToTheWatched$Taster", name := "<init>", desc := "(I)V" } : Jvm.MethodName)) ∈ lw_all := lw_g (lw_at lw_m2 44 rfl) rfl
theorem q328 : (Jvm.Cond.classLink "CakesToTheWatched" (16 : Nat) "CakesToTheWatched$Blind") ∈ lw_all := lw_g (lw_at lw_m2 50 rfl) rfl
theorem q330 : (Jvm.Cond.methodLink "CakesToTheWatched" (18 : Nat) ({ cls := "CakesToTheWatched$Blind", name := "<init>", desc := "(I)V" } : Jvm.MethodName)) ∈ lw_all := lw_g (lw_at lw_m2 52 rfl) rfl
theorem q336 : (Jvm.Cond.classLink "CakesToTheWatched" (19 : Nat) "CakesToTheWatched$Expert") ∈ lw_all := lw_g (lw_at lw_m2 58 rfl) rfl
theorem q338 : (Jvm.Cond.methodLink "CakesToTheWatched" (21 : Nat) ({ cls := "CakesToTheWatched$Expert", name := "<init>", desc := "(I)V" } : Jvm.MethodName)) ∈ lw_all := lw_g (lw_at lw_m2 60 rfl) rfl
theorem q344 : (Jvm.Cond.classLink "CakesToTheWatched" (22 : Nat) "CakesToTheWatched$Twin") ∈ lw_all := lw_g (lw_at lw_m2 66 rfl) rfl
theorem q346 : (Jvm.Cond.methodLink "CakesToTheWatched" (24 : Nat) ({ cls := "CakesToTheWatched$Twin", name := "<init>", desc := "(I)V" } : Jvm.MethodName)) ∈ lw_all := lw_g (lw_at lw_m2 68 rfl) rfl
theorem q352 : (Jvm.Cond.classLink "CakesToTheWatched" (25 : Nat) "CakesToTheWatched$Cow") ∈ lw_all := lw_g (lw_at lw_m2 74 rfl) rfl
theorem q354 : (Jvm.Cond.methodLink "CakesToTheWatched" (27 : Nat) ({ cls := "CakesToTheWatched$Cow", name := "<init>", desc := "(I)V" } : Jvm.MethodName)) ∈ lw_all := lw_g (lw_at lw_m2 76 rfl) rfl
theorem q360 : (Jvm.Cond.methodLink "CakesToTheWatched" (77 : Nat) ({ cls := "CakesToTheWatched$Fete", name := "comes", desc := "(LCakesToTheWatched$Guest;II)I" } : Jvm.MethodName)) ∈ lw_all := lw_g (lw_at lw_m2 82 rfl) rfl
theorem q364 : (Jvm.Cond.methodLink "CakesToTheWatched" (84 : Nat) ({ cls := "CakesToTheWatched", name := "mayEat", desc := "(LCakesToTheWatched$Fete;II)Z" } : Jvm.MethodName)) ∈ lw_all := lw_g (lw_at lw_m2 86 rfl) rfl
theorem q365 : (Jvm.Cond.static ({ cls := "CakesToTheWatched", name := "mayEat", desc := "(LCakesToTheWatched$Fete;II)Z" } : Jvm.MethodName)) ∈ lw_all := lw_g (lw_at lw_m2 87 rfl) rfl
theorem q366 : (Jvm.Cond.code ({ cls := "CakesToTheWatched", name := "mayEat", desc := "(LCakesToTheWatched$Fete;II)Z" } : Jvm.MethodName) prog_1_method_8_code (3 : Nat) (Option.some Jvm.ClassFile.FieldType.boolean)) ∈ lw_all := lw_g (lw_at lw_m2 88 rfl) rfl
theorem q367 : (Jvm.Cond.methodLink "CakesToTheWatched" (50 : Nat) ({ cls := "CakesToTheWatched$Fete", name := "canEat", desc := "(II)Z" } : Jvm.MethodName)) ∈ lw_all := lw_g (lw_at lw_m2 89 rfl) rfl
theorem q398 : (Jvm.Cond.methodLink "CakesToTheWatched" (88 : Nat) ({ cls := "CakesToTheWatched$Fete", name := "eats", desc := "(II)I" } : Jvm.MethodName)) ∈ lw_all := lw_g (lw_at lw_m2 120 rfl) rfl
theorem q494 : (Jvm.Cond.methodLink "CakesToTheWatched" (92 : Nat) ({ cls := "CakesToTheWatched", name := "feels", desc := "(LCakesToTheWatched$Fete;III)Z" } : Jvm.MethodName)) ∈ lw_all := lw_g (lw_at lw_m2 216 rfl) rfl
theorem q495 : (Jvm.Cond.static ({ cls := "CakesToTheWatched", name := "feels", desc := "(LCakesToTheWatched$Fete;III)Z" } : Jvm.MethodName)) ∈ lw_all := lw_g (lw_at lw_m2 217 rfl) rfl
theorem q496 : (Jvm.Cond.code ({ cls := "CakesToTheWatched", name := "feels", desc := "(LCakesToTheWatched$Fete;III)Z" } : Jvm.MethodName) prog_1_method_7_code (4 : Nat) (Option.some Jvm.ClassFile.FieldType.boolean)) ∈ lw_all := lw_g (lw_at lw_m2 218 rfl) rfl
theorem q497 : (Jvm.Cond.methodLink "CakesToTheWatched" (34 : Nat) ({ cls := "CakesToTheWatched$Fete", name := "isOne", desc := "(I)Z" } : Jvm.MethodName)) ∈ lw_all := lw_g (lw_at lw_m2 219 rfl) rfl
theorem q498 : (Jvm.Cond.methodLink "CakesToTheWatched" (124 : Nat) ({ cls := "CakesToTheWatched$Broken", name := "<init>", desc := "(I)V" } : Jvm.MethodName)) ∈ lw_all := lw_g (lw_at lw_m2 220 rfl) rfl
theorem q500 : (Jvm.Cond.instanceMethod ({ cls := "CakesToTheWatched", name := "person", desc := "(II)I" } : Jvm.MethodName)) ∈ lw_all := lw_g (lw_at lw_m2 222 rfl) rfl
theorem q501 : (Jvm.Cond.selects "CakesToTheWatched" ({ cls := "CakesToTheWatched", name := "person", desc := "(II)I" } : Jvm.MethodName) ({ cls := "CakesToTheWatched", name := "person", desc := "(II)I" } : Jvm.MethodName)) ∈ lw_all := lw_g (lw_at lw_m2 223 rfl) rfl
theorem q502 : (Jvm.Cond.code ({ cls := "CakesToTheWatched", name := "person", desc := "(II)I" } : Jvm.MethodName) prog_1_method_12_code (4 : Nat) (Option.some Jvm.ClassFile.FieldType.int)) ∈ lw_all := lw_g (lw_at lw_m2 224 rfl) rfl
theorem q503 : (Jvm.Cond.methodLink "CakesToTheWatched" (153 : Nat) ({ cls := "CakesToTheWatched$Guest", name := "kind", desc := "()I" } : Jvm.MethodName)) ∈ lw_all := lw_g (lw_at lw_m2 225 rfl) rfl
theorem q530 : (Jvm.Cond.instanceMethod ({ cls := "CakesToTheWatched", name := "comes", desc := "(III)I" } : Jvm.MethodName)) ∈ lw_all := lw_g (lw_at lw_m3 12 rfl) rfl
theorem q531 : (Jvm.Cond.selects "CakesToTheWatched" ({ cls := "CakesToTheWatched", name := "comes", desc := "(III)I" } : Jvm.MethodName) ({ cls := "CakesToTheWatched", name := "comes", desc := "(III)I" } : Jvm.MethodName)) ∈ lw_all := lw_g (lw_at lw_m3 13 rfl) rfl
theorem q532 : (Jvm.Cond.codeWith ({ cls := "CakesToTheWatched", name := "comes", desc := "(III)I" } : Jvm.MethodName) prog_1_method_13_code (5 : Nat) (Option.some Jvm.ClassFile.FieldType.int) [((24 : Nat), (45 : Nat), (75 : Nat), (144 : Nat)), ((46 : Nat), (74 : Nat), (75 : Nat), (144 : Nat))]) ∈ lw_all := lw_g (lw_at lw_m3 14 rfl) rfl
theorem q534 : (Jvm.Cond.instanceMethod ({ cls := "CakesToTheWatched", name := "feels", desc := "(III)I" } : Jvm.MethodName)) ∈ lw_all := lw_g (lw_at lw_m3 16 rfl) rfl
theorem q535 : (Jvm.Cond.selects "CakesToTheWatched" ({ cls := "CakesToTheWatched", name := "feels", desc := "(III)I" } : Jvm.MethodName) ({ cls := "CakesToTheWatched", name := "feels", desc := "(III)I" } : Jvm.MethodName)) ∈ lw_all := lw_g (lw_at lw_m3 17 rfl) rfl
theorem q536 : (Jvm.Cond.code ({ cls := "CakesToTheWatched", name := "feels", desc := "(III)I" } : Jvm.MethodName) prog_1_method_14_code (5 : Nat) (Option.some Jvm.ClassFile.FieldType.int)) ∈ lw_all := lw_g (lw_at lw_m3 18 rfl) rfl
theorem q538 : (Jvm.Cond.instanceMethod ({ cls := "CakesToTheWatched", name := "slices", desc := "(I)I" } : Jvm.MethodName)) ∈ lw_all := lw_g (lw_at lw_m3 20 rfl) rfl
theorem q539 : (Jvm.Cond.selects "CakesToTheWatched" ({ cls := "CakesToTheWatched", name := "slices", desc := "(I)I" } : Jvm.MethodName) ({ cls := "CakesToTheWatched", name := "slices", desc := "(I)I" } : Jvm.MethodName)) ∈ lw_all := lw_g (lw_at lw_m3 21 rfl) rfl
theorem q540 : (Jvm.Cond.code ({ cls := "CakesToTheWatched", name := "slices", desc := "(I)I" } : Jvm.MethodName) prog_1_method_15_code (3 : Nat) (Option.some Jvm.ClassFile.FieldType.int)) ∈ lw_all := lw_g (lw_at lw_m3 22 rfl) rfl
theorem q542 : (Jvm.Cond.instanceMethod ({ cls := "CakesToTheWatched", name := "eats", desc := "(II)I" } : Jvm.MethodName)) ∈ lw_all := lw_g (lw_at lw_m3 24 rfl) rfl
theorem q543 : (Jvm.Cond.selects "CakesToTheWatched" ({ cls := "CakesToTheWatched", name := "eats", desc := "(II)I" } : Jvm.MethodName) ({ cls := "CakesToTheWatched", name := "eats", desc := "(II)I" } : Jvm.MethodName)) ∈ lw_all := lw_g (lw_at lw_m3 25 rfl) rfl
theorem q544 : (Jvm.Cond.code ({ cls := "CakesToTheWatched", name := "eats", desc := "(II)I" } : Jvm.MethodName) prog_1_method_16_code (3 : Nat) (Option.some Jvm.ClassFile.FieldType.int)) ∈ lw_all := lw_g (lw_at lw_m3 26 rfl) rfl
theorem q545 : (Jvm.Cond.methodLink "CakesToTheWatched" (175 : Nat) ({ cls := "CakesToTheWatched$Fete", name := "areTwo", desc := "(II)Z" } : Jvm.MethodName)) ∈ lw_all := lw_g (lw_at lw_m3 27 rfl) rfl
theorem q547 : (Jvm.Cond.instanceMethod ({ cls := "CakesToTheWatched", name := "joys", desc := "(III)I" } : Jvm.MethodName)) ∈ lw_all := lw_g (lw_at lw_m3 29 rfl) rfl
theorem q548 : (Jvm.Cond.selects "CakesToTheWatched" ({ cls := "CakesToTheWatched", name := "joys", desc := "(III)I" } : Jvm.MethodName) ({ cls := "CakesToTheWatched", name := "joys", desc := "(III)I" } : Jvm.MethodName)) ∈ lw_all := lw_g (lw_at lw_m3 30 rfl) rfl
theorem q549 : (Jvm.Cond.code ({ cls := "CakesToTheWatched", name := "joys", desc := "(III)I" } : Jvm.MethodName) prog_1_method_17_code (4 : Nat) (Option.some Jvm.ClassFile.FieldType.int)) ∈ lw_all := lw_g (lw_at lw_m3 31 rfl) rfl
theorem q550 : (Jvm.Cond.methodLink "CakesToTheWatched" (178 : Nat) ({ cls := "CakesToTheWatched$Fete", name := "joys", desc := "(II)I" } : Jvm.MethodName)) ∈ lw_all := lw_g (lw_at lw_m3 32 rfl) rfl
theorem q551 : (Jvm.Cond.methodLink "CakesToTheWatched" (181 : Nat) ({ cls := "CakesToTheWatched$Fete", name := "joyOf", desc := "(II)I" } : Jvm.MethodName)) ∈ lw_all := lw_g (lw_at lw_m3 33 rfl) rfl
theorem q552 : (Jvm.Cond.methodLink "CakesToTheWatched" (184 : Nat) ({ cls := "CakesToTheWatched$Fete", name := "looks", desc := "(I)I" } : Jvm.MethodName)) ∈ lw_all := lw_g (lw_at lw_m3 34 rfl) rfl
theorem q554 : (Jvm.Cond.instanceMethod ({ cls := "CakesToTheWatched", name := "who", desc := "(I)I" } : Jvm.MethodName)) ∈ lw_all := lw_g (lw_at lw_m3 36 rfl) rfl
theorem q555 : (Jvm.Cond.selects "CakesToTheWatched" ({ cls := "CakesToTheWatched", name := "who", desc := "(I)I" } : Jvm.MethodName) ({ cls := "CakesToTheWatched", name := "who", desc := "(I)I" } : Jvm.MethodName)) ∈ lw_all := lw_g (lw_at lw_m3 37 rfl) rfl
theorem q556 : (Jvm.Cond.code ({ cls := "CakesToTheWatched", name := "who", desc := "(I)I" } : Jvm.MethodName) prog_1_method_18_code (5 : Nat) (Option.some Jvm.ClassFile.FieldType.int)) ∈ lw_all := lw_g (lw_at lw_m3 38 rfl) rfl
theorem q558 : (Jvm.Cond.instanceMethod ({ cls := "CakesToTheWatched", name := "bestPair", desc := "(I)I" } : Jvm.MethodName)) ∈ lw_all := lw_g (lw_at lw_m3 40 rfl) rfl
theorem q559 : (Jvm.Cond.selects "CakesToTheWatched" ({ cls := "CakesToTheWatched", name := "bestPair", desc := "(I)I" } : Jvm.MethodName) ({ cls := "CakesToTheWatched", name := "bestPair", desc := "(I)I" } : Jvm.MethodName)) ∈ lw_all := lw_g (lw_at lw_m3 41 rfl) rfl
theorem q560 : (Jvm.Cond.code ({ cls := "CakesToTheWatched", name := "bestPair", desc := "(I)I" } : Jvm.MethodName) prog_1_method_19_code (2 : Nat) (Option.some Jvm.ClassFile.FieldType.int)) ∈ lw_all := lw_g (lw_at lw_m3 42 rfl) rfl
theorem q561 : (Jvm.Cond.methodLink "CakesToTheWatched" (188 : Nat) ({ cls := "CakesToTheWatched$Fete", name := "best", desc := "()I" } : Jvm.MethodName)) ∈ lw_all := lw_g (lw_at lw_m3 43 rfl) rfl
theorem q566 : (Jvm.Cond.methodLink "CakesToTheWatched" (191 : Nat) ({ cls := "CakesToTheWatched$Fete", name := "bestJoys", desc := "()I" } : Jvm.MethodName)) ∈ lw_all := lw_g (lw_at lw_m3 48 rfl) rfl
theorem q572 : (Jvm.Cond.instanceMethod ({ cls := "CakesToTheWatched", name := "bestLooker", desc := "(I)I" } : Jvm.MethodName)) ∈ lw_all := lw_g (lw_at lw_m3 54 rfl) rfl
theorem q573 : (Jvm.Cond.selects "CakesToTheWatched" ({ cls := "CakesToTheWatched", name := "bestLooker", desc := "(I)I" } : Jvm.MethodName) ({ cls := "CakesToTheWatched", name := "bestLooker", desc := "(I)I" } : Jvm.MethodName)) ∈ lw_all := lw_g (lw_at lw_m3 55 rfl) rfl
theorem q574 : (Jvm.Cond.code ({ cls := "CakesToTheWatched", name := "bestLooker", desc := "(I)I" } : Jvm.MethodName) prog_1_method_20_code (4 : Nat) (Option.some Jvm.ClassFile.FieldType.int)) ∈ lw_all := lw_g (lw_at lw_m3 56 rfl) rfl
theorem q576 : (Jvm.Cond.instanceMethod ({ cls := "CakesToTheWatched", name := "twoTurns", desc := "(I)I" } : Jvm.MethodName)) ∈ lw_all := lw_g (lw_at lw_m3 58 rfl) rfl
theorem q577 : (Jvm.Cond.selects "CakesToTheWatched" ({ cls := "CakesToTheWatched", name := "twoTurns", desc := "(I)I" } : Jvm.MethodName) ({ cls := "CakesToTheWatched", name := "twoTurns", desc := "(I)I" } : Jvm.MethodName)) ∈ lw_all := lw_g (lw_at lw_m3 59 rfl) rfl
theorem q578 : (Jvm.Cond.code ({ cls := "CakesToTheWatched", name := "twoTurns", desc := "(I)I" } : Jvm.MethodName) prog_1_method_22_code (6 : Nat) (Option.some Jvm.ClassFile.FieldType.int)) ∈ lw_all := lw_g (lw_at lw_m3 60 rfl) rfl
theorem q579 : (Jvm.Cond.methodLink "CakesToTheWatched" (194 : Nat) ({ cls := "CakesToTheWatched", name := "minds", desc := "()V" } : Jvm.MethodName)) ∈ lw_all := lw_g (lw_at lw_m3 61 rfl) rfl
theorem q580 : (Jvm.Cond.privateMethod ({ cls := "CakesToTheWatched", name := "minds", desc := "()V" } : Jvm.MethodName)) ∈ lw_tbl := lw_at lw_m3 62 rfl
theorem q581 : (Jvm.Cond.instanceMethod ({ cls := "CakesToTheWatched", name := "minds", desc := "()V" } : Jvm.MethodName)) ∈ lw_all := lw_g (lw_at lw_m3 63 rfl) rfl
theorem q582 : (Jvm.Cond.code ({ cls := "CakesToTheWatched", name := "minds", desc := "()V" } : Jvm.MethodName) prog_1_method_21_code (1 : Nat) (Option.none : Option Jvm.ClassFile.FieldType)) ∈ lw_all := lw_g (lw_at lw_m3 64 rfl) rfl
theorem q583 : (Jvm.Cond.methodLink "CakesToTheWatched" (198 : Nat) ({ cls := "java/lang/Math", name := "max", desc := "(II)I" } : Jvm.MethodName)) ∈ lw_all := lw_g (lw_at lw_m3 65 rfl) rfl
theorem q585 : (Jvm.Cond.instanceMethod ({ cls := "CakesToTheWatched", name := "pairs", desc := "(I)I" } : Jvm.MethodName)) ∈ lw_all := lw_g (lw_at lw_m3 67 rfl) rfl
theorem q586 : (Jvm.Cond.selects "CakesToTheWatched" ({ cls := "CakesToTheWatched", name := "pairs", desc := "(I)I" } : Jvm.MethodName) ({ cls := "CakesToTheWatched", name := "pairs", desc := "(I)I" } : Jvm.MethodName)) ∈ lw_all := lw_g (lw_at lw_m3 68 rfl) rfl
theorem q587 : (Jvm.Cond.code ({ cls := "CakesToTheWatched", name := "pairs", desc := "(I)I" } : Jvm.MethodName) prog_1_method_27_code (9 : Nat) (Option.some Jvm.ClassFile.FieldType.int)) ∈ lw_all := lw_g (lw_at lw_m3 69 rfl) rfl
theorem q588 : (Jvm.Cond.methodLink "CakesToTheWatched" (222 : Nat) ({ cls := "CakesToTheWatched", name := "findPairs", desc := "()V" } : Jvm.MethodName)) ∈ lw_all := lw_g (lw_at lw_m3 70 rfl) rfl
theorem q589 : (Jvm.Cond.privateMethod ({ cls := "CakesToTheWatched", name := "findPairs", desc := "()V" } : Jvm.MethodName)) ∈ lw_tbl := lw_at lw_m3 71 rfl
theorem q590 : (Jvm.Cond.instanceMethod ({ cls := "CakesToTheWatched", name := "findPairs", desc := "()V" } : Jvm.MethodName)) ∈ lw_all := lw_g (lw_at lw_m3 72 rfl) rfl
theorem q591 : (Jvm.Cond.code ({ cls := "CakesToTheWatched", name := "findPairs", desc := "()V" } : Jvm.MethodName) prog_1_method_25_code (6 : Nat) (Option.none : Option Jvm.ClassFile.FieldType)) ∈ lw_all := lw_g (lw_at lw_m3 73 rfl) rfl
theorem q592 : (Jvm.Cond.methodLink "CakesToTheWatched" (210 : Nat) ({ cls := "java/lang/Integer", name := "numberOfTrailingZeros", desc := "(I)I" } : Jvm.MethodName)) ∈ lw_all := lw_g (lw_at lw_m3 74 rfl) rfl
theorem q596 : (Jvm.Cond.methodLink "CakesToTheWatched" (215 : Nat) ({ cls := "CakesToTheWatched", name := "has", desc := "(II)Z" } : Jvm.MethodName)) ∈ lw_all := lw_g (lw_at lw_m3 78 rfl) rfl
theorem q597 : (Jvm.Cond.static ({ cls := "CakesToTheWatched", name := "has", desc := "(II)Z" } : Jvm.MethodName)) ∈ lw_all := lw_g (lw_at lw_m3 79 rfl) rfl
theorem q598 : (Jvm.Cond.code ({ cls := "CakesToTheWatched", name := "has", desc := "(II)Z" } : Jvm.MethodName) prog_1_method_2_code (2 : Nat) (Option.some Jvm.ClassFile.FieldType.boolean)) ∈ lw_all := lw_g (lw_at lw_m3 80 rfl) rfl
theorem q599 : (Jvm.Cond.methodLink "CakesToTheWatched" (218 : Nat) ({ cls := "CakesToTheWatched", name := "pairValue", desc := "(IIII)I" } : Jvm.MethodName)) ∈ lw_all := lw_g (lw_at lw_m3 81 rfl) rfl
theorem q600 : (Jvm.Cond.privateMethod ({ cls := "CakesToTheWatched", name := "pairValue", desc := "(IIII)I" } : Jvm.MethodName)) ∈ lw_tbl := lw_at lw_m3 82 rfl
theorem q601 : (Jvm.Cond.instanceMethod ({ cls := "CakesToTheWatched", name := "pairValue", desc := "(IIII)I" } : Jvm.MethodName)) ∈ lw_all := lw_g (lw_at lw_m3 83 rfl) rfl
theorem q602 : (Jvm.Cond.code ({ cls := "CakesToTheWatched", name := "pairValue", desc := "(IIII)I" } : Jvm.MethodName) prog_1_method_24_code (5 : Nat) (Option.some Jvm.ClassFile.FieldType.int)) ∈ lw_all := lw_g (lw_at lw_m3 84 rfl) rfl
theorem q603 : (Jvm.Cond.methodLink "CakesToTheWatched" (206 : Nat) ({ cls := "CakesToTheWatched", name := "without", desc := "(III)I" } : Jvm.MethodName)) ∈ lw_all := lw_g (lw_at lw_m3 85 rfl) rfl
theorem q604 : (Jvm.Cond.static ({ cls := "CakesToTheWatched", name := "without", desc := "(III)I" } : Jvm.MethodName)) ∈ lw_all := lw_g (lw_at lw_m3 86 rfl) rfl
theorem q605 : (Jvm.Cond.code ({ cls := "CakesToTheWatched", name := "without", desc := "(III)I" } : Jvm.MethodName) prog_1_method_23_code (3 : Nat) (Option.some Jvm.ClassFile.FieldType.int)) ∈ lw_all := lw_g (lw_at lw_m3 87 rfl) rfl
theorem q606 : (Jvm.Cond.methodLink "CakesToTheWatched" (225 : Nat) ({ cls := "java/lang/Math", name := "min", desc := "(II)I" } : Jvm.MethodName)) ∈ lw_all := lw_g (lw_at lw_m3 88 rfl) rfl
theorem q607 : (Jvm.Cond.methodLink "CakesToTheWatched" (231 : Nat) ({ cls := "java/util/Arrays", name := "fill", desc := "([II)V" } : Jvm.MethodName)) ∈ lw_all := lw_g (lw_at lw_m3 89 rfl) rfl
theorem q610 : (Jvm.Cond.methodLink "CakesToTheWatched" (237 : Nat) ({ cls := "CakesToTheWatched", name := "partner", desc := "(IIIZ)I" } : Jvm.MethodName)) ∈ lw_all := lw_g (lw_at lw_m3 92 rfl) rfl
theorem q611 : (Jvm.Cond.privateMethod ({ cls := "CakesToTheWatched", name := "partner", desc := "(IIIZ)I" } : Jvm.MethodName)) ∈ lw_tbl := lw_at lw_m3 93 rfl
theorem q612 : (Jvm.Cond.instanceMethod ({ cls := "CakesToTheWatched", name := "partner", desc := "(IIIZ)I" } : Jvm.MethodName)) ∈ lw_all := lw_g (lw_at lw_m3 94 rfl) rfl
theorem q613 : (Jvm.Cond.code ({ cls := "CakesToTheWatched", name := "partner", desc := "(IIIZ)I" } : Jvm.MethodName) prog_1_method_26_code (7 : Nat) (Option.some Jvm.ClassFile.FieldType.int)) ∈ lw_all := lw_g (lw_at lw_m3 95 rfl) rfl
theorem q615 : (Jvm.Cond.instanceMethod ({ cls := "CakesToTheWatched", name := "greedily", desc := "(II)I" } : Jvm.MethodName)) ∈ lw_all := lw_g (lw_at lw_m3 97 rfl) rfl
theorem q616 : (Jvm.Cond.selects "CakesToTheWatched" ({ cls := "CakesToTheWatched", name := "greedily", desc := "(II)I" } : Jvm.MethodName) ({ cls := "CakesToTheWatched", name := "greedily", desc := "(II)I" } : Jvm.MethodName)) ∈ lw_all := lw_g (lw_at lw_m3 98 rfl) rfl
theorem q617 : (Jvm.Cond.code ({ cls := "CakesToTheWatched", name := "greedily", desc := "(II)I" } : Jvm.MethodName) prog_1_method_28_code (6 : Nat) (Option.some Jvm.ClassFile.FieldType.int)) ∈ lw_all := lw_g (lw_at lw_m3 99 rfl) rfl
theorem q619 : (Jvm.Cond.instanceMethod ({ cls := "CakesToTheWatched", name := "atAll", desc := "(I)I" } : Jvm.MethodName)) ∈ lw_all := lw_g (lw_at lw_m3 101 rfl) rfl
theorem q620 : (Jvm.Cond.selects "CakesToTheWatched" ({ cls := "CakesToTheWatched", name := "atAll", desc := "(I)I" } : Jvm.MethodName) ({ cls := "CakesToTheWatched", name := "atAll", desc := "(I)I" } : Jvm.MethodName)) ∈ lw_all := lw_g (lw_at lw_m3 102 rfl) rfl
theorem q621 : (Jvm.Cond.code ({ cls := "CakesToTheWatched", name := "atAll", desc := "(I)I" } : Jvm.MethodName) prog_1_method_30_code (5 : Nat) (Option.some Jvm.ClassFile.FieldType.int)) ∈ lw_all := lw_g (lw_at lw_m3 103 rfl) rfl
theorem q622 : (Jvm.Cond.methodLink "CakesToTheWatched" (244 : Nat) ({ cls := "CakesToTheWatched", name := "left", desc := "()I" } : Jvm.MethodName)) ∈ lw_all := lw_g (lw_at lw_m3 104 rfl) rfl
theorem q623 : (Jvm.Cond.privateMethod ({ cls := "CakesToTheWatched", name := "left", desc := "()I" } : Jvm.MethodName)) ∈ lw_tbl := lw_at lw_m3 105 rfl
theorem q624 : (Jvm.Cond.instanceMethod ({ cls := "CakesToTheWatched", name := "left", desc := "()I" } : Jvm.MethodName)) ∈ lw_all := lw_g (lw_at lw_m3 106 rfl) rfl
theorem q625 : (Jvm.Cond.code ({ cls := "CakesToTheWatched", name := "left", desc := "()I" } : Jvm.MethodName) prog_1_method_29_code (3 : Nat) (Option.some Jvm.ClassFile.FieldType.int)) ∈ lw_all := lw_g (lw_at lw_m3 107 rfl) rfl
theorem q626 : (Jvm.Cond.methodLink "CakesToTheWatched" (241 : Nat) ({ cls := "CakesToTheWatched$Fete", name := "canLook", desc := "(I)Z" } : Jvm.MethodName)) ∈ lw_all := lw_g (lw_at lw_m3 108 rfl) rfl
theorem q628 : (Jvm.Cond.instanceMethod ({ cls := "CakesToTheWatched", name := "stuck", desc := "()I" } : Jvm.MethodName)) ∈ lw_all := lw_g (lw_at lw_m3 110 rfl) rfl
theorem q629 : (Jvm.Cond.selects "CakesToTheWatched" ({ cls := "CakesToTheWatched", name := "stuck", desc := "()I" } : Jvm.MethodName) ({ cls := "CakesToTheWatched", name := "stuck", desc := "()I" } : Jvm.MethodName)) ∈ lw_all := lw_g (lw_at lw_m3 111 rfl) rfl
theorem q630 : (Jvm.Cond.code ({ cls := "CakesToTheWatched", name := "stuck", desc := "()I" } : Jvm.MethodName) prog_1_method_31_code (3 : Nat) (Option.some Jvm.ClassFile.FieldType.int)) ∈ lw_all := lw_g (lw_at lw_m3 112 rfl) rfl
theorem q632 : (Jvm.Cond.instanceMethod ({ cls := "CakesToTheWatched", name := "bring", desc := "(I)I" } : Jvm.MethodName)) ∈ lw_all := lw_g (lw_at lw_m3 114 rfl) rfl
theorem q633 : (Jvm.Cond.selects "CakesToTheWatched" ({ cls := "CakesToTheWatched", name := "bring", desc := "(I)I" } : Jvm.MethodName) ({ cls := "CakesToTheWatched", name := "bring", desc := "(I)I" } : Jvm.MethodName)) ∈ lw_all := lw_g (lw_at lw_m3 115 rfl) rfl
theorem q634 : (Jvm.Cond.code ({ cls := "CakesToTheWatched", name := "bring", desc := "(I)I" } : Jvm.MethodName) prog_1_method_32_code (6 : Nat) (Option.some Jvm.ClassFile.FieldType.int)) ∈ lw_all := lw_g (lw_at lw_m3 116 rfl) rfl
theorem q635 : (Jvm.Cond.methodLink "CakesToTheWatched" (247 : Nat) ({ cls := "CakesToTheWatched", name := "isNine", desc := "(I)Z" } : Jvm.MethodName)) ∈ lw_all := lw_g (lw_at lw_m3 117 rfl) rfl
theorem q636 : (Jvm.Cond.static ({ cls := "CakesToTheWatched", name := "isNine", desc := "(I)Z" } : Jvm.MethodName)) ∈ lw_all := lw_g (lw_at lw_m3 118 rfl) rfl
theorem q637 : (Jvm.Cond.code ({ cls := "CakesToTheWatched", name := "isNine", desc := "(I)Z" } : Jvm.MethodName) prog_1_method_5_code (1 : Nat) (Option.some Jvm.ClassFile.FieldType.boolean)) ∈ lw_all := lw_g (lw_at lw_m3 119 rfl) rfl
theorem q639 : (Jvm.Cond.instanceMethod ({ cls := "CakesToTheWatched", name := "feeds", desc := "(I)I" } : Jvm.MethodName)) ∈ lw_all := lw_g (lw_at lw_m3 121 rfl) rfl
theorem q640 : (Jvm.Cond.selects "CakesToTheWatched" ({ cls := "CakesToTheWatched", name := "feeds", desc := "(I)I" } : Jvm.MethodName) ({ cls := "CakesToTheWatched", name := "feeds", desc := "(I)I" } : Jvm.MethodName)) ∈ lw_all := lw_g (lw_at lw_m3 122 rfl) rfl
theorem q641 : (Jvm.Cond.code ({ cls := "CakesToTheWatched", name := "feeds", desc := "(I)I" } : Jvm.MethodName) prog_1_method_33_code (3 : Nat) (Option.some Jvm.ClassFile.FieldType.int)) ∈ lw_all := lw_g (lw_at lw_m3 123 rfl) rfl
theorem q643 : (Jvm.Cond.instanceMethod ({ cls := "CakesToTheWatched", name := "prices", desc := "(II)I" } : Jvm.MethodName)) ∈ lw_all := lw_g (lw_at lw_m3 125 rfl) rfl
theorem q644 : (Jvm.Cond.selects "CakesToTheWatched" ({ cls := "CakesToTheWatched", name := "prices", desc := "(II)I" } : Jvm.MethodName) ({ cls := "CakesToTheWatched", name := "prices", desc := "(II)I" } : Jvm.MethodName)) ∈ lw_all := lw_g (lw_at lw_m3 126 rfl) rfl
theorem q645 : (Jvm.Cond.code ({ cls := "CakesToTheWatched", name := "prices", desc := "(II)I" } : Jvm.MethodName) prog_1_method_36_code (3 : Nat) (Option.some Jvm.ClassFile.FieldType.int)) ∈ lw_all := lw_g (lw_at lw_m3 127 rfl) rfl
theorem q646 : (Jvm.Cond.methodLink "CakesToTheWatched" (253 : Nat) ({ cls := "CakesToTheWatched", name := "buy", desc := "(I)I" } : Jvm.MethodName)) ∈ lw_all := lw_g (lw_at lw_m3 128 rfl) rfl
theorem q647 : (Jvm.Cond.privateMethod ({ cls := "CakesToTheWatched", name := "buy", desc := "(I)I" } : Jvm.MethodName)) ∈ lw_tbl := lw_at lw_m3 129 rfl
theorem q648 : (Jvm.Cond.instanceMethod ({ cls := "CakesToTheWatched", name := "buy", desc := "(I)I" } : Jvm.MethodName)) ∈ lw_all := lw_g (lw_at lw_m3 130 rfl) rfl
theorem q649 : (Jvm.Cond.code ({ cls := "CakesToTheWatched", name := "buy", desc := "(I)I" } : Jvm.MethodName) prog_1_method_34_code (4 : Nat) (Option.some Jvm.ClassFile.FieldType.int)) ∈ lw_all := lw_g (lw_at lw_m3 131 rfl) rfl
theorem q650 : (Jvm.Cond.methodLink "CakesToTheWatched" (250 : Nat) ({ cls := "CakesToTheWatched$Fete", name := "stills", desc := "(I)I" } : Jvm.MethodName)) ∈ lw_all := lw_g (lw_at lw_m3 132 rfl) rfl
theorem q651 : (Jvm.Cond.methodLink "CakesToTheWatched" (256 : Nat) ({ cls := "CakesToTheWatched", name := "sell", desc := "(I)I" } : Jvm.MethodName)) ∈ lw_all := lw_g (lw_at lw_m3 133 rfl) rfl
theorem q652 : (Jvm.Cond.privateMethod ({ cls := "CakesToTheWatched", name := "sell", desc := "(I)I" } : Jvm.MethodName)) ∈ lw_tbl := lw_at lw_m3 134 rfl
theorem q653 : (Jvm.Cond.instanceMethod ({ cls := "CakesToTheWatched", name := "sell", desc := "(I)I" } : Jvm.MethodName)) ∈ lw_all := lw_g (lw_at lw_m3 135 rfl) rfl
theorem q654 : (Jvm.Cond.code ({ cls := "CakesToTheWatched", name := "sell", desc := "(I)I" } : Jvm.MethodName) prog_1_method_35_code (4 : Nat) (Option.some Jvm.ClassFile.FieldType.int)) ∈ lw_all := lw_g (lw_at lw_m3 136 rfl) rfl
theorem q656 : (Jvm.Cond.instanceMethod ({ cls := "CakesToTheWatched", name := "clears", desc := "(I)I" } : Jvm.MethodName)) ∈ lw_all := lw_g (lw_at lw_m3 138 rfl) rfl
theorem q657 : (Jvm.Cond.selects "CakesToTheWatched" ({ cls := "CakesToTheWatched", name := "clears", desc := "(I)I" } : Jvm.MethodName) ({ cls := "CakesToTheWatched", name := "clears", desc := "(I)I" } : Jvm.MethodName)) ∈ lw_all := lw_g (lw_at lw_m3 139 rfl) rfl
theorem q658 : (Jvm.Cond.code ({ cls := "CakesToTheWatched", name := "clears", desc := "(I)I" } : Jvm.MethodName) prog_1_method_37_code (3 : Nat) (Option.some Jvm.ClassFile.FieldType.int)) ∈ lw_all := lw_g (lw_at lw_m3 140 rfl) rfl
theorem q660 : (Jvm.Cond.instanceMethod ({ cls := "CakesToTheWatched", name := "swap", desc := "(I)I" } : Jvm.MethodName)) ∈ lw_all := lw_g (lw_at lw_m3 142 rfl) rfl
theorem q661 : (Jvm.Cond.selects "CakesToTheWatched" ({ cls := "CakesToTheWatched", name := "swap", desc := "(I)I" } : Jvm.MethodName) ({ cls := "CakesToTheWatched", name := "swap", desc := "(I)I" } : Jvm.MethodName)) ∈ lw_all := lw_g (lw_at lw_m3 143 rfl) rfl
theorem q662 : (Jvm.Cond.code ({ cls := "CakesToTheWatched", name := "swap", desc := "(I)I" } : Jvm.MethodName) prog_1_method_45_code (9 : Nat) (Option.some Jvm.ClassFile.FieldType.int)) ∈ lw_all := lw_g (lw_at lw_m3 144 rfl) rfl
theorem q663 : (Jvm.Cond.methodLink "CakesToTheWatched" (281 : Nat) ({ cls := "CakesToTheWatched", name := "notPairs", desc := "(I)I" } : Jvm.MethodName)) ∈ lw_all := lw_g (lw_at lw_m3 145 rfl) rfl
theorem q664 : (Jvm.Cond.privateMethod ({ cls := "CakesToTheWatched", name := "notPairs", desc := "(I)I" } : Jvm.MethodName)) ∈ lw_tbl := lw_at lw_m3 146 rfl
theorem q665 : (Jvm.Cond.instanceMethod ({ cls := "CakesToTheWatched", name := "notPairs", desc := "(I)I" } : Jvm.MethodName)) ∈ lw_all := lw_g (lw_at lw_m3 147 rfl) rfl
theorem q666 : (Jvm.Cond.code ({ cls := "CakesToTheWatched", name := "notPairs", desc := "(I)I" } : Jvm.MethodName) prog_1_method_43_code (6 : Nat) (Option.some Jvm.ClassFile.FieldType.int)) ∈ lw_all := lw_g (lw_at lw_m3 148 rfl) rfl
theorem q667 : (Jvm.Cond.methodLink "CakesToTheWatched" (271 : Nat) ({ cls := "CakesToTheWatched", name := "notRow", desc := "(I)I" } : Jvm.MethodName)) ∈ lw_all := lw_g (lw_at lw_m3 149 rfl) rfl
theorem q668 : (Jvm.Cond.privateMethod ({ cls := "CakesToTheWatched", name := "notRow", desc := "(I)I" } : Jvm.MethodName)) ∈ lw_tbl := lw_at lw_m3 150 rfl
theorem q669 : (Jvm.Cond.instanceMethod ({ cls := "CakesToTheWatched", name := "notRow", desc := "(I)I" } : Jvm.MethodName)) ∈ lw_all := lw_g (lw_at lw_m3 151 rfl) rfl
theorem q670 : (Jvm.Cond.code ({ cls := "CakesToTheWatched", name := "notRow", desc := "(I)I" } : Jvm.MethodName) prog_1_method_42_code (3 : Nat) (Option.some Jvm.ClassFile.FieldType.int)) ∈ lw_all := lw_g (lw_at lw_m3 152 rfl) rfl
theorem q671 : (Jvm.Cond.methodLink "CakesToTheWatched" (267 : Nat) ({ cls := "CakesToTheWatched", name := "sortOf", desc := "(Ljava/lang/Object;)I" } : Jvm.MethodName)) ∈ lw_all := lw_g (lw_at lw_m3 153 rfl) rfl
theorem q672 : (Jvm.Cond.static ({ cls := "CakesToTheWatched", name := "sortOf", desc := "(Ljava/lang/Object;)I" } : Jvm.MethodName)) ∈ lw_all := lw_g (lw_at lw_m3 154 rfl) rfl
theorem q673 : (Jvm.Cond.code ({ cls := "CakesToTheWatched", name := "sortOf", desc := "(Ljava/lang/Object;)I" } : Jvm.MethodName) prog_1_method_41_code (1 : Nat) (Option.some Jvm.ClassFile.FieldType.int)) ∈ lw_all := lw_g (lw_at lw_m3 155 rfl) rfl
theorem q674 : (Jvm.Cond.classLink "CakesToTheWatched" (259 : Nat) "[S") ∈ lw_all := lw_g (lw_at lw_m3 156 rfl) rfl
theorem q675 : (Jvm.Cond.classLink "CakesToTheWatched" (261 : Nat) "[I") ∈ lw_all := lw_g (lw_at lw_m3 157 rfl) rfl
theorem q676 : (Jvm.Cond.methodLink "CakesToTheWatched" (274 : Nat) ({ cls := "CakesToTheWatched", name := "sizeOf", desc := "(Ljava/lang/Object;)I" } : Jvm.MethodName)) ∈ lw_all := lw_g (lw_at lw_m3 158 rfl) rfl
theorem q677 : (Jvm.Cond.static ({ cls := "CakesToTheWatched", name := "sizeOf", desc := "(Ljava/lang/Object;)I" } : Jvm.MethodName)) ∈ lw_all := lw_g (lw_at lw_m3 159 rfl) rfl
theorem q678 : (Jvm.Cond.code ({ cls := "CakesToTheWatched", name := "sizeOf", desc := "(Ljava/lang/Object;)I" } : Jvm.MethodName) prog_1_method_38_code (1 : Nat) (Option.some Jvm.ClassFile.FieldType.int)) ∈ lw_all := lw_g (lw_at lw_m3 160 rfl) rfl
theorem q679 : (Jvm.Cond.methodLink "CakesToTheWatched" (277 : Nat) ({ cls := "CakesToTheWatched", name := "elementOf", desc := "(Ljava/lang/Object;I)I" } : Jvm.MethodName)) ∈ lw_all := lw_g (lw_at lw_m3 161 rfl) rfl
theorem q680 : (Jvm.Cond.static ({ cls := "CakesToTheWatched", name := "elementOf", desc := "(Ljava/lang/Object;I)I" } : Jvm.MethodName)) ∈ lw_all := lw_g (lw_at lw_m3 162 rfl) rfl
theorem q681 : (Jvm.Cond.code ({ cls := "CakesToTheWatched", name := "elementOf", desc := "(Ljava/lang/Object;I)I" } : Jvm.MethodName) prog_1_method_39_code (2 : Nat) (Option.some Jvm.ClassFile.FieldType.int)) ∈ lw_all := lw_g (lw_at lw_m3 163 rfl) rfl
theorem q682 : (Jvm.Cond.methodLink "CakesToTheWatched" (284 : Nat) ({ cls := "CakesToTheWatched", name := "joysIn", desc := "(Ljava/lang/Object;II)I" } : Jvm.MethodName)) ∈ lw_all := lw_g (lw_at lw_m3 164 rfl) rfl
theorem q683 : (Jvm.Cond.privateMethod ({ cls := "CakesToTheWatched", name := "joysIn", desc := "(Ljava/lang/Object;II)I" } : Jvm.MethodName)) ∈ lw_tbl := lw_at lw_m3 165 rfl
theorem q684 : (Jvm.Cond.instanceMethod ({ cls := "CakesToTheWatched", name := "joysIn", desc := "(Ljava/lang/Object;II)I" } : Jvm.MethodName)) ∈ lw_all := lw_g (lw_at lw_m3 166 rfl) rfl
theorem q685 : (Jvm.Cond.code ({ cls := "CakesToTheWatched", name := "joysIn", desc := "(Ljava/lang/Object;II)I" } : Jvm.MethodName) prog_1_method_44_code (4 : Nat) (Option.some Jvm.ClassFile.FieldType.int)) ∈ lw_all := lw_g (lw_at lw_m3 167 rfl) rfl
theorem q687 : (Jvm.Cond.instanceMethod ({ cls := "CakesToTheWatched", name := "throat", desc := "(IIII)I" } : Jvm.MethodName)) ∈ lw_all := lw_g (lw_at lw_m3 169 rfl) rfl
theorem q688 : (Jvm.Cond.selects "CakesToTheWatched" ({ cls := "CakesToTheWatched", name := "throat", desc := "(IIII)I" } : Jvm.MethodName) ({ cls := "CakesToTheWatched", name := "throat", desc := "(IIII)I" } : Jvm.MethodName)) ∈ lw_all := lw_g (lw_at lw_m3 170 rfl) rfl
theorem q689 : (Jvm.Cond.code ({ cls := "CakesToTheWatched", name := "throat", desc := "(IIII)I" } : Jvm.MethodName) prog_1_method_47_code (8 : Nat) (Option.some Jvm.ClassFile.FieldType.int)) ∈ lw_all := lw_g (lw_at lw_m3 171 rfl) rfl
theorem q690 : (Jvm.Cond.methodLink "CakesToTheWatched" (288 : Nat) ({ cls := "CakesToTheWatched", name := "isThroat", desc := "(Ljava/lang/Object;II)Z" } : Jvm.MethodName)) ∈ lw_all := lw_g (lw_at lw_m3 172 rfl) rfl
theorem q691 : (Jvm.Cond.static ({ cls := "CakesToTheWatched", name := "isThroat", desc := "(Ljava/lang/Object;II)Z" } : Jvm.MethodName)) ∈ lw_all := lw_g (lw_at lw_m3 173 rfl) rfl
theorem q692 : (Jvm.Cond.code ({ cls := "CakesToTheWatched", name := "isThroat", desc := "(Ljava/lang/Object;II)Z" } : Jvm.MethodName) prog_1_method_46_code (6 : Nat) (Option.some Jvm.ClassFile.FieldType.boolean)) ∈ lw_all := lw_g (lw_at lw_m3 174 rfl) rfl
theorem q693 : (Jvm.Cond.methodLink "CakesToTheWatched" (292 : Nat) ({ cls := "java/lang/Integer", name := "bitCount", desc := "(I)I" } : Jvm.MethodName)) ∈ lw_all := lw_g (lw_at lw_m3 175 rfl) rfl
theorem q700 : (Jvm.Cond.instanceMethod ({ cls := "CakesToTheWatched", name := "lastOnes", desc := "(III)I" } : Jvm.MethodName)) ∈ lw_all := lw_g (lw_at lw_m3 182 rfl) rfl
theorem q701 : (Jvm.Cond.selects "CakesToTheWatched" ({ cls := "CakesToTheWatched", name := "lastOnes", desc := "(III)I" } : Jvm.MethodName) ({ cls := "CakesToTheWatched", name := "lastOnes", desc := "(III)I" } : Jvm.MethodName)) ∈ lw_all := lw_g (lw_at lw_m3 183 rfl) rfl
theorem q702 : (Jvm.Cond.code ({ cls := "CakesToTheWatched", name := "lastOnes", desc := "(III)I" } : Jvm.MethodName) prog_1_method_48_code (5 : Nat) (Option.some Jvm.ClassFile.FieldType.int)) ∈ lw_all := lw_g (lw_at lw_m3 184 rfl) rfl
theorem q704 : (Jvm.Cond.instanceMethod ({ cls := "CakesToTheWatched", name := "shares", desc := "(I)I" } : Jvm.MethodName)) ∈ lw_all := lw_g (lw_at lw_m3 186 rfl) rfl
theorem q705 : (Jvm.Cond.selects "CakesToTheWatched" ({ cls := "CakesToTheWatched", name := "shares", desc := "(I)I" } : Jvm.MethodName) ({ cls := "CakesToTheWatched", name := "shares", desc := "(I)I" } : Jvm.MethodName)) ∈ lw_all := lw_g (lw_at lw_m3 187 rfl) rfl
theorem q706 : (Jvm.Cond.code ({ cls := "CakesToTheWatched", name := "shares", desc := "(I)I" } : Jvm.MethodName) prog_1_method_51_code (4 : Nat) (Option.some Jvm.ClassFile.FieldType.int)) ∈ lw_all := lw_g (lw_at lw_m3 188 rfl) rfl
theorem q707 : (Jvm.Cond.methodLink "CakesToTheWatched" (298 : Nat) ({ cls := "CakesToTheWatched", name := "shareOf", desc := "(I)I" } : Jvm.MethodName)) ∈ lw_all := lw_g (lw_at lw_m3 189 rfl) rfl
theorem q708 : (Jvm.Cond.privateMethod ({ cls := "CakesToTheWatched", name := "shareOf", desc := "(I)I" } : Jvm.MethodName)) ∈ lw_tbl := lw_at lw_m3 190 rfl
theorem q709 : (Jvm.Cond.instanceMethod ({ cls := "CakesToTheWatched", name := "shareOf", desc := "(I)I" } : Jvm.MethodName)) ∈ lw_all := lw_g (lw_at lw_m3 191 rfl) rfl
theorem q710 : (Jvm.Cond.code ({ cls := "CakesToTheWatched", name := "shareOf", desc := "(I)I" } : Jvm.MethodName) prog_1_method_50_code (2 : Nat) (Option.some Jvm.ClassFile.FieldType.int)) ∈ lw_all := lw_g (lw_at lw_m3 192 rfl) rfl
theorem q711 : (Jvm.Cond.methodLink "CakesToTheWatched" (295 : Nat) ({ cls := "CakesToTheWatched", name := "allHunger", desc := "()I" } : Jvm.MethodName)) ∈ lw_all := lw_g (lw_at lw_m3 193 rfl) rfl
theorem q712 : (Jvm.Cond.privateMethod ({ cls := "CakesToTheWatched", name := "allHunger", desc := "()I" } : Jvm.MethodName)) ∈ lw_tbl := lw_at lw_m3 194 rfl
theorem q713 : (Jvm.Cond.instanceMethod ({ cls := "CakesToTheWatched", name := "allHunger", desc := "()I" } : Jvm.MethodName)) ∈ lw_all := lw_g (lw_at lw_m3 195 rfl) rfl
theorem q714 : (Jvm.Cond.code ({ cls := "CakesToTheWatched", name := "allHunger", desc := "()I" } : Jvm.MethodName) prog_1_method_49_code (3 : Nat) (Option.some Jvm.ClassFile.FieldType.int)) ∈ lw_all := lw_g (lw_at lw_m3 196 rfl) rfl
theorem q716 : (Jvm.Cond.instanceMethod ({ cls := "CakesToTheWatched", name := "crowd", desc := "(IIII)J" } : Jvm.MethodName)) ∈ lw_all := lw_g (lw_at lw_m3 198 rfl) rfl
theorem q717 : (Jvm.Cond.selects "CakesToTheWatched" ({ cls := "CakesToTheWatched", name := "crowd", desc := "(IIII)J" } : Jvm.MethodName) ({ cls := "CakesToTheWatched", name := "crowd", desc := "(IIII)J" } : Jvm.MethodName)) ∈ lw_all := lw_g (lw_at lw_m3 199 rfl) rfl
theorem q718 : (Jvm.Cond.code ({ cls := "CakesToTheWatched", name := "crowd", desc := "(IIII)J" } : Jvm.MethodName) prog_1_method_56_code (8 : Nat) (Option.some Jvm.ClassFile.FieldType.long)) ∈ lw_all := lw_g (lw_at lw_m3 200 rfl) rfl
theorem q719 : (Jvm.Cond.constantLong "CakesToTheWatched" (305 : Nat) (1000000001 : Int64)) ∈ lw_all := lw_g (lw_at lw_m3 201 rfl) rfl
theorem q720 : (Jvm.Cond.methodLink "CakesToTheWatched" (307 : Nat) ({ cls := "CakesToTheWatched", name := "ways", desc := "(II)J" } : Jvm.MethodName)) ∈ lw_all := lw_g (lw_at lw_m3 202 rfl) rfl
theorem q721 : (Jvm.Cond.static ({ cls := "CakesToTheWatched", name := "ways", desc := "(II)J" } : Jvm.MethodName)) ∈ lw_all := lw_g (lw_at lw_m3 203 rfl) rfl
theorem q722 : (Jvm.Cond.code ({ cls := "CakesToTheWatched", name := "ways", desc := "(II)J" } : Jvm.MethodName) prog_1_method_55_code (5 : Nat) (Option.some Jvm.ClassFile.FieldType.long)) ∈ lw_all := lw_g (lw_at lw_m3 204 rfl) rfl
theorem q723 : (Jvm.Cond.methodLink "CakesToTheWatched" (311 : Nat) ({ cls := "CakesToTheWatched", name := "power", desc := "(II)J" } : Jvm.MethodName)) ∈ lw_all := lw_g (lw_at lw_m3 205 rfl) rfl
theorem q724 : (Jvm.Cond.static ({ cls := "CakesToTheWatched", name := "power", desc := "(II)J" } : Jvm.MethodName)) ∈ lw_all := lw_g (lw_at lw_m3 206 rfl) rfl
theorem q725 : (Jvm.Cond.code ({ cls := "CakesToTheWatched", name := "power", desc := "(II)J" } : Jvm.MethodName) prog_1_method_54_code (5 : Nat) (Option.some Jvm.ClassFile.FieldType.long)) ∈ lw_all := lw_g (lw_at lw_m3 207 rfl) rfl
theorem q726 : (Jvm.Cond.methodLink "CakesToTheWatched" (314 : Nat) ({ cls := "CakesToTheWatched", name := "partOf", desc := "(JJI)J" } : Jvm.MethodName)) ∈ lw_all := lw_g (lw_at lw_m3 208 rfl) rfl
theorem q727 : (Jvm.Cond.static ({ cls := "CakesToTheWatched", name := "partOf", desc := "(JJI)J" } : Jvm.MethodName)) ∈ lw_all := lw_g (lw_at lw_m3 209 rfl) rfl
theorem q728 : (Jvm.Cond.code ({ cls := "CakesToTheWatched", name := "partOf", desc := "(JJI)J" } : Jvm.MethodName) prog_1_method_53_code (5 : Nat) (Option.some Jvm.ClassFile.FieldType.long)) ∈ lw_all := lw_g (lw_at lw_m3 210 rfl) rfl
theorem q729 : (Jvm.Cond.methodLink "CakesToTheWatched" (301 : Nat) ({ cls := "CakesToTheWatched", name := "divisor", desc := "(JJ)J" } : Jvm.MethodName)) ∈ lw_all := lw_g (lw_at lw_m3 211 rfl) rfl
theorem q730 : (Jvm.Cond.static ({ cls := "CakesToTheWatched", name := "divisor", desc := "(JJ)J" } : Jvm.MethodName)) ∈ lw_all := lw_g (lw_at lw_m3 212 rfl) rfl
theorem q731 : (Jvm.Cond.code ({ cls := "CakesToTheWatched", name := "divisor", desc := "(JJ)J" } : Jvm.MethodName) prog_1_method_52_code (4 : Nat) (Option.some Jvm.ClassFile.FieldType.long)) ∈ lw_all := lw_g (lw_at lw_m3 213 rfl) rfl
theorem q733 : (Jvm.Cond.instanceMethod ({ cls := "CakesToTheWatched", name := "mean", desc := "(I)J" } : Jvm.MethodName)) ∈ lw_all := lw_g (lw_at lw_m3 215 rfl) rfl
theorem q734 : (Jvm.Cond.selects "CakesToTheWatched" ({ cls := "CakesToTheWatched", name := "mean", desc := "(I)J" } : Jvm.MethodName) ({ cls := "CakesToTheWatched", name := "mean", desc := "(I)J" } : Jvm.MethodName)) ∈ lw_all := lw_g (lw_at lw_m3 216 rfl) rfl
theorem q735 : (Jvm.Cond.code ({ cls := "CakesToTheWatched", name := "mean", desc := "(I)J" } : Jvm.MethodName) prog_1_method_57_code (2 : Nat) (Option.some Jvm.ClassFile.FieldType.long)) ∈ lw_all := lw_g (lw_at lw_m3 217 rfl) rfl
theorem q737 : (Jvm.Cond.instanceMethod ({ cls := "CakesToTheWatched", name := "joyless", desc := "()I" } : Jvm.MethodName)) ∈ lw_all := lw_g (lw_at lw_m3 219 rfl) rfl
theorem q738 : (Jvm.Cond.selects "CakesToTheWatched" ({ cls := "CakesToTheWatched", name := "joyless", desc := "()I" } : Jvm.MethodName) ({ cls := "CakesToTheWatched", name := "joyless", desc := "()I" } : Jvm.MethodName)) ∈ lw_all := lw_g (lw_at lw_m3 220 rfl) rfl
theorem q739 : (Jvm.Cond.code ({ cls := "CakesToTheWatched", name := "joyless", desc := "()I" } : Jvm.MethodName) prog_1_method_58_code (4 : Nat) (Option.some Jvm.ClassFile.FieldType.int)) ∈ lw_all := lw_g (lw_at lw_m3 221 rfl) rfl
theorem q741 : (Jvm.Cond.instanceMethod ({ cls := "CakesToTheWatched", name := "seen", desc := "(I)I" } : Jvm.MethodName)) ∈ lw_all := lw_g (lw_at lw_m3 223 rfl) rfl
theorem q742 : (Jvm.Cond.selects "CakesToTheWatched" ({ cls := "CakesToTheWatched", name := "seen", desc := "(I)I" } : Jvm.MethodName) ({ cls := "CakesToTheWatched", name := "seen", desc := "(I)I" } : Jvm.MethodName)) ∈ lw_all := lw_g (lw_at lw_m3 224 rfl) rfl
theorem q743 : (Jvm.Cond.code ({ cls := "CakesToTheWatched", name := "seen", desc := "(I)I" } : Jvm.MethodName) prog_1_method_59_code (4 : Nat) (Option.some Jvm.ClassFile.FieldType.int)) ∈ lw_all := lw_g (lw_at lw_m3 225 rfl) rfl
theorem q745 : (Jvm.Cond.instanceMethod ({ cls := "CakesToTheWatched", name := "forged", desc := "(I)I" } : Jvm.MethodName)) ∈ lw_all := lw_g (lw_at lw_m3 227 rfl) rfl
theorem q746 : (Jvm.Cond.selects "CakesToTheWatched" ({ cls := "CakesToTheWatched", name := "forged", desc := "(I)I" } : Jvm.MethodName) ({ cls := "CakesToTheWatched", name := "forged", desc := "(I)I" } : Jvm.MethodName)) ∈ lw_all := lw_g (lw_at lw_m3 228 rfl) rfl
theorem q747 : (Jvm.Cond.code ({ cls := "CakesToTheWatched", name := "forged", desc := "(I)I" } : Jvm.MethodName) prog_1_method_60_code (7 : Nat) (Option.some Jvm.ClassFile.FieldType.int)) ∈ lw_all := lw_g (lw_at lw_m3 229 rfl) rfl
theorem q749 : (Jvm.Cond.instanceMethod ({ cls := "CakesToTheWatched", name := "judge", desc := "(I)I" } : Jvm.MethodName)) ∈ lw_all := lw_g (lw_at lw_m3 231 rfl) rfl
theorem q750 : (Jvm.Cond.selects "CakesToTheWatched" ({ cls := "CakesToTheWatched", name := "judge", desc := "(I)I" } : Jvm.MethodName) ({ cls := "CakesToTheWatched", name := "judge", desc := "(I)I" } : Jvm.MethodName)) ∈ lw_all := lw_g (lw_at lw_m3 232 rfl) rfl
theorem q751 : (Jvm.Cond.code ({ cls := "CakesToTheWatched", name := "judge", desc := "(I)I" } : Jvm.MethodName) prog_1_method_61_code (7 : Nat) (Option.some Jvm.ClassFile.FieldType.int)) ∈ lw_all := lw_g (lw_at lw_m3 233 rfl) rfl
theorem q752 : (Jvm.Cond.methodLink "CakesToTheWatched" (318 : Nat) ({ cls := "CakesToTheWatched", name := "leastElement", desc := "(Ljava/lang/Object;)I" } : Jvm.MethodName)) ∈ lw_all := lw_g (lw_at lw_m3 234 rfl) rfl
theorem q753 : (Jvm.Cond.static ({ cls := "CakesToTheWatched", name := "leastElement", desc := "(Ljava/lang/Object;)I" } : Jvm.MethodName)) ∈ lw_all := lw_g (lw_at lw_m3 235 rfl) rfl
theorem q754 : (Jvm.Cond.code ({ cls := "CakesToTheWatched", name := "leastElement", desc := "(Ljava/lang/Object;)I" } : Jvm.MethodName) prog_1_method_40_code (1 : Nat) (Option.some Jvm.ClassFile.FieldType.int)) ∈ lw_all := lw_g (lw_at lw_m3 236 rfl) rfl
theorem q755 : (Jvm.Cond.constant "CakesToTheWatched" (266 : Nat) (-2147483648 : Int32)) ∈ lw_all := lw_g (lw_at lw_m3 237 rfl) rfl
theorem q757 : (Jvm.Cond.instanceMethod ({ cls := "CakesToTheWatched", name := "fetes", desc := "(III)I" } : Jvm.MethodName)) ∈ lw_all := lw_g (lw_at lw_m3 239 rfl) rfl
theorem q758 : (Jvm.Cond.selects "CakesToTheWatched" ({ cls := "CakesToTheWatched", name := "fetes", desc := "(III)I" } : Jvm.MethodName) ({ cls := "CakesToTheWatched", name := "fetes", desc := "(III)I" } : Jvm.MethodName)) ∈ lw_all := lw_g (lw_at lw_m4 0 rfl) rfl
theorem q759 : (Jvm.Cond.code ({ cls := "CakesToTheWatched", name := "fetes", desc := "(III)I" } : Jvm.MethodName) prog_1_method_63_code (10 : Nat) (Option.some Jvm.ClassFile.FieldType.int)) ∈ lw_all := lw_g (lw_at lw_m4 1 rfl) rfl
theorem q760 : (Jvm.Cond.methodLink "CakesToTheWatched" (327 : Nat) ({ cls := "CakesToTheWatched", name := "draw", desc := "(I)I" } : Jvm.MethodName)) ∈ lw_all := lw_g (lw_at lw_m4 2 rfl) rfl
theorem q761 : (Jvm.Cond.privateMethod ({ cls := "CakesToTheWatched", name := "draw", desc := "(I)I" } : Jvm.MethodName)) ∈ lw_tbl := lw_at lw_m4 3 rfl
theorem q762 : (Jvm.Cond.instanceMethod ({ cls := "CakesToTheWatched", name := "draw", desc := "(I)I" } : Jvm.MethodName)) ∈ lw_all := lw_g (lw_at lw_m4 4 rfl) rfl
theorem q763 : (Jvm.Cond.code ({ cls := "CakesToTheWatched", name := "draw", desc := "(I)I" } : Jvm.MethodName) prog_1_method_62_code (2 : Nat) (Option.some Jvm.ClassFile.FieldType.int)) ∈ lw_all := lw_g (lw_at lw_m4 5 rfl) rfl
theorem q764 : (Jvm.Cond.constant "CakesToTheWatched" (324 : Nat) (1103515245 : Int32)) ∈ lw_all := lw_g (lw_at lw_m4 6 rfl) rfl
theorem q765 : (Jvm.Cond.constant "CakesToTheWatched" (325 : Nat) (2147483647 : Int32)) ∈ lw_all := lw_g (lw_at lw_m4 7 rfl) rfl
theorem q766 : (Jvm.Cond.constant "CakesToTheWatched" (326 : Nat) (65536 : Int32)) ∈ lw_all := lw_g (lw_at lw_m4 8 rfl) rfl
theorem q768 : (Jvm.Cond.instanceMethod ({ cls := "CakesToTheWatched", name := "image", desc := "()I" } : Jvm.MethodName)) ∈ lw_all := lw_g (lw_at lw_m4 10 rfl) rfl
theorem q769 : (Jvm.Cond.selects "CakesToTheWatched" ({ cls := "CakesToTheWatched", name := "image", desc := "()I" } : Jvm.MethodName) ({ cls := "CakesToTheWatched", name := "image", desc := "()I" } : Jvm.MethodName)) ∈ lw_all := lw_g (lw_at lw_m4 11 rfl) rfl
theorem q770 : (Jvm.Cond.code ({ cls := "CakesToTheWatched", name := "image", desc := "()I" } : Jvm.MethodName) prog_1_method_64_code (1 : Nat) (Option.some Jvm.ClassFile.FieldType.int)) ∈ lw_all := lw_g (lw_at lw_m4 12 rfl) rfl
theorem q772 : (Jvm.Cond.instanceMethod ({ cls := "CakesToTheWatched", name := "restore", desc := "()I" } : Jvm.MethodName)) ∈ lw_all := lw_g (lw_at lw_m4 14 rfl) rfl
theorem q773 : (Jvm.Cond.selects "CakesToTheWatched" ({ cls := "CakesToTheWatched", name := "restore", desc := "()I" } : Jvm.MethodName) ({ cls := "CakesToTheWatched", name := "restore", desc := "()I" } : Jvm.MethodName)) ∈ lw_all := lw_g (lw_at lw_m4 15 rfl) rfl
theorem q774 : (Jvm.Cond.code ({ cls := "CakesToTheWatched", name := "restore", desc := "()I" } : Jvm.MethodName) prog_1_method_65_code (1 : Nat) (Option.some Jvm.ClassFile.FieldType.int)) ∈ lw_all := lw_g (lw_at lw_m4 16 rfl) rfl
theorem q776 : (Jvm.Cond.instanceMethod ({ cls := "CakesToTheWatched", name := "count", desc := "(I)I" } : Jvm.MethodName)) ∈ lw_all := lw_g (lw_at lw_m4 18 rfl) rfl
theorem q777 : (Jvm.Cond.selects "CakesToTheWatched" ({ cls := "CakesToTheWatched", name := "count", desc := "(I)I" } : Jvm.MethodName) ({ cls := "CakesToTheWatched", name := "count", desc := "(I)I" } : Jvm.MethodName)) ∈ lw_all := lw_g (lw_at lw_m4 19 rfl) rfl
theorem q778 : (Jvm.Cond.code ({ cls := "CakesToTheWatched", name := "count", desc := "(I)I" } : Jvm.MethodName) prog_1_method_66_code (4 : Nat) (Option.some Jvm.ClassFile.FieldType.int)) ∈ lw_all := lw_g (lw_at lw_m4 20 rfl) rfl
theorem q781 : (Jvm.Cond.instanceMethod ({ cls := "CakesToTheWatched", name := "<init>", desc := "()V" } : Jvm.MethodName)) ∈ lw_all := lw_g (lw_at lw_m4 23 rfl) rfl
theorem q782 : (Jvm.Cond.code ({ cls := "CakesToTheWatched", name := "<init>", desc := "()V" } : Jvm.MethodName) prog_1_method_67_code (2 : Nat) (Option.none : Option Jvm.ClassFile.FieldType)) ∈ lw_all := lw_g (lw_at lw_m4 24 rfl) rfl
theorem q783 : (Jvm.Cond.methodLink "CakesToTheWatched" (337 : Nat) ({ cls := "java/lang/Object", name := "<init>", desc := "()V" } : Jvm.MethodName)) ∈ lw_all := lw_g (lw_at lw_m4 25 rfl) rfl
theorem q784 : (Jvm.Cond.classLink "CakesToTheWatched" (35 : Nat) "CakesToTheWatched$Fete") ∈ lw_all := lw_g (lw_at lw_m4 26 rfl) rfl
theorem q786 : (Jvm.Cond.methodLinkNest "CakesToTheWatched" (341 : Nat) ({ cls := "CakesToTheWatched$Fete", name := "<init>", desc := "()V" } : Jvm.MethodName) "CakesToTheWatched") ∈ lw_tbl := lw_at lw_m4 28 rfl
theorem q793 : (Jvm.Cond.fieldLink "CakesToTheWatched" (149 : Nat) "CakesToTheWatched$Fete" "who" "[LCakesToTheWatched$Guest;") ∈ lw_all := lw_g (lw_at lw_m4 35 rfl) rfl
theorem q795 : (Jvm.Cond.fieldLink "CakesToTheWatched" (43 : Nat) "CakesToTheWatched$Fete" "hunger" "[I") ∈ lw_all := lw_g (lw_at lw_m4 37 rfl) rfl
theorem q797 : (Jvm.Cond.fieldLink "CakesToTheWatched" (47 : Nat) "CakesToTheWatched$Fete" "wish" "[I") ∈ lw_all := lw_g (lw_at lw_m4 39 rfl) rfl
theorem q799 : (Jvm.Cond.fieldLink "CakesToTheWatched" (160 : Nat) "CakesToTheWatched$Fete" "eaten" "[I") ∈ lw_all := lw_g (lw_at lw_m4 41 rfl) rfl
theorem q801 : (Jvm.Cond.fieldLink "CakesToTheWatched" (163 : Nat) "CakesToTheWatched$Fete" "watched" "[I") ∈ lw_all := lw_g (lw_at lw_m4 43 rfl) rfl
theorem q803 : (Jvm.Cond.fieldLink "CakesToTheWatched" (70 : Nat) "CakesToTheWatched$Fete" "people" "I") ∈ lw_all := lw_g (lw_at lw_m4 45 rfl) rfl
theorem q805 : (Jvm.Cond.fieldLink "CakesToTheWatched" (81 : Nat) "CakesToTheWatched$Fete" "slices" "I") ∈ lw_all := lw_g (lw_at lw_m4 47 rfl) rfl
theorem q807 : (Jvm.Cond.fieldLink "CakesToTheWatched" (54 : Nat) "CakesToTheWatched$Fete" "step" "I") ∈ lw_all := lw_g (lw_at lw_m4 49 rfl) rfl
theorem q825 : (Jvm.Cond.classLink "CakesToTheWatched" (59 : Nat) "CakesToTheWatched$Told") ∈ lw_all := lw_g (lw_at lw_m4 67 rfl) rfl
theorem q827 : (Jvm.Cond.classLink "CakesToTheWatched" (133 : Nat) "CakesToTheWatched$Shelf") ∈ lw_all := lw_g (lw_at lw_m4 69 rfl) rfl
theorem q830 : (Jvm.Cond.methodLinkNest "CakesToTheWatched" (342 : Nat) ({ cls := "CakesToTheWatched$Shelf", name := "<init>", desc := "()V" } : Jvm.MethodName) "CakesToTheWatched") ∈ lw_tbl := lw_at lw_m4 72 rfl
theorem q834 : (Jvm.Cond.fieldLink "CakesToTheWatched" (132 : Nat) "CakesToTheWatched$Shelf" "held" "Ljava/lang/Object;") ∈ lw_all := lw_g (lw_at lw_m4 76 rfl) rfl
theorem q838 : (Jvm.Cond.fieldLink "CakesToTheWatched" (109 : Nat) "CakesToTheWatched" "now" "LCakesToTheWatched$Fete;") ∈ lw_all := lw_g (lw_at lw_m4 80 rfl) rfl
theorem q839 : (Jvm.Cond.fieldLink "CakesToTheWatched" (330 : Nat) "CakesToTheWatched" "kept" "LCakesToTheWatched$Fete;") ∈ lw_all := lw_g (lw_at lw_m4 81 rfl) rfl
theorem q840 : (Jvm.Cond.fieldLink "CakesToTheWatched" (66 : Nat) "CakesToTheWatched" "mind" "LCakesToTheWatched$Fete;") ∈ lw_all := lw_g (lw_at lw_m4 82 rfl) rfl
theorem q841 : (Jvm.Cond.fieldLink "CakesToTheWatched" (333 : Nat) "CakesToTheWatched" "hasImage" "Z") ∈ lw_all := lw_g (lw_at lw_m4 83 rfl) rfl
theorem q842 : (Jvm.Cond.fieldLink "CakesToTheWatched" (101 : Nat) "CakesToTheWatched" "told" "[LCakesToTheWatched$Told;") ∈ lw_all := lw_g (lw_at lw_m4 84 rfl) rfl
theorem q843 : (Jvm.Cond.fieldLink "CakesToTheWatched" (203 : Nat) "CakesToTheWatched" "value" "[I") ∈ lw_all := lw_g (lw_at lw_m4 85 rfl) rfl
theorem q844 : (Jvm.Cond.fieldLink "CakesToTheWatched" (228 : Nat) "CakesToTheWatched" "by" "[I") ∈ lw_all := lw_g (lw_at lw_m4 86 rfl) rfl
theorem q845 : (Jvm.Cond.fieldLink "CakesToTheWatched" (321 : Nat) "CakesToTheWatched" "lots" "I") ∈ lw_all := lw_g (lw_at lw_m4 87 rfl) rfl
theorem q846 : (Jvm.Cond.fieldLink "CakesToTheWatched" (128 : Nat) "CakesToTheWatched" "shelves" "[LCakesToTheWatched$Shelf;") ∈ lw_all := lw_g (lw_at lw_m4 88 rfl) rfl
theorem q847 : (Jvm.Cond.laysFinal "CakesToTheWatched" "CakesToTheWatched" "now" "LCakesToTheWatched$Fete;") ∈ lw_all := lw_g (lw_at lw_m4 89 rfl) rfl
theorem q848 : (Jvm.Cond.soleField "CakesToTheWatched" "now") ∈ lw_all := lw_g (lw_at lw_m4 90 rfl) rfl
theorem q849 : (Jvm.Cond.laysFinal "CakesToTheWatched" "CakesToTheWatched" "kept" "LCakesToTheWatched$Fete;") ∈ lw_all := lw_g (lw_at lw_m4 91 rfl) rfl
theorem q850 : (Jvm.Cond.soleField "CakesToTheWatched" "kept") ∈ lw_all := lw_g (lw_at lw_m4 92 rfl) rfl
theorem q851 : (Jvm.Cond.laysFinal "CakesToTheWatched" "CakesToTheWatched" "mind" "LCakesToTheWatched$Fete;") ∈ lw_all := lw_g (lw_at lw_m4 93 rfl) rfl
theorem q852 : (Jvm.Cond.soleField "CakesToTheWatched" "mind") ∈ lw_all := lw_g (lw_at lw_m4 94 rfl) rfl
theorem q853 : (Jvm.Cond.lays "CakesToTheWatched" "CakesToTheWatched" "hasImage" "Z") ∈ lw_all := lw_g (lw_at lw_m4 95 rfl) rfl
theorem q854 : (Jvm.Cond.soleField "CakesToTheWatched" "hasImage") ∈ lw_all := lw_g (lw_at lw_m4 96 rfl) rfl
theorem q855 : (Jvm.Cond.laysFinal "CakesToTheWatched" "CakesToTheWatched" "told" "[LCakesToTheWatched$Told;") ∈ lw_all := lw_g (lw_at lw_m4 97 rfl) rfl
theorem q856 : (Jvm.Cond.soleField "CakesToTheWatched" "told") ∈ lw_all := lw_g (lw_at lw_m4 98 rfl) rfl
theorem q857 : (Jvm.Cond.laysFinal "CakesToTheWatched" "CakesToTheWatched" "value" "[I") ∈ lw_all := lw_g (lw_at lw_m4 99 rfl) rfl
theorem q858 : (Jvm.Cond.soleField "CakesToTheWatched" "value") ∈ lw_all := lw_g (lw_at lw_m4 100 rfl) rfl
theorem q859 : (Jvm.Cond.laysFinal "CakesToTheWatched" "CakesToTheWatched" "by" "[I") ∈ lw_all := lw_g (lw_at lw_m4 101 rfl) rfl
theorem q860 : (Jvm.Cond.soleField "CakesToTheWatched" "by") ∈ lw_all := lw_g (lw_at lw_m4 102 rfl) rfl
theorem q861 : (Jvm.Cond.lays "CakesToTheWatched" "CakesToTheWatched" "lots" "I") ∈ lw_all := lw_g (lw_at lw_m4 103 rfl) rfl
theorem q862 : (Jvm.Cond.soleField "CakesToTheWatched" "lots") ∈ lw_all := lw_g (lw_at lw_m4 104 rfl) rfl
theorem q863 : (Jvm.Cond.laysFinal "CakesToTheWatched" "CakesToTheWatched" "shelves" "[LCakesToTheWatched$Shelf;") ∈ lw_all := lw_g (lw_at lw_m4 105 rfl) rfl
theorem q864 : (Jvm.Cond.soleField "CakesToTheWatched" "shelves") ∈ lw_all := lw_g (lw_at lw_m4 106 rfl) rfl
theorem q865 : (Jvm.Cond.superclass "CakesToTheWatched" "java/lang/Object") ∈ lw_all := lw_g (lw_at lw_m4 107 rfl) rfl
theorem q867 : (Jvm.Cond.instanceMethod ({ cls := "CakesToTheWatched", name := "keep", desc := "(IIII)I" } : Jvm.MethodName)) ∈ lw_all := lw_g (lw_at lw_m4 109 rfl) rfl
theorem q868 : (Jvm.Cond.selects "CakesToTheWatched" ({ cls := "CakesToTheWatched", name := "keep", desc := "(IIII)I" } : Jvm.MethodName) ({ cls := "CakesToTheWatched", name := "keep", desc := "(IIII)I" } : Jvm.MethodName)) ∈ lw_all := lw_g (lw_at lw_m4 110 rfl) rfl
theorem q869 : (Jvm.Cond.code ({ cls := "CakesToTheWatched", name := "keep", desc := "(IIII)I" } : Jvm.MethodName) prog_1_method_68_code (5 : Nat) (Option.some Jvm.ClassFile.FieldType.int)) ∈ lw_all := lw_g (lw_at lw_m4 111 rfl) rfl
theorem q871 : (Jvm.Cond.instanceMethod ({ cls := "CakesToTheWatched", name := "row", desc := "(III)I" } : Jvm.MethodName)) ∈ lw_all := lw_g (lw_at lw_m4 113 rfl) rfl
theorem q872 : (Jvm.Cond.selects "CakesToTheWatched" ({ cls := "CakesToTheWatched", name := "row", desc := "(III)I" } : Jvm.MethodName) ({ cls := "CakesToTheWatched", name := "row", desc := "(III)I" } : Jvm.MethodName)) ∈ lw_all := lw_g (lw_at lw_m4 114 rfl) rfl
theorem q873 : (Jvm.Cond.codeWith ({ cls := "CakesToTheWatched", name := "row", desc := "(III)I" } : Jvm.MethodName) prog_1_method_69_code (5 : Nat) (Option.some Jvm.ClassFile.FieldType.int) [((25 : Nat), (67 : Nat), (68 : Nat), (343 : Nat))]) ∈ lw_all := lw_g (lw_at lw_m4 115 rfl) rfl
theorem q874 : (Jvm.Cond.classLink "CakesToTheWatched" (343 : Nat) "java/lang/NegativeArraySizeException") ∈ lw_all := lw_g (lw_at lw_m4 116 rfl) rfl
theorem q890 : (Jvm.Cond.instanceMethod ({ cls := "CakesToTheWatched", name := "put", desc := "(III)I" } : Jvm.MethodName)) ∈ lw_all := lw_g (lw_at lw_m4 132 rfl) rfl
theorem q891 : (Jvm.Cond.selects "CakesToTheWatched" ({ cls := "CakesToTheWatched", name := "put", desc := "(III)I" } : Jvm.MethodName) ({ cls := "CakesToTheWatched", name := "put", desc := "(III)I" } : Jvm.MethodName)) ∈ lw_all := lw_g (lw_at lw_m4 133 rfl) rfl
theorem q892 : (Jvm.Cond.codeWith ({ cls := "CakesToTheWatched", name := "put", desc := "(III)I" } : Jvm.MethodName) prog_1_method_70_code (6 : Nat) (Option.some Jvm.ClassFile.FieldType.int) [((29 : Nat), (78 : Nat), (79 : Nat), (144 : Nat)), ((29 : Nat), (78 : Nat), (84 : Nat), (345 : Nat))]) ∈ lw_all := lw_g (lw_at lw_m4 134 rfl) rfl
theorem q893 : (Jvm.Cond.classLink "CakesToTheWatched" (345 : Nat) "java/lang/ArrayIndexOutOfBoundsException") ∈ lw_all := lw_g (lw_at lw_m4 135 rfl) rfl
theorem q913 : (Jvm.Cond.instanceMethod ({ cls := "CakesToTheWatched", name := "copy", desc := "(IIIII)I" } : Jvm.MethodName)) ∈ lw_all := lw_g (lw_at lw_m4 155 rfl) rfl
theorem q914 : (Jvm.Cond.selects "CakesToTheWatched" ({ cls := "CakesToTheWatched", name := "copy", desc := "(IIIII)I" } : Jvm.MethodName) ({ cls := "CakesToTheWatched", name := "copy", desc := "(IIIII)I" } : Jvm.MethodName)) ∈ lw_all := lw_g (lw_at lw_m4 156 rfl) rfl
theorem q915 : (Jvm.Cond.codeWith ({ cls := "CakesToTheWatched", name := "copy", desc := "(IIIII)I" } : Jvm.MethodName) prog_1_method_72_code (9 : Nat) (Option.some Jvm.ClassFile.FieldType.int) [((78 : Nat), (92 : Nat), (93 : Nat), (361 : Nat))]) ∈ lw_all := lw_g (lw_at lw_m4 157 rfl) rfl
theorem q916 : (Jvm.Cond.classLink "CakesToTheWatched" (361 : Nat) "java/lang/IndexOutOfBoundsException") ∈ lw_all := lw_g (lw_at lw_m4 158 rfl) rfl
theorem q917 : (Jvm.Cond.methodLink "CakesToTheWatched" (355 : Nat) ({ cls := "java/lang/System", name := "arraycopy", desc := "(Ljava/lang/Object;ILjava/lang/Object;II)V" } : Jvm.MethodName)) ∈ lw_all := lw_g (lw_at lw_m4 159 rfl) rfl
theorem q919 : (Jvm.Cond.instanceMethod ({ cls := "CakesToTheWatched", name := "cost", desc := "(I)I" } : Jvm.MethodName)) ∈ lw_all := lw_g (lw_at lw_m4 161 rfl) rfl
theorem q920 : (Jvm.Cond.selects "CakesToTheWatched" ({ cls := "CakesToTheWatched", name := "cost", desc := "(I)I" } : Jvm.MethodName) ({ cls := "CakesToTheWatched", name := "cost", desc := "(I)I" } : Jvm.MethodName)) ∈ lw_all := lw_g (lw_at lw_m4 162 rfl) rfl
theorem q921 : (Jvm.Cond.codeWith ({ cls := "CakesToTheWatched", name := "cost", desc := "(I)I" } : Jvm.MethodName) prog_1_method_73_code (3 : Nat) (Option.some Jvm.ClassFile.FieldType.int) [((10 : Nat), (25 : Nat), (26 : Nat), (350 : Nat)), ((10 : Nat), (25 : Nat), (30 : Nat), (144 : Nat))]) ∈ lw_all := lw_g (lw_at lw_m4 163 rfl) rfl
theorem q922 : (Jvm.Cond.classLink "CakesToTheWatched" (350 : Nat) "java/lang/NullPointerException") ∈ lw_all := lw_g (lw_at lw_m4 164 rfl) rfl
theorem q944 : (Jvm.Cond.methodLink "CakesToTheWatched" (363 : Nat) ({ cls := "CakesToTheWatched$Guest", name := "cost", desc := "()I" } : Jvm.MethodName)) ∈ lw_all := lw_g (lw_at lw_m4 186 rfl) rfl
theorem q977 : (Jvm.Cond.instanceMethod ({ cls := "CakesToTheWatched", name := "toss", desc := "(I)I" } : Jvm.MethodName)) ∈ lw_all := lw_g (lw_at lw_m4 219 rfl) rfl
theorem q978 : (Jvm.Cond.selects "CakesToTheWatched" ({ cls := "CakesToTheWatched", name := "toss", desc := "(I)I" } : Jvm.MethodName) ({ cls := "CakesToTheWatched", name := "toss", desc := "(I)I" } : Jvm.MethodName)) ∈ lw_all := lw_g (lw_at lw_m4 220 rfl) rfl
theorem q979 : (Jvm.Cond.codeWith ({ cls := "CakesToTheWatched", name := "toss", desc := "(I)I" } : Jvm.MethodName) prog_1_method_74_code (3 : Nat) (Option.some Jvm.ClassFile.FieldType.int) [((25 : Nat), (41 : Nat), (41 : Nat), (370 : Nat)), ((25 : Nat), (41 : Nat), (47 : Nat), (350 : Nat)), ((25 : Nat), (41 : Nat), (51 : Nat), (144 : Nat))]) ∈ lw_all := lw_g (lw_at lw_m4 221 rfl) rfl
theorem q980 : (Jvm.Cond.classLink "CakesToTheWatched" (370 : Nat) "CakesToTheWatched$Tossed") ∈ lw_all := lw_g (lw_at lw_m4 222 rfl) rfl
theorem q981 : (Jvm.Cond.methodLink "CakesToTheWatched" (366 : Nat) ({ cls := "CakesToTheWatched$Guest", name := "failure", desc := "()LCakesToTheWatched$Tossed;" } : Jvm.MethodName)) ∈ lw_all := lw_g (lw_at lw_m4 223 rfl) rfl
theorem q1016 : (Jvm.Cond.fieldLink "CakesToTheWatched" (372 : Nat) "CakesToTheWatched$Tossed" "n" "I") ∈ lw_all := lw_g (lw_at lw_m5 18 rfl) rfl
theorem q1034 : (Jvm.Cond.instanceMethod ({ cls := "CakesToTheWatched", name := "element", desc := "(II)J" } : Jvm.MethodName)) ∈ lw_all := lw_g (lw_at lw_m5 36 rfl) rfl
theorem q1035 : (Jvm.Cond.selects "CakesToTheWatched" ({ cls := "CakesToTheWatched", name := "element", desc := "(II)J" } : Jvm.MethodName) ({ cls := "CakesToTheWatched", name := "element", desc := "(II)J" } : Jvm.MethodName)) ∈ lw_all := lw_g (lw_at lw_m5 37 rfl) rfl
theorem q1036 : (Jvm.Cond.codeWith ({ cls := "CakesToTheWatched", name := "element", desc := "(II)J" } : Jvm.MethodName) prog_1_method_71_code (5 : Nat) (Option.some Jvm.ClassFile.FieldType.long) [((26 : Nat), (40 : Nat), (64 : Nat), (350 : Nat)), ((41 : Nat), (55 : Nat), (64 : Nat), (350 : Nat)), ((56 : Nat), (63 : Nat), (64 : Nat), (350 : Nat)), ((26 : Nat), (40 : Nat), (74 : Nat), (144 : Nat)), ((41 : Nat), (55 : Nat), (74 : Nat), (144 : Nat)), ((56 : Nat), (63 : Nat), (74 : Nat), (144 : Nat)), ((26 : Nat), (40 : Nat), (84 : Nat), (345 : Nat)), ((41 : Nat), (55 : Nat), (84 : Nat), (345 : Nat)), ((56 : Nat), (63 : Nat), (84 : Nat), (345 : Nat))]) ∈ lw_all := lw_g (lw_at lw_m5 38 rfl) rfl
theorem q1037 : (Jvm.Cond.classLink "CakesToTheWatched" (347 : Nat) "java/lang/IllegalArgumentException") ∈ lw_all := lw_g (lw_at lw_m5 39 rfl) rfl
theorem q1046 : (Jvm.Cond.methodLink "CakesToTheWatched" (349 : Nat) ({ cls := "java/lang/IllegalArgumentException", name := "<init>", desc := "()V" } : Jvm.MethodName)) ∈ lw_all := lw_g (lw_at lw_m5 48 rfl) rfl
theorem q1052 : (Jvm.Cond.classLink "CakesToTheWatched" (352 : Nat) "java/lang/IllegalStateException") ∈ lw_all := lw_g (lw_at lw_m5 54 rfl) rfl
theorem q1061 : (Jvm.Cond.methodLink "CakesToTheWatched" (354 : Nat) ({ cls := "java/lang/IllegalStateException", name := "<init>", desc := "()V" } : Jvm.MethodName)) ∈ lw_all := lw_g (lw_at lw_m5 63 rfl) rfl
theorem in_X1 : ∀ w ∈ wsX10, w ∈ lw_all := lw_in wsX10 [847, 849, 851, 853, 855, 857, 859, 861, 863] (by decide +kernel) (by decide +kernel)
