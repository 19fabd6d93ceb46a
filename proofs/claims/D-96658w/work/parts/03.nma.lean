/-! CakesToTheWatchedModel -/
set_option maxRecDepth 100000
def RX4 : String := "CakesToTheWatchedModel"
def TX4 : u_T := fun k => match k with
  | 0 => ("CakesToTheWatchedModel", "s", "[I", true)
  | 1 => ("CakesToTheWatchedModel", "m", "[I", true)
  | 2 => ("CakesToTheWatchedModel", "image", "[I", true)
  | 3 => ("CakesToTheWatchedModel", "was", "[I", true)
  | 4 => ("CakesToTheWatchedModel", "hasImage", "Z", false)
  | 5 => ("CakesToTheWatchedModel", "place", "I", false)
  | 6 => ("CakesToTheWatchedModel", "rowAt", "I", false)
  | 7 => ("CakesToTheWatchedModel", "rowEnd", "I", false)
  | 8 => ("CakesToTheWatchedModel", "numbers", "[I", true)
  | 9 => ("CakesToTheWatchedModel", "watchedBy", "[I", true)
  | 10 => ("CakesToTheWatchedModel", "bestBy", "[I", true)
  | 11 => ("CakesToTheWatchedModel", "bestOfPairs", "I", false)
  | 12 => ("CakesToTheWatchedModel", "seed", "I", false)
  | 13 => ("CakesToTheWatchedModel", "kept", "[I", true)
  | 14 => ("CakesToTheWatchedModel", "keptKind", "[I", true)
  | 15 => ("CakesToTheWatchedModel", "keptFigure", "[I", true)
  | 16 => ("CakesToTheWatchedModel", "sort", "[I", true)
  | 17 => ("CakesToTheWatchedModel", "size", "[I", true)
  | 18 => ("CakesToTheWatchedModel", "element", "[I", true)
  | _ => ("CakesToTheWatchedModel", "thrown", "I", false)
def tyX4 : Nat → FieldType := fun k => match k with
  | 0 => .array .int
  | 1 => .array .int
  | 2 => .array .int
  | 3 => .array .int
  | 4 => .boolean
  | 5 => .int
  | 6 => .int
  | 7 => .int
  | 8 => .array .int
  | 9 => .array .int
  | 10 => .array .int
  | 11 => .int
  | 12 => .int
  | 13 => .array .int
  | 14 => .array .int
  | 15 => .array .int
  | 16 => .array .int
  | 17 => .array .int
  | 18 => .array .int
  | _ => .int
abbrev wsX40 : List Cond := u_ws RX4 TX4 20
set_option maxRecDepth 100000 in
theorem nmX4 : ∀ a, a < 20 → ∀ b, b < 20 → a ≠ b → (TX4 a).2.1 ≠ (TX4 b).2.1 := by decide +kernel
set_option maxRecDepth 100000 in
theorem tyX4_ok : ∀ k, k < 20 → parseFieldDescriptor (TX4 k).2.2.1 = some (tyX4 k) := by decide +kernel
abbrev cX4_init : ByteArray := prog_21_method_1_code
def yX4_init : MethodName := ⟨RX4, "<init>", "()V"⟩
def dkwX4_init_4 : List UInt8 := [188, 10, 181, 0, 43, 42, 17, 3, 32, 188, 10, 181, 0, 46, 177]
abbrev dktX4_init_4 : List UInt8 := dkwX4_init_4 ++ []
def dkwX4_init_3 : List UInt8 := [188, 10, 181, 0, 34, 42, 16, 8, 188, 10, 181, 0, 37, 42, 16, 8, 188, 10, 181, 0, 40, 42, 16, 8]
abbrev dktX4_init_3 : List UInt8 := dkwX4_init_3 ++ dktX4_init_4
def dkwX4_init_2 : List UInt8 := [188, 10, 181, 0, 25, 42, 16, 8, 188, 10, 181, 0, 28, 42, 16, 8, 188, 10, 181, 0, 31, 42, 16, 8]
abbrev dktX4_init_2 : List UInt8 := dkwX4_init_2 ++ dktX4_init_3
def dkwX4_init_1 : List UInt8 := [188, 10, 181, 0, 16, 42, 16, 57, 188, 10, 181, 0, 19, 42, 7, 188, 10, 181, 0, 22, 42, 16, 8]
abbrev dktX4_init_1 : List UInt8 := dkwX4_init_1 ++ dktX4_init_2
def dkwX4_init_0 : List UInt8 := [42, 183, 0, 1, 42, 16, 57, 188, 10, 181, 0, 9, 42, 16, 57, 188, 10, 181, 0, 13, 42, 16, 57]
abbrev dktX4_init_0 : List UInt8 := dkwX4_init_0 ++ dktX4_init_1
theorem dksX4_init_0 : cX4_init.data.toList.drop 0 = dktX4_init_0 := by decide +kernel
theorem dksX4_init_1 : cX4_init.data.toList.drop 23 = dktX4_init_1 := dk_seg dksX4_init_0 23 rfl rfl
theorem dksX4_init_2 : cX4_init.data.toList.drop 46 = dktX4_init_2 := dk_seg dksX4_init_1 23 rfl rfl
theorem dksX4_init_3 : cX4_init.data.toList.drop 70 = dktX4_init_3 := dk_seg dksX4_init_2 24 rfl rfl
theorem dksX4_init_4 : cX4_init.data.toList.drop 94 = dktX4_init_4 := dk_seg dksX4_init_3 24 rfl rfl
theorem dX4_init_0 : decode cX4_init 0 = .ok (.aload_n 0, 1) := dk_42 (dk_at dksX4_init_0 0 rfl rfl)
theorem dX4_init_1 : decode cX4_init 1 = .ok (.invokespecial 1, 3) := dk_183 0 1 (dk_at dksX4_init_0 1 rfl rfl)
theorem dX4_init_4 : decode cX4_init 4 = .ok (.aload_n 0, 1) := dk_42 (dk_at dksX4_init_0 4 rfl rfl)
theorem dX4_init_5 : decode cX4_init 5 = .ok (.bipush 57, 2) := dk_16 57 (dk_at dksX4_init_0 5 rfl rfl)
theorem dX4_init_7 : decode cX4_init 7 = .ok (.newarray .int, 2) := dk_188_10 (dk_at dksX4_init_0 7 rfl rfl)
theorem dX4_init_9 : decode cX4_init 9 = .ok (.putfield 9, 3) := dk_181 0 9 (dk_at dksX4_init_0 9 rfl rfl)
theorem dX4_init_12 : decode cX4_init 12 = .ok (.aload_n 0, 1) := dk_42 (dk_at dksX4_init_0 12 rfl rfl)
theorem dX4_init_13 : decode cX4_init 13 = .ok (.bipush 57, 2) := dk_16 57 (dk_at dksX4_init_0 13 rfl rfl)
theorem dX4_init_15 : decode cX4_init 15 = .ok (.newarray .int, 2) := dk_188_10 (dk_at dksX4_init_0 15 rfl rfl)
theorem dX4_init_17 : decode cX4_init 17 = .ok (.putfield 13, 3) := dk_181 0 13 (dk_at dksX4_init_0 17 rfl rfl)
theorem dX4_init_20 : decode cX4_init 20 = .ok (.aload_n 0, 1) := dk_42 (dk_at dksX4_init_0 20 rfl rfl)
theorem dX4_init_21 : decode cX4_init 21 = .ok (.bipush 57, 2) := dk_16 57 (dk_at dksX4_init_0 21 rfl rfl)
theorem dX4_init_23 : decode cX4_init 23 = .ok (.newarray .int, 2) := dk_188_10 (dk_at dksX4_init_1 0 rfl rfl)
theorem dX4_init_25 : decode cX4_init 25 = .ok (.putfield 16, 3) := dk_181 0 16 (dk_at dksX4_init_1 2 rfl rfl)
theorem dX4_init_28 : decode cX4_init 28 = .ok (.aload_n 0, 1) := dk_42 (dk_at dksX4_init_1 5 rfl rfl)
theorem dX4_init_29 : decode cX4_init 29 = .ok (.bipush 57, 2) := dk_16 57 (dk_at dksX4_init_1 6 rfl rfl)
theorem dX4_init_31 : decode cX4_init 31 = .ok (.newarray .int, 2) := dk_188_10 (dk_at dksX4_init_1 8 rfl rfl)
theorem dX4_init_33 : decode cX4_init 33 = .ok (.putfield 19, 3) := dk_181 0 19 (dk_at dksX4_init_1 10 rfl rfl)
theorem dX4_init_36 : decode cX4_init 36 = .ok (.aload_n 0, 1) := dk_42 (dk_at dksX4_init_1 13 rfl rfl)
theorem dX4_init_37 : decode cX4_init 37 = .ok (.iconst 4, 1) := dk_7 (dk_at dksX4_init_1 14 rfl rfl)
theorem dX4_init_38 : decode cX4_init 38 = .ok (.newarray .int, 2) := dk_188_10 (dk_at dksX4_init_1 15 rfl rfl)
theorem dX4_init_40 : decode cX4_init 40 = .ok (.putfield 22, 3) := dk_181 0 22 (dk_at dksX4_init_1 17 rfl rfl)
theorem dX4_init_43 : decode cX4_init 43 = .ok (.aload_n 0, 1) := dk_42 (dk_at dksX4_init_1 20 rfl rfl)
theorem dX4_init_44 : decode cX4_init 44 = .ok (.bipush 8, 2) := dk_16 8 (dk_at dksX4_init_1 21 rfl rfl)
theorem dX4_init_46 : decode cX4_init 46 = .ok (.newarray .int, 2) := dk_188_10 (dk_at dksX4_init_2 0 rfl rfl)
theorem dX4_init_48 : decode cX4_init 48 = .ok (.putfield 25, 3) := dk_181 0 25 (dk_at dksX4_init_2 2 rfl rfl)
theorem dX4_init_51 : decode cX4_init 51 = .ok (.aload_n 0, 1) := dk_42 (dk_at dksX4_init_2 5 rfl rfl)
theorem dX4_init_52 : decode cX4_init 52 = .ok (.bipush 8, 2) := dk_16 8 (dk_at dksX4_init_2 6 rfl rfl)
theorem dX4_init_54 : decode cX4_init 54 = .ok (.newarray .int, 2) := dk_188_10 (dk_at dksX4_init_2 8 rfl rfl)
theorem dX4_init_56 : decode cX4_init 56 = .ok (.putfield 28, 3) := dk_181 0 28 (dk_at dksX4_init_2 10 rfl rfl)
theorem dX4_init_59 : decode cX4_init 59 = .ok (.aload_n 0, 1) := dk_42 (dk_at dksX4_init_2 13 rfl rfl)
theorem dX4_init_60 : decode cX4_init 60 = .ok (.bipush 8, 2) := dk_16 8 (dk_at dksX4_init_2 14 rfl rfl)
theorem dX4_init_62 : decode cX4_init 62 = .ok (.newarray .int, 2) := dk_188_10 (dk_at dksX4_init_2 16 rfl rfl)
theorem dX4_init_64 : decode cX4_init 64 = .ok (.putfield 31, 3) := dk_181 0 31 (dk_at dksX4_init_2 18 rfl rfl)
theorem dX4_init_67 : decode cX4_init 67 = .ok (.aload_n 0, 1) := dk_42 (dk_at dksX4_init_2 21 rfl rfl)
theorem dX4_init_68 : decode cX4_init 68 = .ok (.bipush 8, 2) := dk_16 8 (dk_at dksX4_init_2 22 rfl rfl)
theorem dX4_init_70 : decode cX4_init 70 = .ok (.newarray .int, 2) := dk_188_10 (dk_at dksX4_init_3 0 rfl rfl)
theorem dX4_init_72 : decode cX4_init 72 = .ok (.putfield 34, 3) := dk_181 0 34 (dk_at dksX4_init_3 2 rfl rfl)
theorem dX4_init_75 : decode cX4_init 75 = .ok (.aload_n 0, 1) := dk_42 (dk_at dksX4_init_3 5 rfl rfl)
theorem dX4_init_76 : decode cX4_init 76 = .ok (.bipush 8, 2) := dk_16 8 (dk_at dksX4_init_3 6 rfl rfl)
theorem dX4_init_78 : decode cX4_init 78 = .ok (.newarray .int, 2) := dk_188_10 (dk_at dksX4_init_3 8 rfl rfl)
theorem dX4_init_80 : decode cX4_init 80 = .ok (.putfield 37, 3) := dk_181 0 37 (dk_at dksX4_init_3 10 rfl rfl)
theorem dX4_init_83 : decode cX4_init 83 = .ok (.aload_n 0, 1) := dk_42 (dk_at dksX4_init_3 13 rfl rfl)
theorem dX4_init_84 : decode cX4_init 84 = .ok (.bipush 8, 2) := dk_16 8 (dk_at dksX4_init_3 14 rfl rfl)
theorem dX4_init_86 : decode cX4_init 86 = .ok (.newarray .int, 2) := dk_188_10 (dk_at dksX4_init_3 16 rfl rfl)
theorem dX4_init_88 : decode cX4_init 88 = .ok (.putfield 40, 3) := dk_181 0 40 (dk_at dksX4_init_3 18 rfl rfl)
theorem dX4_init_91 : decode cX4_init 91 = .ok (.aload_n 0, 1) := dk_42 (dk_at dksX4_init_3 21 rfl rfl)
theorem dX4_init_92 : decode cX4_init 92 = .ok (.bipush 8, 2) := dk_16 8 (dk_at dksX4_init_3 22 rfl rfl)
theorem dX4_init_94 : decode cX4_init 94 = .ok (.newarray .int, 2) := dk_188_10 (dk_at dksX4_init_4 0 rfl rfl)
theorem dX4_init_96 : decode cX4_init 96 = .ok (.putfield 43, 3) := dk_181 0 43 (dk_at dksX4_init_4 2 rfl rfl)
theorem dX4_init_99 : decode cX4_init 99 = .ok (.aload_n 0, 1) := dk_42 (dk_at dksX4_init_4 5 rfl rfl)
theorem dX4_init_100 : decode cX4_init 100 = .ok (.sipush 800, 3) := dk_17 3 32 (dk_at dksX4_init_4 6 rfl rfl)
theorem dX4_init_103 : decode cX4_init 103 = .ok (.newarray .int, 2) := dk_188_10 (dk_at dksX4_init_4 9 rfl rfl)
theorem dX4_init_105 : decode cX4_init 105 = .ok (.putfield 46, 3) := dk_181 0 46 (dk_at dksX4_init_4 11 rfl rfl)
theorem dX4_init_108 : decode cX4_init 108 = .ok (.return_, 1) := dk_177 (dk_at dksX4_init_4 14 rfl rfl)
abbrev cX4_fete : ByteArray := prog_21_method_26_code
def yX4_fete : MethodName := ⟨RX4, "fete", "(I)I"⟩
def dkwX4_fete_7 : List UInt8 := [167, 255, 191, 21, 4, 154, 0, 7, 29, 167, 0, 5, 21, 4, 172]
abbrev dktX4_fete_7 : List UInt8 := dkwX4_fete_7 ++ []
def dkwX4_fete_6 : List UInt8 := [167, 255, 213, 17, 248, 48, 21, 5, 100, 54, 4, 42, 180, 0, 19, 42, 180, 0, 9, 184, 0, 135]
abbrev dktX4_fete_6 : List UInt8 := dkwX4_fete_6 ++ dktX4_fete_7
def dkwX4_fete_5 : List UInt8 := [54, 5, 42, 182, 0, 109, 54, 6, 42, 182, 0, 131, 54, 7, 42, 21, 6, 182, 0, 139, 153, 0, 6]
abbrev dktX4_fete_5 : List UInt8 := dkwX4_fete_5 ++ dktX4_fete_6
def dkwX4_fete_4 : List UInt8 := [181, 0, 99, 21, 4, 154, 0, 66, 42, 180, 0, 99, 42, 180, 0, 103, 162, 0, 55, 42, 180, 0, 99]
abbrev dktX4_fete_4 : List UInt8 := dkwX4_fete_4 ++ dktX4_fete_5
def dkwX4_fete_3 : List UInt8 := [180, 0, 99, 42, 180, 0, 103, 161, 255, 223, 42, 180, 0, 9, 42, 180, 0, 19, 184, 0, 135, 42, 3]
abbrev dktX4_fete_3 : List UInt8 := dkwX4_fete_3 ++ dktX4_fete_4
def dkwX4_fete_2 : List UInt8 := [154, 0, 13, 17, 252, 24, 42, 180, 0, 99, 100, 54, 4, 132, 3, 1, 21, 4, 154, 0, 14, 42]
abbrev dktX4_fete_2 : List UInt8 := dkwX4_fete_2 ++ dktX4_fete_3
def dkwX4_fete_1 : List UInt8 := [180, 0, 43, 27, 46, 181, 0, 103, 42, 3, 181, 0, 99, 3, 62, 3, 54, 4, 42, 182, 0, 131]
abbrev dktX4_fete_1 : List UInt8 := dkwX4_fete_1 ++ dktX4_fete_2
def dkwX4_fete_0 : List UInt8 := [42, 27, 3, 182, 0, 128, 61, 28, 153, 0, 5, 28, 172, 42, 16, 100, 27, 104, 181, 0, 106, 42, 42]
abbrev dktX4_fete_0 : List UInt8 := dkwX4_fete_0 ++ dktX4_fete_1
theorem dksX4_fete_0 : cX4_fete.data.toList.drop 0 = dktX4_fete_0 := by decide +kernel
theorem dksX4_fete_1 : cX4_fete.data.toList.drop 23 = dktX4_fete_1 := dk_seg dksX4_fete_0 23 rfl rfl
theorem dksX4_fete_2 : cX4_fete.data.toList.drop 45 = dktX4_fete_2 := dk_seg dksX4_fete_1 22 rfl rfl
theorem dksX4_fete_3 : cX4_fete.data.toList.drop 67 = dktX4_fete_3 := dk_seg dksX4_fete_2 22 rfl rfl
theorem dksX4_fete_4 : cX4_fete.data.toList.drop 90 = dktX4_fete_4 := dk_seg dksX4_fete_3 23 rfl rfl
theorem dksX4_fete_5 : cX4_fete.data.toList.drop 113 = dktX4_fete_5 := dk_seg dksX4_fete_4 23 rfl rfl
theorem dksX4_fete_6 : cX4_fete.data.toList.drop 136 = dktX4_fete_6 := dk_seg dksX4_fete_5 23 rfl rfl
theorem dksX4_fete_7 : cX4_fete.data.toList.drop 158 = dktX4_fete_7 := dk_seg dksX4_fete_6 22 rfl rfl
theorem dX4_fete_0 : decode cX4_fete 0 = .ok (.aload_n 0, 1) := dk_42 (dk_at dksX4_fete_0 0 rfl rfl)
theorem dX4_fete_1 : decode cX4_fete 1 = .ok (.iload_n 1, 1) := dk_27 (dk_at dksX4_fete_0 1 rfl rfl)
theorem dX4_fete_2 : decode cX4_fete 2 = .ok (.iconst 0, 1) := dk_3 (dk_at dksX4_fete_0 2 rfl rfl)
theorem dX4_fete_3 : decode cX4_fete 3 = .ok (.invokevirtual 128, 3) := dk_182 0 128 (dk_at dksX4_fete_0 3 rfl rfl)
theorem dX4_fete_6 : decode cX4_fete 6 = .ok (.istore_n 2, 1) := dk_61 (dk_at dksX4_fete_0 6 rfl rfl)
theorem dX4_fete_7 : decode cX4_fete 7 = .ok (.iload_n 2, 1) := dk_28 (dk_at dksX4_fete_0 7 rfl rfl)
theorem dX4_fete_8 : decode cX4_fete 8 = .ok (.ifCond .eq 5, 3) := dk_153 0 5 (dk_at dksX4_fete_0 8 rfl rfl)
theorem dX4_fete_11 : decode cX4_fete 11 = .ok (.iload_n 2, 1) := dk_28 (dk_at dksX4_fete_0 11 rfl rfl)
theorem dX4_fete_12 : decode cX4_fete 12 = .ok (.ireturn, 1) := dk_172 (dk_at dksX4_fete_0 12 rfl rfl)
theorem dX4_fete_13 : decode cX4_fete 13 = .ok (.aload_n 0, 1) := dk_42 (dk_at dksX4_fete_0 13 rfl rfl)
theorem dX4_fete_14 : decode cX4_fete 14 = .ok (.bipush 100, 2) := dk_16 100 (dk_at dksX4_fete_0 14 rfl rfl)
theorem dX4_fete_16 : decode cX4_fete 16 = .ok (.iload_n 1, 1) := dk_27 (dk_at dksX4_fete_0 16 rfl rfl)
theorem dX4_fete_17 : decode cX4_fete 17 = .ok (.imul, 1) := dk_104 (dk_at dksX4_fete_0 17 rfl rfl)
theorem dX4_fete_18 : decode cX4_fete 18 = .ok (.putfield 106, 3) := dk_181 0 106 (dk_at dksX4_fete_0 18 rfl rfl)
theorem dX4_fete_21 : decode cX4_fete 21 = .ok (.aload_n 0, 1) := dk_42 (dk_at dksX4_fete_0 21 rfl rfl)
theorem dX4_fete_22 : decode cX4_fete 22 = .ok (.aload_n 0, 1) := dk_42 (dk_at dksX4_fete_0 22 rfl rfl)
theorem dX4_fete_23 : decode cX4_fete 23 = .ok (.getfield 43, 3) := dk_180 0 43 (dk_at dksX4_fete_1 0 rfl rfl)
theorem dX4_fete_26 : decode cX4_fete 26 = .ok (.iload_n 1, 1) := dk_27 (dk_at dksX4_fete_1 3 rfl rfl)
theorem dX4_fete_27 : decode cX4_fete 27 = .ok (.iaload, 1) := dk_46 (dk_at dksX4_fete_1 4 rfl rfl)
theorem dX4_fete_28 : decode cX4_fete 28 = .ok (.putfield 103, 3) := dk_181 0 103 (dk_at dksX4_fete_1 5 rfl rfl)
theorem dX4_fete_31 : decode cX4_fete 31 = .ok (.aload_n 0, 1) := dk_42 (dk_at dksX4_fete_1 8 rfl rfl)
theorem dX4_fete_32 : decode cX4_fete 32 = .ok (.iconst 0, 1) := dk_3 (dk_at dksX4_fete_1 9 rfl rfl)
theorem dX4_fete_33 : decode cX4_fete 33 = .ok (.putfield 99, 3) := dk_181 0 99 (dk_at dksX4_fete_1 10 rfl rfl)
theorem dX4_fete_36 : decode cX4_fete 36 = .ok (.iconst 0, 1) := dk_3 (dk_at dksX4_fete_1 13 rfl rfl)
theorem dX4_fete_37 : decode cX4_fete 37 = .ok (.istore_n 3, 1) := dk_62 (dk_at dksX4_fete_1 14 rfl rfl)
theorem dX4_fete_38 : decode cX4_fete 38 = .ok (.iconst 0, 1) := dk_3 (dk_at dksX4_fete_1 15 rfl rfl)
theorem dX4_fete_39 : decode cX4_fete 39 = .ok (.istore 4, 2) := dk_54 4 (dk_at dksX4_fete_1 16 rfl rfl)
theorem dX4_fete_41 : decode cX4_fete 41 = .ok (.aload_n 0, 1) := dk_42 (dk_at dksX4_fete_1 18 rfl rfl)
theorem dX4_fete_42 : decode cX4_fete 42 = .ok (.invokevirtual 131, 3) := dk_182 0 131 (dk_at dksX4_fete_1 19 rfl rfl)
theorem dX4_fete_45 : decode cX4_fete 45 = .ok (.ifCond .ne 13, 3) := dk_154 0 13 (dk_at dksX4_fete_2 0 rfl rfl)
theorem dX4_fete_48 : decode cX4_fete 48 = .ok (.sipush (-1000), 3) := dk_17 252 24 (dk_at dksX4_fete_2 3 rfl rfl)
theorem dX4_fete_51 : decode cX4_fete 51 = .ok (.aload_n 0, 1) := dk_42 (dk_at dksX4_fete_2 6 rfl rfl)
theorem dX4_fete_52 : decode cX4_fete 52 = .ok (.getfield 99, 3) := dk_180 0 99 (dk_at dksX4_fete_2 7 rfl rfl)
theorem dX4_fete_55 : decode cX4_fete 55 = .ok (.isub, 1) := dk_100 (dk_at dksX4_fete_2 10 rfl rfl)
theorem dX4_fete_56 : decode cX4_fete 56 = .ok (.istore 4, 2) := dk_54 4 (dk_at dksX4_fete_2 11 rfl rfl)
theorem dX4_fete_58 : decode cX4_fete 58 = .ok (.iinc 3 1, 3) := dk_132 3 1 (dk_at dksX4_fete_2 13 rfl rfl)
theorem dX4_fete_61 : decode cX4_fete 61 = .ok (.iload 4, 2) := dk_21 4 (dk_at dksX4_fete_2 16 rfl rfl)
theorem dX4_fete_63 : decode cX4_fete 63 = .ok (.ifCond .ne 14, 3) := dk_154 0 14 (dk_at dksX4_fete_2 18 rfl rfl)
theorem dX4_fete_66 : decode cX4_fete 66 = .ok (.aload_n 0, 1) := dk_42 (dk_at dksX4_fete_2 21 rfl rfl)
theorem dX4_fete_67 : decode cX4_fete 67 = .ok (.getfield 99, 3) := dk_180 0 99 (dk_at dksX4_fete_3 0 rfl rfl)
theorem dX4_fete_70 : decode cX4_fete 70 = .ok (.aload_n 0, 1) := dk_42 (dk_at dksX4_fete_3 3 rfl rfl)
theorem dX4_fete_71 : decode cX4_fete 71 = .ok (.getfield 103, 3) := dk_180 0 103 (dk_at dksX4_fete_3 4 rfl rfl)
theorem dX4_fete_74 : decode cX4_fete 74 = .ok (.if_icmp .lt (-33), 3) := dk_161 255 223 (dk_at dksX4_fete_3 7 rfl rfl)
theorem dX4_fete_77 : decode cX4_fete 77 = .ok (.aload_n 0, 1) := dk_42 (dk_at dksX4_fete_3 10 rfl rfl)
theorem dX4_fete_78 : decode cX4_fete 78 = .ok (.getfield 9, 3) := dk_180 0 9 (dk_at dksX4_fete_3 11 rfl rfl)
theorem dX4_fete_81 : decode cX4_fete 81 = .ok (.aload_n 0, 1) := dk_42 (dk_at dksX4_fete_3 14 rfl rfl)
theorem dX4_fete_82 : decode cX4_fete 82 = .ok (.getfield 19, 3) := dk_180 0 19 (dk_at dksX4_fete_3 15 rfl rfl)
theorem dX4_fete_85 : decode cX4_fete 85 = .ok (.invokestatic 135, 3) := dk_184 0 135 (dk_at dksX4_fete_3 18 rfl rfl)
theorem dX4_fete_88 : decode cX4_fete 88 = .ok (.aload_n 0, 1) := dk_42 (dk_at dksX4_fete_3 21 rfl rfl)
theorem dX4_fete_89 : decode cX4_fete 89 = .ok (.iconst 0, 1) := dk_3 (dk_at dksX4_fete_3 22 rfl rfl)
theorem dX4_fete_90 : decode cX4_fete 90 = .ok (.putfield 99, 3) := dk_181 0 99 (dk_at dksX4_fete_4 0 rfl rfl)
theorem dX4_fete_93 : decode cX4_fete 93 = .ok (.iload 4, 2) := dk_21 4 (dk_at dksX4_fete_4 3 rfl rfl)
theorem dX4_fete_95 : decode cX4_fete 95 = .ok (.ifCond .ne 66, 3) := dk_154 0 66 (dk_at dksX4_fete_4 5 rfl rfl)
theorem dX4_fete_98 : decode cX4_fete 98 = .ok (.aload_n 0, 1) := dk_42 (dk_at dksX4_fete_4 8 rfl rfl)
theorem dX4_fete_99 : decode cX4_fete 99 = .ok (.getfield 99, 3) := dk_180 0 99 (dk_at dksX4_fete_4 9 rfl rfl)
theorem dX4_fete_102 : decode cX4_fete 102 = .ok (.aload_n 0, 1) := dk_42 (dk_at dksX4_fete_4 12 rfl rfl)
theorem dX4_fete_103 : decode cX4_fete 103 = .ok (.getfield 103, 3) := dk_180 0 103 (dk_at dksX4_fete_4 13 rfl rfl)
theorem dX4_fete_106 : decode cX4_fete 106 = .ok (.if_icmp .ge 55, 3) := dk_162 0 55 (dk_at dksX4_fete_4 16 rfl rfl)
theorem dX4_fete_109 : decode cX4_fete 109 = .ok (.aload_n 0, 1) := dk_42 (dk_at dksX4_fete_4 19 rfl rfl)
theorem dX4_fete_110 : decode cX4_fete 110 = .ok (.getfield 99, 3) := dk_180 0 99 (dk_at dksX4_fete_4 20 rfl rfl)
theorem dX4_fete_113 : decode cX4_fete 113 = .ok (.istore 5, 2) := dk_54 5 (dk_at dksX4_fete_5 0 rfl rfl)
theorem dX4_fete_115 : decode cX4_fete 115 = .ok (.aload_n 0, 1) := dk_42 (dk_at dksX4_fete_5 2 rfl rfl)
theorem dX4_fete_116 : decode cX4_fete 116 = .ok (.invokevirtual 109, 3) := dk_182 0 109 (dk_at dksX4_fete_5 3 rfl rfl)
theorem dX4_fete_119 : decode cX4_fete 119 = .ok (.istore 6, 2) := dk_54 6 (dk_at dksX4_fete_5 6 rfl rfl)
theorem dX4_fete_121 : decode cX4_fete 121 = .ok (.aload_n 0, 1) := dk_42 (dk_at dksX4_fete_5 8 rfl rfl)
theorem dX4_fete_122 : decode cX4_fete 122 = .ok (.invokevirtual 131, 3) := dk_182 0 131 (dk_at dksX4_fete_5 9 rfl rfl)
theorem dX4_fete_125 : decode cX4_fete 125 = .ok (.istore 7, 2) := dk_54 7 (dk_at dksX4_fete_5 12 rfl rfl)
theorem dX4_fete_127 : decode cX4_fete 127 = .ok (.aload_n 0, 1) := dk_42 (dk_at dksX4_fete_5 14 rfl rfl)
theorem dX4_fete_128 : decode cX4_fete 128 = .ok (.iload 6, 2) := dk_21 6 (dk_at dksX4_fete_5 15 rfl rfl)
theorem dX4_fete_130 : decode cX4_fete 130 = .ok (.invokevirtual 139, 3) := dk_182 0 139 (dk_at dksX4_fete_5 17 rfl rfl)
theorem dX4_fete_133 : decode cX4_fete 133 = .ok (.ifCond .eq 6, 3) := dk_153 0 6 (dk_at dksX4_fete_5 20 rfl rfl)
theorem dX4_fete_136 : decode cX4_fete 136 = .ok (.goto (-43), 3) := dk_167 255 213 (dk_at dksX4_fete_6 0 rfl rfl)
theorem dX4_fete_139 : decode cX4_fete 139 = .ok (.sipush (-2000), 3) := dk_17 248 48 (dk_at dksX4_fete_6 3 rfl rfl)
theorem dX4_fete_142 : decode cX4_fete 142 = .ok (.iload 5, 2) := dk_21 5 (dk_at dksX4_fete_6 6 rfl rfl)
theorem dX4_fete_144 : decode cX4_fete 144 = .ok (.isub, 1) := dk_100 (dk_at dksX4_fete_6 8 rfl rfl)
theorem dX4_fete_145 : decode cX4_fete 145 = .ok (.istore 4, 2) := dk_54 4 (dk_at dksX4_fete_6 9 rfl rfl)
theorem dX4_fete_147 : decode cX4_fete 147 = .ok (.aload_n 0, 1) := dk_42 (dk_at dksX4_fete_6 11 rfl rfl)
theorem dX4_fete_148 : decode cX4_fete 148 = .ok (.getfield 19, 3) := dk_180 0 19 (dk_at dksX4_fete_6 12 rfl rfl)
theorem dX4_fete_151 : decode cX4_fete 151 = .ok (.aload_n 0, 1) := dk_42 (dk_at dksX4_fete_6 15 rfl rfl)
theorem dX4_fete_152 : decode cX4_fete 152 = .ok (.getfield 9, 3) := dk_180 0 9 (dk_at dksX4_fete_6 16 rfl rfl)
theorem dX4_fete_155 : decode cX4_fete 155 = .ok (.invokestatic 135, 3) := dk_184 0 135 (dk_at dksX4_fete_6 19 rfl rfl)
theorem dX4_fete_158 : decode cX4_fete 158 = .ok (.goto (-65), 3) := dk_167 255 191 (dk_at dksX4_fete_7 0 rfl rfl)
theorem dX4_fete_161 : decode cX4_fete 161 = .ok (.iload 4, 2) := dk_21 4 (dk_at dksX4_fete_7 3 rfl rfl)
theorem dX4_fete_163 : decode cX4_fete 163 = .ok (.ifCond .ne 7, 3) := dk_154 0 7 (dk_at dksX4_fete_7 5 rfl rfl)
theorem dX4_fete_166 : decode cX4_fete 166 = .ok (.iload_n 3, 1) := dk_29 (dk_at dksX4_fete_7 8 rfl rfl)
theorem dX4_fete_167 : decode cX4_fete 167 = .ok (.goto 5, 3) := dk_167 0 5 (dk_at dksX4_fete_7 9 rfl rfl)
theorem dX4_fete_170 : decode cX4_fete 170 = .ok (.iload 4, 2) := dk_21 4 (dk_at dksX4_fete_7 12 rfl rfl)
theorem dX4_fete_172 : decode cX4_fete 172 = .ok (.ireturn, 1) := dk_172 (dk_at dksX4_fete_7 14 rfl rfl)
abbrev cX4_wrongRow : ByteArray := prog_21_method_72_code
def yX4_wrongRow : MethodName := ⟨RX4, "wrongRow", "(II)I"⟩
def dkwX4_wrongRow_2 : List UInt8 := [159, 0, 8, 16, 244, 167, 0, 4, 3, 172]
abbrev dktX4_wrongRow_2 : List UInt8 := dkwX4_wrongRow_2 ++ []
def dkwX4_wrongRow_1 : List UInt8 := [167, 0, 33, 42, 180, 0, 31, 27, 46, 5, 160, 0, 17, 28, 155, 0, 18, 42, 180, 0, 40, 27, 46, 28]
abbrev dktX4_wrongRow_1 : List UInt8 := dkwX4_wrongRow_1 ++ dktX4_wrongRow_2
def dkwX4_wrongRow_0 : List UInt8 := [27, 184, 0, 206, 154, 0, 7, 2, 167, 0, 47, 42, 180, 0, 31, 27, 46, 154, 0, 8, 16, 245]
abbrev dktX4_wrongRow_0 : List UInt8 := dkwX4_wrongRow_0 ++ dktX4_wrongRow_1
theorem dksX4_wrongRow_0 : cX4_wrongRow.data.toList.drop 0 = dktX4_wrongRow_0 := by decide +kernel
theorem dksX4_wrongRow_1 : cX4_wrongRow.data.toList.drop 22 = dktX4_wrongRow_1 := dk_seg dksX4_wrongRow_0 22 rfl rfl
theorem dksX4_wrongRow_2 : cX4_wrongRow.data.toList.drop 46 = dktX4_wrongRow_2 := dk_seg dksX4_wrongRow_1 24 rfl rfl
theorem dX4_wrongRow_0 : decode cX4_wrongRow 0 = .ok (.iload_n 1, 1) := dk_27 (dk_at dksX4_wrongRow_0 0 rfl rfl)
theorem dX4_wrongRow_1 : decode cX4_wrongRow 1 = .ok (.invokestatic 206, 3) := dk_184 0 206 (dk_at dksX4_wrongRow_0 1 rfl rfl)
theorem dX4_wrongRow_4 : decode cX4_wrongRow 4 = .ok (.ifCond .ne 7, 3) := dk_154 0 7 (dk_at dksX4_wrongRow_0 4 rfl rfl)
theorem dX4_wrongRow_7 : decode cX4_wrongRow 7 = .ok (.iconst (-1), 1) := dk_2 (dk_at dksX4_wrongRow_0 7 rfl rfl)
theorem dX4_wrongRow_8 : decode cX4_wrongRow 8 = .ok (.goto 47, 3) := dk_167 0 47 (dk_at dksX4_wrongRow_0 8 rfl rfl)
theorem dX4_wrongRow_11 : decode cX4_wrongRow 11 = .ok (.aload_n 0, 1) := dk_42 (dk_at dksX4_wrongRow_0 11 rfl rfl)
theorem dX4_wrongRow_12 : decode cX4_wrongRow 12 = .ok (.getfield 31, 3) := dk_180 0 31 (dk_at dksX4_wrongRow_0 12 rfl rfl)
theorem dX4_wrongRow_15 : decode cX4_wrongRow 15 = .ok (.iload_n 1, 1) := dk_27 (dk_at dksX4_wrongRow_0 15 rfl rfl)
theorem dX4_wrongRow_16 : decode cX4_wrongRow 16 = .ok (.iaload, 1) := dk_46 (dk_at dksX4_wrongRow_0 16 rfl rfl)
theorem dX4_wrongRow_17 : decode cX4_wrongRow 17 = .ok (.ifCond .ne 8, 3) := dk_154 0 8 (dk_at dksX4_wrongRow_0 17 rfl rfl)
theorem dX4_wrongRow_20 : decode cX4_wrongRow 20 = .ok (.bipush (-11), 2) := dk_16 245 (dk_at dksX4_wrongRow_0 20 rfl rfl)
theorem dX4_wrongRow_22 : decode cX4_wrongRow 22 = .ok (.goto 33, 3) := dk_167 0 33 (dk_at dksX4_wrongRow_1 0 rfl rfl)
theorem dX4_wrongRow_25 : decode cX4_wrongRow 25 = .ok (.aload_n 0, 1) := dk_42 (dk_at dksX4_wrongRow_1 3 rfl rfl)
theorem dX4_wrongRow_26 : decode cX4_wrongRow 26 = .ok (.getfield 31, 3) := dk_180 0 31 (dk_at dksX4_wrongRow_1 4 rfl rfl)
theorem dX4_wrongRow_29 : decode cX4_wrongRow 29 = .ok (.iload_n 1, 1) := dk_27 (dk_at dksX4_wrongRow_1 7 rfl rfl)
theorem dX4_wrongRow_30 : decode cX4_wrongRow 30 = .ok (.iaload, 1) := dk_46 (dk_at dksX4_wrongRow_1 8 rfl rfl)
theorem dX4_wrongRow_31 : decode cX4_wrongRow 31 = .ok (.iconst 2, 1) := dk_5 (dk_at dksX4_wrongRow_1 9 rfl rfl)
theorem dX4_wrongRow_32 : decode cX4_wrongRow 32 = .ok (.if_icmp .ne 17, 3) := dk_160 0 17 (dk_at dksX4_wrongRow_1 10 rfl rfl)
theorem dX4_wrongRow_35 : decode cX4_wrongRow 35 = .ok (.iload_n 2, 1) := dk_28 (dk_at dksX4_wrongRow_1 13 rfl rfl)
theorem dX4_wrongRow_36 : decode cX4_wrongRow 36 = .ok (.ifCond .lt 18, 3) := dk_155 0 18 (dk_at dksX4_wrongRow_1 14 rfl rfl)
theorem dX4_wrongRow_39 : decode cX4_wrongRow 39 = .ok (.aload_n 0, 1) := dk_42 (dk_at dksX4_wrongRow_1 17 rfl rfl)
theorem dX4_wrongRow_40 : decode cX4_wrongRow 40 = .ok (.getfield 40, 3) := dk_180 0 40 (dk_at dksX4_wrongRow_1 18 rfl rfl)
theorem dX4_wrongRow_43 : decode cX4_wrongRow 43 = .ok (.iload_n 1, 1) := dk_27 (dk_at dksX4_wrongRow_1 21 rfl rfl)
theorem dX4_wrongRow_44 : decode cX4_wrongRow 44 = .ok (.iaload, 1) := dk_46 (dk_at dksX4_wrongRow_1 22 rfl rfl)
theorem dX4_wrongRow_45 : decode cX4_wrongRow 45 = .ok (.iload_n 2, 1) := dk_28 (dk_at dksX4_wrongRow_1 23 rfl rfl)
theorem dX4_wrongRow_46 : decode cX4_wrongRow 46 = .ok (.if_icmp .eq 8, 3) := dk_159 0 8 (dk_at dksX4_wrongRow_2 0 rfl rfl)
theorem dX4_wrongRow_49 : decode cX4_wrongRow 49 = .ok (.bipush (-12), 2) := dk_16 244 (dk_at dksX4_wrongRow_2 3 rfl rfl)
theorem dX4_wrongRow_51 : decode cX4_wrongRow 51 = .ok (.goto 4, 3) := dk_167 0 4 (dk_at dksX4_wrongRow_2 5 rfl rfl)
theorem dX4_wrongRow_54 : decode cX4_wrongRow 54 = .ok (.iconst 0, 1) := dk_3 (dk_at dksX4_wrongRow_2 8 rfl rfl)
theorem dX4_wrongRow_55 : decode cX4_wrongRow 55 = .ok (.ireturn, 1) := dk_172 (dk_at dksX4_wrongRow_2 9 rfl rfl)
abbrev cX4_isShelf : ByteArray := prog_21_method_71_code
def yX4_isShelf : MethodName := ⟨RX4, "isShelf", "(I)Z"⟩
def dkwX4_isShelf_0 : List UInt8 := [26, 3, 16, 7, 184, 0, 49, 172]
abbrev dktX4_isShelf_0 : List UInt8 := dkwX4_isShelf_0 ++ []
theorem dksX4_isShelf_0 : cX4_isShelf.data.toList.drop 0 = dktX4_isShelf_0 := by decide +kernel
theorem dX4_isShelf_0 : decode cX4_isShelf 0 = .ok (.iload_n 0, 1) := dk_26 (dk_at dksX4_isShelf_0 0 rfl rfl)
theorem dX4_isShelf_1 : decode cX4_isShelf 1 = .ok (.iconst 0, 1) := dk_3 (dk_at dksX4_isShelf_0 1 rfl rfl)
theorem dX4_isShelf_2 : decode cX4_isShelf 2 = .ok (.bipush 7, 2) := dk_16 7 (dk_at dksX4_isShelf_0 2 rfl rfl)
theorem dX4_isShelf_4 : decode cX4_isShelf 4 = .ok (.invokestatic 49, 3) := dk_184 0 49 (dk_at dksX4_isShelf_0 4 rfl rfl)
theorem dX4_isShelf_7 : decode cX4_isShelf 7 = .ok (.ireturn, 1) := dk_172 (dk_at dksX4_isShelf_0 7 rfl rfl)
abbrev cX4_isIn : ByteArray := prog_21_method_2_code
def yX4_isIn : MethodName := ⟨RX4, "isIn", "(III)Z"⟩
def dkwX4_isIn_0 : List UInt8 := [26, 27, 161, 0, 12, 26, 28, 163, 0, 7, 4, 167, 0, 4, 3, 172]
abbrev dktX4_isIn_0 : List UInt8 := dkwX4_isIn_0 ++ []
theorem dksX4_isIn_0 : cX4_isIn.data.toList.drop 0 = dktX4_isIn_0 := by decide +kernel
theorem dX4_isIn_0 : decode cX4_isIn 0 = .ok (.iload_n 0, 1) := dk_26 (dk_at dksX4_isIn_0 0 rfl rfl)
theorem dX4_isIn_1 : decode cX4_isIn 1 = .ok (.iload_n 1, 1) := dk_27 (dk_at dksX4_isIn_0 1 rfl rfl)
theorem dX4_isIn_2 : decode cX4_isIn 2 = .ok (.if_icmp .lt 12, 3) := dk_161 0 12 (dk_at dksX4_isIn_0 2 rfl rfl)
theorem dX4_isIn_5 : decode cX4_isIn 5 = .ok (.iload_n 0, 1) := dk_26 (dk_at dksX4_isIn_0 5 rfl rfl)
theorem dX4_isIn_6 : decode cX4_isIn 6 = .ok (.iload_n 2, 1) := dk_28 (dk_at dksX4_isIn_0 6 rfl rfl)
theorem dX4_isIn_7 : decode cX4_isIn 7 = .ok (.if_icmp .gt 7, 3) := dk_163 0 7 (dk_at dksX4_isIn_0 7 rfl rfl)
theorem dX4_isIn_10 : decode cX4_isIn 10 = .ok (.iconst 1, 1) := dk_4 (dk_at dksX4_isIn_0 10 rfl rfl)
theorem dX4_isIn_11 : decode cX4_isIn 11 = .ok (.goto 4, 3) := dk_167 0 4 (dk_at dksX4_isIn_0 11 rfl rfl)
theorem dX4_isIn_14 : decode cX4_isIn 14 = .ok (.iconst 0, 1) := dk_3 (dk_at dksX4_isIn_0 14 rfl rfl)
theorem dX4_isIn_15 : decode cX4_isIn 15 = .ok (.ireturn, 1) := dk_172 (dk_at dksX4_isIn_0 15 rfl rfl)
abbrev cX4_readsStatement : ByteArray := prog_21_method_23_code
def yX4_readsStatement : MethodName := ⟨RX4, "readsStatement", "()Z"⟩
def dkwX4_readsStatement_8 : List UInt8 := [180, 0, 99, 4, 96, 181, 0, 99, 4, 172]
abbrev dktX4_readsStatement_8 : List UInt8 := dkwX4_readsStatement_8 ++ []
def dkwX4_readsStatement_7 : List UInt8 := [181, 0, 99, 3, 172, 28, 153, 0, 12, 42, 182, 0, 109, 16, 59, 159, 0, 5, 3, 172, 42, 89]
abbrev dktX4_readsStatement_7 : List UInt8 := dkwX4_readsStatement_7 ++ dktX4_readsStatement_8
def dkwX4_readsStatement_6 : List UInt8 := [182, 0, 113, 153, 0, 7, 4, 167, 0, 4, 3, 61, 167, 0, 15, 42, 89, 180, 0, 99, 4, 100]
abbrev dktX4_readsStatement_6 : List UInt8 := dkwX4_readsStatement_6 ++ dktX4_readsStatement_7
def dkwX4_readsStatement_5 : List UInt8 := [153, 0, 7, 4, 167, 0, 4, 3, 61, 167, 0, 42, 42, 3, 4, 182, 0, 113, 153, 0, 16, 42, 4, 5]
abbrev dktX4_readsStatement_5 : List UInt8 := dkwX4_readsStatement_5 ++ dktX4_readsStatement_6
def dkwX4_readsStatement_4 : List UInt8 := [182, 0, 113, 61, 167, 0, 69, 42, 3, 4, 182, 0, 113, 153, 0, 16, 42, 4, 4, 182, 0, 113]
abbrev dktX4_readsStatement_4 : List UInt8 := dkwX4_readsStatement_4 ++ dktX4_readsStatement_5
def dkwX4_readsStatement_3 : List UInt8 := [153, 0, 16, 42, 6, 5, 182, 0, 113, 153, 0, 7, 4, 167, 0, 4, 3, 61, 167, 0, 79, 42, 3, 5]
abbrev dktX4_readsStatement_3 : List UInt8 := dkwX4_readsStatement_3 ++ dktX4_readsStatement_4
def dkwX4_readsStatement_2 : List UInt8 := [42, 3, 4, 182, 0, 113, 153, 0, 34, 42, 4, 4, 182, 0, 113, 153, 0, 25, 42, 5, 5, 182, 0, 113]
abbrev dktX4_readsStatement_2 : List UInt8 := dkwX4_readsStatement_2 ++ dktX4_readsStatement_3
def dkwX4_readsStatement_1 : List UInt8 := [171, 0, 0, 0, 0, 0, 0, 161, 0, 0, 0, 5, 0, 0, 0, 99, 0, 0, 0, 97, 0, 0, 0, 104, 0, 0, 0, 134, 0, 0, 0, 108, 0, 0, 0, 134, 0, 0, 0, 112, 0, 0, 0, 52, 0, 0, 0, 116, 0, 0, 0, 107]
abbrev dktX4_readsStatement_1 : List UInt8 := dkwX4_readsStatement_1 ++ dktX4_readsStatement_2
def dkwX4_readsStatement_0 : List UInt8 := [42, 182, 0, 109, 60, 42, 89, 180, 0, 99, 4, 96, 181, 0, 99, 27]
abbrev dktX4_readsStatement_0 : List UInt8 := dkwX4_readsStatement_0 ++ dktX4_readsStatement_1
theorem dksX4_readsStatement_0 : cX4_readsStatement.data.toList.drop 0 = dktX4_readsStatement_0 := by decide +kernel
theorem dksX4_readsStatement_1 : cX4_readsStatement.data.toList.drop 16 = dktX4_readsStatement_1 := dk_seg dksX4_readsStatement_0 16 rfl rfl
theorem dksX4_readsStatement_2 : cX4_readsStatement.data.toList.drop 68 = dktX4_readsStatement_2 := dk_seg dksX4_readsStatement_1 52 rfl rfl
theorem dksX4_readsStatement_3 : cX4_readsStatement.data.toList.drop 92 = dktX4_readsStatement_3 := dk_seg dksX4_readsStatement_2 24 rfl rfl
theorem dksX4_readsStatement_4 : cX4_readsStatement.data.toList.drop 116 = dktX4_readsStatement_4 := dk_seg dksX4_readsStatement_3 24 rfl rfl
theorem dksX4_readsStatement_5 : cX4_readsStatement.data.toList.drop 138 = dktX4_readsStatement_5 := dk_seg dksX4_readsStatement_4 22 rfl rfl
theorem dksX4_readsStatement_6 : cX4_readsStatement.data.toList.drop 162 = dktX4_readsStatement_6 := dk_seg dksX4_readsStatement_5 24 rfl rfl
theorem dksX4_readsStatement_7 : cX4_readsStatement.data.toList.drop 184 = dktX4_readsStatement_7 := dk_seg dksX4_readsStatement_6 22 rfl rfl
theorem dksX4_readsStatement_8 : cX4_readsStatement.data.toList.drop 206 = dktX4_readsStatement_8 := dk_seg dksX4_readsStatement_7 22 rfl rfl
theorem dX4_readsStatement_0 : decode cX4_readsStatement 0 = .ok (.aload_n 0, 1) := dk_42 (dk_at dksX4_readsStatement_0 0 rfl rfl)
theorem dX4_readsStatement_1 : decode cX4_readsStatement 1 = .ok (.invokevirtual 109, 3) := dk_182 0 109 (dk_at dksX4_readsStatement_0 1 rfl rfl)
theorem dX4_readsStatement_4 : decode cX4_readsStatement 4 = .ok (.istore_n 1, 1) := dk_60 (dk_at dksX4_readsStatement_0 4 rfl rfl)
theorem dX4_readsStatement_5 : decode cX4_readsStatement 5 = .ok (.aload_n 0, 1) := dk_42 (dk_at dksX4_readsStatement_0 5 rfl rfl)
theorem dX4_readsStatement_6 : decode cX4_readsStatement 6 = .ok (.dup, 1) := dk_89 (dk_at dksX4_readsStatement_0 6 rfl rfl)
theorem dX4_readsStatement_7 : decode cX4_readsStatement 7 = .ok (.getfield 99, 3) := dk_180 0 99 (dk_at dksX4_readsStatement_0 7 rfl rfl)
theorem dX4_readsStatement_10 : decode cX4_readsStatement 10 = .ok (.iconst 1, 1) := dk_4 (dk_at dksX4_readsStatement_0 10 rfl rfl)
theorem dX4_readsStatement_11 : decode cX4_readsStatement 11 = .ok (.iadd, 1) := dk_96 (dk_at dksX4_readsStatement_0 11 rfl rfl)
theorem dX4_readsStatement_12 : decode cX4_readsStatement 12 = .ok (.putfield 99, 3) := dk_181 0 99 (dk_at dksX4_readsStatement_0 12 rfl rfl)
theorem dX4_readsStatement_15 : decode cX4_readsStatement 15 = .ok (.iload_n 1, 1) := dk_27 (dk_at dksX4_readsStatement_0 15 rfl rfl)
theorem dX4_readsStatement_16 : decode cX4_readsStatement 16 = .ok (.lookupswitch 161 #[(99, 97), (104, 134), (108, 134), (112, 52), (116, 107)], 52) := by decide +kernel
theorem dX4_readsStatement_68 : decode cX4_readsStatement 68 = .ok (.aload_n 0, 1) := dk_42 (dk_at dksX4_readsStatement_2 0 rfl rfl)
theorem dX4_readsStatement_69 : decode cX4_readsStatement 69 = .ok (.iconst 0, 1) := dk_3 (dk_at dksX4_readsStatement_2 1 rfl rfl)
theorem dX4_readsStatement_70 : decode cX4_readsStatement 70 = .ok (.iconst 1, 1) := dk_4 (dk_at dksX4_readsStatement_2 2 rfl rfl)
theorem dX4_readsStatement_71 : decode cX4_readsStatement 71 = .ok (.invokevirtual 113, 3) := dk_182 0 113 (dk_at dksX4_readsStatement_2 3 rfl rfl)
theorem dX4_readsStatement_74 : decode cX4_readsStatement 74 = .ok (.ifCond .eq 34, 3) := dk_153 0 34 (dk_at dksX4_readsStatement_2 6 rfl rfl)
theorem dX4_readsStatement_77 : decode cX4_readsStatement 77 = .ok (.aload_n 0, 1) := dk_42 (dk_at dksX4_readsStatement_2 9 rfl rfl)
theorem dX4_readsStatement_78 : decode cX4_readsStatement 78 = .ok (.iconst 1, 1) := dk_4 (dk_at dksX4_readsStatement_2 10 rfl rfl)
theorem dX4_readsStatement_79 : decode cX4_readsStatement 79 = .ok (.iconst 1, 1) := dk_4 (dk_at dksX4_readsStatement_2 11 rfl rfl)
theorem dX4_readsStatement_80 : decode cX4_readsStatement 80 = .ok (.invokevirtual 113, 3) := dk_182 0 113 (dk_at dksX4_readsStatement_2 12 rfl rfl)
theorem dX4_readsStatement_83 : decode cX4_readsStatement 83 = .ok (.ifCond .eq 25, 3) := dk_153 0 25 (dk_at dksX4_readsStatement_2 15 rfl rfl)
theorem dX4_readsStatement_86 : decode cX4_readsStatement 86 = .ok (.aload_n 0, 1) := dk_42 (dk_at dksX4_readsStatement_2 18 rfl rfl)
theorem dX4_readsStatement_87 : decode cX4_readsStatement 87 = .ok (.iconst 2, 1) := dk_5 (dk_at dksX4_readsStatement_2 19 rfl rfl)
theorem dX4_readsStatement_88 : decode cX4_readsStatement 88 = .ok (.iconst 2, 1) := dk_5 (dk_at dksX4_readsStatement_2 20 rfl rfl)
theorem dX4_readsStatement_89 : decode cX4_readsStatement 89 = .ok (.invokevirtual 113, 3) := dk_182 0 113 (dk_at dksX4_readsStatement_2 21 rfl rfl)
theorem dX4_readsStatement_92 : decode cX4_readsStatement 92 = .ok (.ifCond .eq 16, 3) := dk_153 0 16 (dk_at dksX4_readsStatement_3 0 rfl rfl)
theorem dX4_readsStatement_95 : decode cX4_readsStatement 95 = .ok (.aload_n 0, 1) := dk_42 (dk_at dksX4_readsStatement_3 3 rfl rfl)
theorem dX4_readsStatement_96 : decode cX4_readsStatement 96 = .ok (.iconst 3, 1) := dk_6 (dk_at dksX4_readsStatement_3 4 rfl rfl)
theorem dX4_readsStatement_97 : decode cX4_readsStatement 97 = .ok (.iconst 2, 1) := dk_5 (dk_at dksX4_readsStatement_3 5 rfl rfl)
theorem dX4_readsStatement_98 : decode cX4_readsStatement 98 = .ok (.invokevirtual 113, 3) := dk_182 0 113 (dk_at dksX4_readsStatement_3 6 rfl rfl)
theorem dX4_readsStatement_101 : decode cX4_readsStatement 101 = .ok (.ifCond .eq 7, 3) := dk_153 0 7 (dk_at dksX4_readsStatement_3 9 rfl rfl)
theorem dX4_readsStatement_104 : decode cX4_readsStatement 104 = .ok (.iconst 1, 1) := dk_4 (dk_at dksX4_readsStatement_3 12 rfl rfl)
theorem dX4_readsStatement_105 : decode cX4_readsStatement 105 = .ok (.goto 4, 3) := dk_167 0 4 (dk_at dksX4_readsStatement_3 13 rfl rfl)
theorem dX4_readsStatement_108 : decode cX4_readsStatement 108 = .ok (.iconst 0, 1) := dk_3 (dk_at dksX4_readsStatement_3 16 rfl rfl)
theorem dX4_readsStatement_109 : decode cX4_readsStatement 109 = .ok (.istore_n 2, 1) := dk_61 (dk_at dksX4_readsStatement_3 17 rfl rfl)
theorem dX4_readsStatement_110 : decode cX4_readsStatement 110 = .ok (.goto 79, 3) := dk_167 0 79 (dk_at dksX4_readsStatement_3 18 rfl rfl)
theorem dX4_readsStatement_113 : decode cX4_readsStatement 113 = .ok (.aload_n 0, 1) := dk_42 (dk_at dksX4_readsStatement_3 21 rfl rfl)
theorem dX4_readsStatement_114 : decode cX4_readsStatement 114 = .ok (.iconst 0, 1) := dk_3 (dk_at dksX4_readsStatement_3 22 rfl rfl)
theorem dX4_readsStatement_115 : decode cX4_readsStatement 115 = .ok (.iconst 2, 1) := dk_5 (dk_at dksX4_readsStatement_3 23 rfl rfl)
theorem dX4_readsStatement_116 : decode cX4_readsStatement 116 = .ok (.invokevirtual 113, 3) := dk_182 0 113 (dk_at dksX4_readsStatement_4 0 rfl rfl)
theorem dX4_readsStatement_119 : decode cX4_readsStatement 119 = .ok (.istore_n 2, 1) := dk_61 (dk_at dksX4_readsStatement_4 3 rfl rfl)
theorem dX4_readsStatement_120 : decode cX4_readsStatement 120 = .ok (.goto 69, 3) := dk_167 0 69 (dk_at dksX4_readsStatement_4 4 rfl rfl)
theorem dX4_readsStatement_123 : decode cX4_readsStatement 123 = .ok (.aload_n 0, 1) := dk_42 (dk_at dksX4_readsStatement_4 7 rfl rfl)
theorem dX4_readsStatement_124 : decode cX4_readsStatement 124 = .ok (.iconst 0, 1) := dk_3 (dk_at dksX4_readsStatement_4 8 rfl rfl)
theorem dX4_readsStatement_125 : decode cX4_readsStatement 125 = .ok (.iconst 1, 1) := dk_4 (dk_at dksX4_readsStatement_4 9 rfl rfl)
theorem dX4_readsStatement_126 : decode cX4_readsStatement 126 = .ok (.invokevirtual 113, 3) := dk_182 0 113 (dk_at dksX4_readsStatement_4 10 rfl rfl)
theorem dX4_readsStatement_129 : decode cX4_readsStatement 129 = .ok (.ifCond .eq 16, 3) := dk_153 0 16 (dk_at dksX4_readsStatement_4 13 rfl rfl)
theorem dX4_readsStatement_132 : decode cX4_readsStatement 132 = .ok (.aload_n 0, 1) := dk_42 (dk_at dksX4_readsStatement_4 16 rfl rfl)
theorem dX4_readsStatement_133 : decode cX4_readsStatement 133 = .ok (.iconst 1, 1) := dk_4 (dk_at dksX4_readsStatement_4 17 rfl rfl)
theorem dX4_readsStatement_134 : decode cX4_readsStatement 134 = .ok (.iconst 1, 1) := dk_4 (dk_at dksX4_readsStatement_4 18 rfl rfl)
theorem dX4_readsStatement_135 : decode cX4_readsStatement 135 = .ok (.invokevirtual 113, 3) := dk_182 0 113 (dk_at dksX4_readsStatement_4 19 rfl rfl)
theorem dX4_readsStatement_138 : decode cX4_readsStatement 138 = .ok (.ifCond .eq 7, 3) := dk_153 0 7 (dk_at dksX4_readsStatement_5 0 rfl rfl)
theorem dX4_readsStatement_141 : decode cX4_readsStatement 141 = .ok (.iconst 1, 1) := dk_4 (dk_at dksX4_readsStatement_5 3 rfl rfl)
theorem dX4_readsStatement_142 : decode cX4_readsStatement 142 = .ok (.goto 4, 3) := dk_167 0 4 (dk_at dksX4_readsStatement_5 4 rfl rfl)
theorem dX4_readsStatement_145 : decode cX4_readsStatement 145 = .ok (.iconst 0, 1) := dk_3 (dk_at dksX4_readsStatement_5 7 rfl rfl)
theorem dX4_readsStatement_146 : decode cX4_readsStatement 146 = .ok (.istore_n 2, 1) := dk_61 (dk_at dksX4_readsStatement_5 8 rfl rfl)
theorem dX4_readsStatement_147 : decode cX4_readsStatement 147 = .ok (.goto 42, 3) := dk_167 0 42 (dk_at dksX4_readsStatement_5 9 rfl rfl)
theorem dX4_readsStatement_150 : decode cX4_readsStatement 150 = .ok (.aload_n 0, 1) := dk_42 (dk_at dksX4_readsStatement_5 12 rfl rfl)
theorem dX4_readsStatement_151 : decode cX4_readsStatement 151 = .ok (.iconst 0, 1) := dk_3 (dk_at dksX4_readsStatement_5 13 rfl rfl)
theorem dX4_readsStatement_152 : decode cX4_readsStatement 152 = .ok (.iconst 1, 1) := dk_4 (dk_at dksX4_readsStatement_5 14 rfl rfl)
theorem dX4_readsStatement_153 : decode cX4_readsStatement 153 = .ok (.invokevirtual 113, 3) := dk_182 0 113 (dk_at dksX4_readsStatement_5 15 rfl rfl)
theorem dX4_readsStatement_156 : decode cX4_readsStatement 156 = .ok (.ifCond .eq 16, 3) := dk_153 0 16 (dk_at dksX4_readsStatement_5 18 rfl rfl)
theorem dX4_readsStatement_159 : decode cX4_readsStatement 159 = .ok (.aload_n 0, 1) := dk_42 (dk_at dksX4_readsStatement_5 21 rfl rfl)
theorem dX4_readsStatement_160 : decode cX4_readsStatement 160 = .ok (.iconst 1, 1) := dk_4 (dk_at dksX4_readsStatement_5 22 rfl rfl)
theorem dX4_readsStatement_161 : decode cX4_readsStatement 161 = .ok (.iconst 2, 1) := dk_5 (dk_at dksX4_readsStatement_5 23 rfl rfl)
theorem dX4_readsStatement_162 : decode cX4_readsStatement 162 = .ok (.invokevirtual 113, 3) := dk_182 0 113 (dk_at dksX4_readsStatement_6 0 rfl rfl)
theorem dX4_readsStatement_165 : decode cX4_readsStatement 165 = .ok (.ifCond .eq 7, 3) := dk_153 0 7 (dk_at dksX4_readsStatement_6 3 rfl rfl)
theorem dX4_readsStatement_168 : decode cX4_readsStatement 168 = .ok (.iconst 1, 1) := dk_4 (dk_at dksX4_readsStatement_6 6 rfl rfl)
theorem dX4_readsStatement_169 : decode cX4_readsStatement 169 = .ok (.goto 4, 3) := dk_167 0 4 (dk_at dksX4_readsStatement_6 7 rfl rfl)
theorem dX4_readsStatement_172 : decode cX4_readsStatement 172 = .ok (.iconst 0, 1) := dk_3 (dk_at dksX4_readsStatement_6 10 rfl rfl)
theorem dX4_readsStatement_173 : decode cX4_readsStatement 173 = .ok (.istore_n 2, 1) := dk_61 (dk_at dksX4_readsStatement_6 11 rfl rfl)
theorem dX4_readsStatement_174 : decode cX4_readsStatement 174 = .ok (.goto 15, 3) := dk_167 0 15 (dk_at dksX4_readsStatement_6 12 rfl rfl)
theorem dX4_readsStatement_177 : decode cX4_readsStatement 177 = .ok (.aload_n 0, 1) := dk_42 (dk_at dksX4_readsStatement_6 15 rfl rfl)
theorem dX4_readsStatement_178 : decode cX4_readsStatement 178 = .ok (.dup, 1) := dk_89 (dk_at dksX4_readsStatement_6 16 rfl rfl)
theorem dX4_readsStatement_179 : decode cX4_readsStatement 179 = .ok (.getfield 99, 3) := dk_180 0 99 (dk_at dksX4_readsStatement_6 17 rfl rfl)
theorem dX4_readsStatement_182 : decode cX4_readsStatement 182 = .ok (.iconst 1, 1) := dk_4 (dk_at dksX4_readsStatement_6 20 rfl rfl)
theorem dX4_readsStatement_183 : decode cX4_readsStatement 183 = .ok (.isub, 1) := dk_100 (dk_at dksX4_readsStatement_6 21 rfl rfl)
theorem dX4_readsStatement_184 : decode cX4_readsStatement 184 = .ok (.putfield 99, 3) := dk_181 0 99 (dk_at dksX4_readsStatement_7 0 rfl rfl)
theorem dX4_readsStatement_187 : decode cX4_readsStatement 187 = .ok (.iconst 0, 1) := dk_3 (dk_at dksX4_readsStatement_7 3 rfl rfl)
theorem dX4_readsStatement_188 : decode cX4_readsStatement 188 = .ok (.ireturn, 1) := dk_172 (dk_at dksX4_readsStatement_7 4 rfl rfl)
theorem dX4_readsStatement_189 : decode cX4_readsStatement 189 = .ok (.iload_n 2, 1) := dk_28 (dk_at dksX4_readsStatement_7 5 rfl rfl)
theorem dX4_readsStatement_190 : decode cX4_readsStatement 190 = .ok (.ifCond .eq 12, 3) := dk_153 0 12 (dk_at dksX4_readsStatement_7 6 rfl rfl)
theorem dX4_readsStatement_193 : decode cX4_readsStatement 193 = .ok (.aload_n 0, 1) := dk_42 (dk_at dksX4_readsStatement_7 9 rfl rfl)
theorem dX4_readsStatement_194 : decode cX4_readsStatement 194 = .ok (.invokevirtual 109, 3) := dk_182 0 109 (dk_at dksX4_readsStatement_7 10 rfl rfl)
theorem dX4_readsStatement_197 : decode cX4_readsStatement 197 = .ok (.bipush 59, 2) := dk_16 59 (dk_at dksX4_readsStatement_7 13 rfl rfl)
theorem dX4_readsStatement_199 : decode cX4_readsStatement 199 = .ok (.if_icmp .eq 5, 3) := dk_159 0 5 (dk_at dksX4_readsStatement_7 15 rfl rfl)
theorem dX4_readsStatement_202 : decode cX4_readsStatement 202 = .ok (.iconst 0, 1) := dk_3 (dk_at dksX4_readsStatement_7 18 rfl rfl)
theorem dX4_readsStatement_203 : decode cX4_readsStatement 203 = .ok (.ireturn, 1) := dk_172 (dk_at dksX4_readsStatement_7 19 rfl rfl)
theorem dX4_readsStatement_204 : decode cX4_readsStatement 204 = .ok (.aload_n 0, 1) := dk_42 (dk_at dksX4_readsStatement_7 20 rfl rfl)
theorem dX4_readsStatement_205 : decode cX4_readsStatement 205 = .ok (.dup, 1) := dk_89 (dk_at dksX4_readsStatement_7 21 rfl rfl)
theorem dX4_readsStatement_206 : decode cX4_readsStatement 206 = .ok (.getfield 99, 3) := dk_180 0 99 (dk_at dksX4_readsStatement_8 0 rfl rfl)
theorem dX4_readsStatement_209 : decode cX4_readsStatement 209 = .ok (.iconst 1, 1) := dk_4 (dk_at dksX4_readsStatement_8 3 rfl rfl)
theorem dX4_readsStatement_210 : decode cX4_readsStatement 210 = .ok (.iadd, 1) := dk_96 (dk_at dksX4_readsStatement_8 4 rfl rfl)
theorem dX4_readsStatement_211 : decode cX4_readsStatement 211 = .ok (.putfield 99, 3) := dk_181 0 99 (dk_at dksX4_readsStatement_8 5 rfl rfl)
theorem dX4_readsStatement_214 : decode cX4_readsStatement 214 = .ok (.iconst 1, 1) := dk_4 (dk_at dksX4_readsStatement_8 8 rfl rfl)
theorem dX4_readsStatement_215 : decode cX4_readsStatement 215 = .ok (.ireturn, 1) := dk_172 (dk_at dksX4_readsStatement_8 9 rfl rfl)
abbrev cX4_here : ByteArray := prog_21_method_21_code
def yX4_here : MethodName := ⟨RX4, "here", "()I"⟩
def dkwX4_here_1 : List UInt8 := [46, 17, 0, 255, 126, 167, 0, 4, 2, 172]
abbrev dktX4_here_1 : List UInt8 := dkwX4_here_1 ++ []
def dkwX4_here_0 : List UInt8 := [42, 180, 0, 99, 42, 180, 0, 103, 162, 0, 24, 42, 180, 0, 46, 42, 180, 0, 106, 42, 180, 0, 99, 96]
abbrev dktX4_here_0 : List UInt8 := dkwX4_here_0 ++ dktX4_here_1
theorem dksX4_here_0 : cX4_here.data.toList.drop 0 = dktX4_here_0 := by decide +kernel
theorem dksX4_here_1 : cX4_here.data.toList.drop 24 = dktX4_here_1 := dk_seg dksX4_here_0 24 rfl rfl
theorem dX4_here_0 : decode cX4_here 0 = .ok (.aload_n 0, 1) := dk_42 (dk_at dksX4_here_0 0 rfl rfl)
theorem dX4_here_1 : decode cX4_here 1 = .ok (.getfield 99, 3) := dk_180 0 99 (dk_at dksX4_here_0 1 rfl rfl)
theorem dX4_here_4 : decode cX4_here 4 = .ok (.aload_n 0, 1) := dk_42 (dk_at dksX4_here_0 4 rfl rfl)
theorem dX4_here_5 : decode cX4_here 5 = .ok (.getfield 103, 3) := dk_180 0 103 (dk_at dksX4_here_0 5 rfl rfl)
theorem dX4_here_8 : decode cX4_here 8 = .ok (.if_icmp .ge 24, 3) := dk_162 0 24 (dk_at dksX4_here_0 8 rfl rfl)
theorem dX4_here_11 : decode cX4_here 11 = .ok (.aload_n 0, 1) := dk_42 (dk_at dksX4_here_0 11 rfl rfl)
theorem dX4_here_12 : decode cX4_here 12 = .ok (.getfield 46, 3) := dk_180 0 46 (dk_at dksX4_here_0 12 rfl rfl)
theorem dX4_here_15 : decode cX4_here 15 = .ok (.aload_n 0, 1) := dk_42 (dk_at dksX4_here_0 15 rfl rfl)
theorem dX4_here_16 : decode cX4_here 16 = .ok (.getfield 106, 3) := dk_180 0 106 (dk_at dksX4_here_0 16 rfl rfl)
theorem dX4_here_19 : decode cX4_here 19 = .ok (.aload_n 0, 1) := dk_42 (dk_at dksX4_here_0 19 rfl rfl)
theorem dX4_here_20 : decode cX4_here 20 = .ok (.getfield 99, 3) := dk_180 0 99 (dk_at dksX4_here_0 20 rfl rfl)
theorem dX4_here_23 : decode cX4_here 23 = .ok (.iadd, 1) := dk_96 (dk_at dksX4_here_0 23 rfl rfl)
theorem dX4_here_24 : decode cX4_here 24 = .ok (.iaload, 1) := dk_46 (dk_at dksX4_here_1 0 rfl rfl)
theorem dX4_here_25 : decode cX4_here 25 = .ok (.sipush 255, 3) := dk_17 0 255 (dk_at dksX4_here_1 1 rfl rfl)
theorem dX4_here_28 : decode cX4_here 28 = .ok (.iand, 1) := dk_126 (dk_at dksX4_here_1 4 rfl rfl)
theorem dX4_here_29 : decode cX4_here 29 = .ok (.goto 4, 3) := dk_167 0 4 (dk_at dksX4_here_1 5 rfl rfl)
theorem dX4_here_32 : decode cX4_here 32 = .ok (.iconst (-1), 1) := dk_2 (dk_at dksX4_here_1 8 rfl rfl)
theorem dX4_here_33 : decode cX4_here 33 = .ok (.ireturn, 1) := dk_172 (dk_at dksX4_here_1 9 rfl rfl)
abbrev cX4_readsNumber : ByteArray := prog_21_method_22_code
def yX4_readsNumber : MethodName := ⟨RX4, "readsNumber", "(II)Z"⟩
def dkwX4_readsNumber_3 : List UInt8 := [4, 172]
abbrev dktX4_readsNumber_3 : List UInt8 := dkwX4_readsNumber_3 ++ []
def dkwX4_readsNumber_2 : List UInt8 := [182, 0, 109, 96, 16, 48, 100, 79, 42, 89, 180, 0, 99, 4, 96, 181, 0, 99, 132, 3, 1, 167, 255, 199]
abbrev dktX4_readsNumber_2 : List UInt8 := dkwX4_readsNumber_2 ++ dktX4_readsNumber_3
def dkwX4_readsNumber_1 : List UInt8 := [184, 0, 49, 154, 0, 5, 3, 172, 42, 180, 0, 22, 27, 16, 10, 42, 180, 0, 22, 27, 46, 104, 42]
abbrev dktX4_readsNumber_1 : List UInt8 := dkwX4_readsNumber_1 ++ dktX4_readsNumber_2
def dkwX4_readsNumber_0 : List UInt8 := [42, 180, 0, 22, 27, 3, 79, 3, 62, 29, 28, 162, 0, 58, 42, 182, 0, 109, 16, 48, 16, 57]
abbrev dktX4_readsNumber_0 : List UInt8 := dkwX4_readsNumber_0 ++ dktX4_readsNumber_1
theorem dksX4_readsNumber_0 : cX4_readsNumber.data.toList.drop 0 = dktX4_readsNumber_0 := by decide +kernel
theorem dksX4_readsNumber_1 : cX4_readsNumber.data.toList.drop 22 = dktX4_readsNumber_1 := dk_seg dksX4_readsNumber_0 22 rfl rfl
theorem dksX4_readsNumber_2 : cX4_readsNumber.data.toList.drop 45 = dktX4_readsNumber_2 := dk_seg dksX4_readsNumber_1 23 rfl rfl
theorem dksX4_readsNumber_3 : cX4_readsNumber.data.toList.drop 69 = dktX4_readsNumber_3 := dk_seg dksX4_readsNumber_2 24 rfl rfl
theorem dX4_readsNumber_0 : decode cX4_readsNumber 0 = .ok (.aload_n 0, 1) := dk_42 (dk_at dksX4_readsNumber_0 0 rfl rfl)
theorem dX4_readsNumber_1 : decode cX4_readsNumber 1 = .ok (.getfield 22, 3) := dk_180 0 22 (dk_at dksX4_readsNumber_0 1 rfl rfl)
theorem dX4_readsNumber_4 : decode cX4_readsNumber 4 = .ok (.iload_n 1, 1) := dk_27 (dk_at dksX4_readsNumber_0 4 rfl rfl)
theorem dX4_readsNumber_5 : decode cX4_readsNumber 5 = .ok (.iconst 0, 1) := dk_3 (dk_at dksX4_readsNumber_0 5 rfl rfl)
theorem dX4_readsNumber_6 : decode cX4_readsNumber 6 = .ok (.iastore, 1) := dk_79 (dk_at dksX4_readsNumber_0 6 rfl rfl)
theorem dX4_readsNumber_7 : decode cX4_readsNumber 7 = .ok (.iconst 0, 1) := dk_3 (dk_at dksX4_readsNumber_0 7 rfl rfl)
theorem dX4_readsNumber_8 : decode cX4_readsNumber 8 = .ok (.istore_n 3, 1) := dk_62 (dk_at dksX4_readsNumber_0 8 rfl rfl)
theorem dX4_readsNumber_9 : decode cX4_readsNumber 9 = .ok (.iload_n 3, 1) := dk_29 (dk_at dksX4_readsNumber_0 9 rfl rfl)
theorem dX4_readsNumber_10 : decode cX4_readsNumber 10 = .ok (.iload_n 2, 1) := dk_28 (dk_at dksX4_readsNumber_0 10 rfl rfl)
theorem dX4_readsNumber_11 : decode cX4_readsNumber 11 = .ok (.if_icmp .ge 58, 3) := dk_162 0 58 (dk_at dksX4_readsNumber_0 11 rfl rfl)
theorem dX4_readsNumber_14 : decode cX4_readsNumber 14 = .ok (.aload_n 0, 1) := dk_42 (dk_at dksX4_readsNumber_0 14 rfl rfl)
theorem dX4_readsNumber_15 : decode cX4_readsNumber 15 = .ok (.invokevirtual 109, 3) := dk_182 0 109 (dk_at dksX4_readsNumber_0 15 rfl rfl)
theorem dX4_readsNumber_18 : decode cX4_readsNumber 18 = .ok (.bipush 48, 2) := dk_16 48 (dk_at dksX4_readsNumber_0 18 rfl rfl)
theorem dX4_readsNumber_20 : decode cX4_readsNumber 20 = .ok (.bipush 57, 2) := dk_16 57 (dk_at dksX4_readsNumber_0 20 rfl rfl)
theorem dX4_readsNumber_22 : decode cX4_readsNumber 22 = .ok (.invokestatic 49, 3) := dk_184 0 49 (dk_at dksX4_readsNumber_1 0 rfl rfl)
theorem dX4_readsNumber_25 : decode cX4_readsNumber 25 = .ok (.ifCond .ne 5, 3) := dk_154 0 5 (dk_at dksX4_readsNumber_1 3 rfl rfl)
theorem dX4_readsNumber_28 : decode cX4_readsNumber 28 = .ok (.iconst 0, 1) := dk_3 (dk_at dksX4_readsNumber_1 6 rfl rfl)
theorem dX4_readsNumber_29 : decode cX4_readsNumber 29 = .ok (.ireturn, 1) := dk_172 (dk_at dksX4_readsNumber_1 7 rfl rfl)
theorem dX4_readsNumber_30 : decode cX4_readsNumber 30 = .ok (.aload_n 0, 1) := dk_42 (dk_at dksX4_readsNumber_1 8 rfl rfl)
theorem dX4_readsNumber_31 : decode cX4_readsNumber 31 = .ok (.getfield 22, 3) := dk_180 0 22 (dk_at dksX4_readsNumber_1 9 rfl rfl)
theorem dX4_readsNumber_34 : decode cX4_readsNumber 34 = .ok (.iload_n 1, 1) := dk_27 (dk_at dksX4_readsNumber_1 12 rfl rfl)
theorem dX4_readsNumber_35 : decode cX4_readsNumber 35 = .ok (.bipush 10, 2) := dk_16 10 (dk_at dksX4_readsNumber_1 13 rfl rfl)
theorem dX4_readsNumber_37 : decode cX4_readsNumber 37 = .ok (.aload_n 0, 1) := dk_42 (dk_at dksX4_readsNumber_1 15 rfl rfl)
theorem dX4_readsNumber_38 : decode cX4_readsNumber 38 = .ok (.getfield 22, 3) := dk_180 0 22 (dk_at dksX4_readsNumber_1 16 rfl rfl)
theorem dX4_readsNumber_41 : decode cX4_readsNumber 41 = .ok (.iload_n 1, 1) := dk_27 (dk_at dksX4_readsNumber_1 19 rfl rfl)
theorem dX4_readsNumber_42 : decode cX4_readsNumber 42 = .ok (.iaload, 1) := dk_46 (dk_at dksX4_readsNumber_1 20 rfl rfl)
theorem dX4_readsNumber_43 : decode cX4_readsNumber 43 = .ok (.imul, 1) := dk_104 (dk_at dksX4_readsNumber_1 21 rfl rfl)
theorem dX4_readsNumber_44 : decode cX4_readsNumber 44 = .ok (.aload_n 0, 1) := dk_42 (dk_at dksX4_readsNumber_1 22 rfl rfl)
theorem dX4_readsNumber_45 : decode cX4_readsNumber 45 = .ok (.invokevirtual 109, 3) := dk_182 0 109 (dk_at dksX4_readsNumber_2 0 rfl rfl)
theorem dX4_readsNumber_48 : decode cX4_readsNumber 48 = .ok (.iadd, 1) := dk_96 (dk_at dksX4_readsNumber_2 3 rfl rfl)
theorem dX4_readsNumber_49 : decode cX4_readsNumber 49 = .ok (.bipush 48, 2) := dk_16 48 (dk_at dksX4_readsNumber_2 4 rfl rfl)
theorem dX4_readsNumber_51 : decode cX4_readsNumber 51 = .ok (.isub, 1) := dk_100 (dk_at dksX4_readsNumber_2 6 rfl rfl)
theorem dX4_readsNumber_52 : decode cX4_readsNumber 52 = .ok (.iastore, 1) := dk_79 (dk_at dksX4_readsNumber_2 7 rfl rfl)
theorem dX4_readsNumber_53 : decode cX4_readsNumber 53 = .ok (.aload_n 0, 1) := dk_42 (dk_at dksX4_readsNumber_2 8 rfl rfl)
theorem dX4_readsNumber_54 : decode cX4_readsNumber 54 = .ok (.dup, 1) := dk_89 (dk_at dksX4_readsNumber_2 9 rfl rfl)
theorem dX4_readsNumber_55 : decode cX4_readsNumber 55 = .ok (.getfield 99, 3) := dk_180 0 99 (dk_at dksX4_readsNumber_2 10 rfl rfl)
theorem dX4_readsNumber_58 : decode cX4_readsNumber 58 = .ok (.iconst 1, 1) := dk_4 (dk_at dksX4_readsNumber_2 13 rfl rfl)
theorem dX4_readsNumber_59 : decode cX4_readsNumber 59 = .ok (.iadd, 1) := dk_96 (dk_at dksX4_readsNumber_2 14 rfl rfl)
theorem dX4_readsNumber_60 : decode cX4_readsNumber 60 = .ok (.putfield 99, 3) := dk_181 0 99 (dk_at dksX4_readsNumber_2 15 rfl rfl)
theorem dX4_readsNumber_63 : decode cX4_readsNumber 63 = .ok (.iinc 3 1, 3) := dk_132 3 1 (dk_at dksX4_readsNumber_2 18 rfl rfl)
theorem dX4_readsNumber_66 : decode cX4_readsNumber 66 = .ok (.goto (-57), 3) := dk_167 255 199 (dk_at dksX4_readsNumber_2 21 rfl rfl)
theorem dX4_readsNumber_69 : decode cX4_readsNumber 69 = .ok (.iconst 1, 1) := dk_4 (dk_at dksX4_readsNumber_3 0 rfl rfl)
theorem dX4_readsNumber_70 : decode cX4_readsNumber 70 = .ok (.ireturn, 1) := dk_172 (dk_at dksX4_readsNumber_3 1 rfl rfl)
abbrev cX4_copies : ByteArray := prog_21_method_5_code
def yX4_copies : MethodName := ⟨RX4, "copies", "([I[I)V"⟩
def dkwX4_copies_0 : List UInt8 := [3, 61, 28, 16, 57, 162, 0, 15, 43, 28, 42, 28, 46, 79, 132, 2, 1, 167, 255, 241, 177]
abbrev dktX4_copies_0 : List UInt8 := dkwX4_copies_0 ++ []
theorem dksX4_copies_0 : cX4_copies.data.toList.drop 0 = dktX4_copies_0 := by decide +kernel
theorem dX4_copies_0 : decode cX4_copies 0 = .ok (.iconst 0, 1) := dk_3 (dk_at dksX4_copies_0 0 rfl rfl)
theorem dX4_copies_1 : decode cX4_copies 1 = .ok (.istore_n 2, 1) := dk_61 (dk_at dksX4_copies_0 1 rfl rfl)
theorem dX4_copies_2 : decode cX4_copies 2 = .ok (.iload_n 2, 1) := dk_28 (dk_at dksX4_copies_0 2 rfl rfl)
theorem dX4_copies_3 : decode cX4_copies 3 = .ok (.bipush 57, 2) := dk_16 57 (dk_at dksX4_copies_0 3 rfl rfl)
theorem dX4_copies_5 : decode cX4_copies 5 = .ok (.if_icmp .ge 15, 3) := dk_162 0 15 (dk_at dksX4_copies_0 5 rfl rfl)
theorem dX4_copies_8 : decode cX4_copies 8 = .ok (.aload_n 1, 1) := dk_43 (dk_at dksX4_copies_0 8 rfl rfl)
theorem dX4_copies_9 : decode cX4_copies 9 = .ok (.iload_n 2, 1) := dk_28 (dk_at dksX4_copies_0 9 rfl rfl)
theorem dX4_copies_10 : decode cX4_copies 10 = .ok (.aload_n 0, 1) := dk_42 (dk_at dksX4_copies_0 10 rfl rfl)
theorem dX4_copies_11 : decode cX4_copies 11 = .ok (.iload_n 2, 1) := dk_28 (dk_at dksX4_copies_0 11 rfl rfl)
theorem dX4_copies_12 : decode cX4_copies 12 = .ok (.iaload, 1) := dk_46 (dk_at dksX4_copies_0 12 rfl rfl)
theorem dX4_copies_13 : decode cX4_copies 13 = .ok (.iastore, 1) := dk_79 (dk_at dksX4_copies_0 13 rfl rfl)
theorem dX4_copies_14 : decode cX4_copies 14 = .ok (.iinc 2 1, 3) := dk_132 2 1 (dk_at dksX4_copies_0 14 rfl rfl)
theorem dX4_copies_17 : decode cX4_copies 17 = .ok (.goto (-15), 3) := dk_167 255 241 (dk_at dksX4_copies_0 17 rfl rfl)
theorem dX4_copies_20 : decode cX4_copies 20 = .ok (.return_, 1) := dk_177 (dk_at dksX4_copies_0 20 rfl rfl)
abbrev cX4_isDone : ByteArray := prog_21_method_25_code
def yX4_isDone : MethodName := ⟨RX4, "isDone", "(I)Z"⟩
def dkwX4_isDone_8 : List UInt8 := [172, 42, 180, 0, 9, 28, 27, 16, 104, 160, 0, 7, 5, 167, 0, 4, 6, 184, 0, 53, 29, 79, 4, 172]
abbrev dktX4_isDone_8 : List UInt8 := dkwX4_isDone_8 ++ []
def dkwX4_isDone_7 : List UInt8 := [28, 29, 184, 0, 125, 54, 4, 4, 172, 42, 28, 182, 0, 121, 153, 0, 9, 29, 16, 30, 164, 0, 5, 3]
abbrev dktX4_isDone_7 : List UInt8 := dkwX4_isDone_7 ++ dktX4_isDone_8
def dkwX4_isDone_6 : List UInt8 := [184, 0, 91, 153, 0, 15, 42, 180, 0, 9, 5, 46, 17, 3, 231, 160, 0, 5, 3, 172, 42, 180, 0, 9]
abbrev dktX4_isDone_6 : List UInt8 := dkwX4_isDone_6 ++ dktX4_isDone_7
def dkwX4_isDone_5 : List UInt8 := [4, 172, 42, 28, 182, 0, 121, 153, 0, 35, 42, 29, 182, 0, 121, 153, 0, 27, 42, 180, 0, 9, 28, 29]
abbrev dktX4_isDone_5 : List UInt8 := dkwX4_isDone_5 ++ dktX4_isDone_6
def dkwX4_isDone_4 : List UInt8 := [42, 180, 0, 22, 5, 46, 42, 180, 0, 22, 6, 46, 184, 0, 117, 4, 172, 42, 180, 0, 9, 4, 28, 79]
abbrev dktX4_isDone_4 : List UInt8 := dkwX4_isDone_4 ++ dktX4_isDone_5
def dkwX4_isDone_3 : List UInt8 := [16, 30, 163, 0, 14, 42, 180, 0, 9, 3, 46, 16, 8, 160, 0, 5, 3, 172, 42, 180, 0, 9, 28, 29]
abbrev dktX4_isDone_3 : List UInt8 := dkwX4_isDone_3 ++ dktX4_isDone_4
def dkwX4_isDone_2 : List UInt8 := [28, 16, 8, 162, 0, 36, 42, 180, 0, 22, 5, 46, 16, 30, 163, 0, 25, 42, 180, 0, 22, 6, 46]
abbrev dktX4_isDone_2 : List UInt8 := dkwX4_isDone_2 ++ dktX4_isDone_3
def dkwX4_isDone_1 : List UInt8 := [171, 0, 0, 0, 161, 0, 0, 0, 3, 0, 0, 0, 99, 0, 0, 0, 97, 0, 0, 0, 112, 0, 0, 0, 33, 0, 0, 0, 116, 0, 0, 0, 106]
abbrev dktX4_isDone_1 : List UInt8 := dkwX4_isDone_1 ++ dktX4_isDone_2
def dkwX4_isDone_0 : List UInt8 := [42, 180, 0, 22, 3, 46, 61, 42, 180, 0, 22, 4, 46, 62, 27]
abbrev dktX4_isDone_0 : List UInt8 := dkwX4_isDone_0 ++ dktX4_isDone_1
theorem dksX4_isDone_0 : cX4_isDone.data.toList.drop 0 = dktX4_isDone_0 := by decide +kernel
theorem dksX4_isDone_1 : cX4_isDone.data.toList.drop 15 = dktX4_isDone_1 := dk_seg dksX4_isDone_0 15 rfl rfl
theorem dksX4_isDone_2 : cX4_isDone.data.toList.drop 48 = dktX4_isDone_2 := dk_seg dksX4_isDone_1 33 rfl rfl
theorem dksX4_isDone_3 : cX4_isDone.data.toList.drop 71 = dktX4_isDone_3 := dk_seg dksX4_isDone_2 23 rfl rfl
theorem dksX4_isDone_4 : cX4_isDone.data.toList.drop 95 = dktX4_isDone_4 := dk_seg dksX4_isDone_3 24 rfl rfl
theorem dksX4_isDone_5 : cX4_isDone.data.toList.drop 119 = dktX4_isDone_5 := dk_seg dksX4_isDone_4 24 rfl rfl
theorem dksX4_isDone_6 : cX4_isDone.data.toList.drop 143 = dktX4_isDone_6 := dk_seg dksX4_isDone_5 24 rfl rfl
theorem dksX4_isDone_7 : cX4_isDone.data.toList.drop 167 = dktX4_isDone_7 := dk_seg dksX4_isDone_6 24 rfl rfl
theorem dksX4_isDone_8 : cX4_isDone.data.toList.drop 191 = dktX4_isDone_8 := dk_seg dksX4_isDone_7 24 rfl rfl
theorem dX4_isDone_0 : decode cX4_isDone 0 = .ok (.aload_n 0, 1) := dk_42 (dk_at dksX4_isDone_0 0 rfl rfl)
theorem dX4_isDone_1 : decode cX4_isDone 1 = .ok (.getfield 22, 3) := dk_180 0 22 (dk_at dksX4_isDone_0 1 rfl rfl)
theorem dX4_isDone_4 : decode cX4_isDone 4 = .ok (.iconst 0, 1) := dk_3 (dk_at dksX4_isDone_0 4 rfl rfl)
theorem dX4_isDone_5 : decode cX4_isDone 5 = .ok (.iaload, 1) := dk_46 (dk_at dksX4_isDone_0 5 rfl rfl)
theorem dX4_isDone_6 : decode cX4_isDone 6 = .ok (.istore_n 2, 1) := dk_61 (dk_at dksX4_isDone_0 6 rfl rfl)
theorem dX4_isDone_7 : decode cX4_isDone 7 = .ok (.aload_n 0, 1) := dk_42 (dk_at dksX4_isDone_0 7 rfl rfl)
theorem dX4_isDone_8 : decode cX4_isDone 8 = .ok (.getfield 22, 3) := dk_180 0 22 (dk_at dksX4_isDone_0 8 rfl rfl)
theorem dX4_isDone_11 : decode cX4_isDone 11 = .ok (.iconst 1, 1) := dk_4 (dk_at dksX4_isDone_0 11 rfl rfl)
theorem dX4_isDone_12 : decode cX4_isDone 12 = .ok (.iaload, 1) := dk_46 (dk_at dksX4_isDone_0 12 rfl rfl)
theorem dX4_isDone_13 : decode cX4_isDone 13 = .ok (.istore_n 3, 1) := dk_62 (dk_at dksX4_isDone_0 13 rfl rfl)
theorem dX4_isDone_14 : decode cX4_isDone 14 = .ok (.iload_n 1, 1) := dk_27 (dk_at dksX4_isDone_0 14 rfl rfl)
theorem dX4_isDone_15 : decode cX4_isDone 15 = .ok (.lookupswitch 161 #[(99, 97), (112, 33), (116, 106)], 33) := by decide +kernel
theorem dX4_isDone_48 : decode cX4_isDone 48 = .ok (.iload_n 2, 1) := dk_28 (dk_at dksX4_isDone_2 0 rfl rfl)
theorem dX4_isDone_49 : decode cX4_isDone 49 = .ok (.bipush 8, 2) := dk_16 8 (dk_at dksX4_isDone_2 1 rfl rfl)
theorem dX4_isDone_51 : decode cX4_isDone 51 = .ok (.if_icmp .ge 36, 3) := dk_162 0 36 (dk_at dksX4_isDone_2 3 rfl rfl)
theorem dX4_isDone_54 : decode cX4_isDone 54 = .ok (.aload_n 0, 1) := dk_42 (dk_at dksX4_isDone_2 6 rfl rfl)
theorem dX4_isDone_55 : decode cX4_isDone 55 = .ok (.getfield 22, 3) := dk_180 0 22 (dk_at dksX4_isDone_2 7 rfl rfl)
theorem dX4_isDone_58 : decode cX4_isDone 58 = .ok (.iconst 2, 1) := dk_5 (dk_at dksX4_isDone_2 10 rfl rfl)
theorem dX4_isDone_59 : decode cX4_isDone 59 = .ok (.iaload, 1) := dk_46 (dk_at dksX4_isDone_2 11 rfl rfl)
theorem dX4_isDone_60 : decode cX4_isDone 60 = .ok (.bipush 30, 2) := dk_16 30 (dk_at dksX4_isDone_2 12 rfl rfl)
theorem dX4_isDone_62 : decode cX4_isDone 62 = .ok (.if_icmp .gt 25, 3) := dk_163 0 25 (dk_at dksX4_isDone_2 14 rfl rfl)
theorem dX4_isDone_65 : decode cX4_isDone 65 = .ok (.aload_n 0, 1) := dk_42 (dk_at dksX4_isDone_2 17 rfl rfl)
theorem dX4_isDone_66 : decode cX4_isDone 66 = .ok (.getfield 22, 3) := dk_180 0 22 (dk_at dksX4_isDone_2 18 rfl rfl)
theorem dX4_isDone_69 : decode cX4_isDone 69 = .ok (.iconst 3, 1) := dk_6 (dk_at dksX4_isDone_2 21 rfl rfl)
theorem dX4_isDone_70 : decode cX4_isDone 70 = .ok (.iaload, 1) := dk_46 (dk_at dksX4_isDone_2 22 rfl rfl)
theorem dX4_isDone_71 : decode cX4_isDone 71 = .ok (.bipush 30, 2) := dk_16 30 (dk_at dksX4_isDone_3 0 rfl rfl)
theorem dX4_isDone_73 : decode cX4_isDone 73 = .ok (.if_icmp .gt 14, 3) := dk_163 0 14 (dk_at dksX4_isDone_3 2 rfl rfl)
theorem dX4_isDone_76 : decode cX4_isDone 76 = .ok (.aload_n 0, 1) := dk_42 (dk_at dksX4_isDone_3 5 rfl rfl)
theorem dX4_isDone_77 : decode cX4_isDone 77 = .ok (.getfield 9, 3) := dk_180 0 9 (dk_at dksX4_isDone_3 6 rfl rfl)
theorem dX4_isDone_80 : decode cX4_isDone 80 = .ok (.iconst 0, 1) := dk_3 (dk_at dksX4_isDone_3 9 rfl rfl)
theorem dX4_isDone_81 : decode cX4_isDone 81 = .ok (.iaload, 1) := dk_46 (dk_at dksX4_isDone_3 10 rfl rfl)
theorem dX4_isDone_82 : decode cX4_isDone 82 = .ok (.bipush 8, 2) := dk_16 8 (dk_at dksX4_isDone_3 11 rfl rfl)
theorem dX4_isDone_84 : decode cX4_isDone 84 = .ok (.if_icmp .ne 5, 3) := dk_160 0 5 (dk_at dksX4_isDone_3 13 rfl rfl)
theorem dX4_isDone_87 : decode cX4_isDone 87 = .ok (.iconst 0, 1) := dk_3 (dk_at dksX4_isDone_3 16 rfl rfl)
theorem dX4_isDone_88 : decode cX4_isDone 88 = .ok (.ireturn, 1) := dk_172 (dk_at dksX4_isDone_3 17 rfl rfl)
theorem dX4_isDone_89 : decode cX4_isDone 89 = .ok (.aload_n 0, 1) := dk_42 (dk_at dksX4_isDone_3 18 rfl rfl)
theorem dX4_isDone_90 : decode cX4_isDone 90 = .ok (.getfield 9, 3) := dk_180 0 9 (dk_at dksX4_isDone_3 19 rfl rfl)
theorem dX4_isDone_93 : decode cX4_isDone 93 = .ok (.iload_n 2, 1) := dk_28 (dk_at dksX4_isDone_3 22 rfl rfl)
theorem dX4_isDone_94 : decode cX4_isDone 94 = .ok (.iload_n 3, 1) := dk_29 (dk_at dksX4_isDone_3 23 rfl rfl)
theorem dX4_isDone_95 : decode cX4_isDone 95 = .ok (.aload_n 0, 1) := dk_42 (dk_at dksX4_isDone_4 0 rfl rfl)
theorem dX4_isDone_96 : decode cX4_isDone 96 = .ok (.getfield 22, 3) := dk_180 0 22 (dk_at dksX4_isDone_4 1 rfl rfl)
theorem dX4_isDone_99 : decode cX4_isDone 99 = .ok (.iconst 2, 1) := dk_5 (dk_at dksX4_isDone_4 4 rfl rfl)
theorem dX4_isDone_100 : decode cX4_isDone 100 = .ok (.iaload, 1) := dk_46 (dk_at dksX4_isDone_4 5 rfl rfl)
theorem dX4_isDone_101 : decode cX4_isDone 101 = .ok (.aload_n 0, 1) := dk_42 (dk_at dksX4_isDone_4 6 rfl rfl)
theorem dX4_isDone_102 : decode cX4_isDone 102 = .ok (.getfield 22, 3) := dk_180 0 22 (dk_at dksX4_isDone_4 7 rfl rfl)
theorem dX4_isDone_105 : decode cX4_isDone 105 = .ok (.iconst 3, 1) := dk_6 (dk_at dksX4_isDone_4 10 rfl rfl)
theorem dX4_isDone_106 : decode cX4_isDone 106 = .ok (.iaload, 1) := dk_46 (dk_at dksX4_isDone_4 11 rfl rfl)
theorem dX4_isDone_107 : decode cX4_isDone 107 = .ok (.invokestatic 117, 3) := dk_184 0 117 (dk_at dksX4_isDone_4 12 rfl rfl)
theorem dX4_isDone_110 : decode cX4_isDone 110 = .ok (.iconst 1, 1) := dk_4 (dk_at dksX4_isDone_4 15 rfl rfl)
theorem dX4_isDone_111 : decode cX4_isDone 111 = .ok (.ireturn, 1) := dk_172 (dk_at dksX4_isDone_4 16 rfl rfl)
theorem dX4_isDone_112 : decode cX4_isDone 112 = .ok (.aload_n 0, 1) := dk_42 (dk_at dksX4_isDone_4 17 rfl rfl)
theorem dX4_isDone_113 : decode cX4_isDone 113 = .ok (.getfield 9, 3) := dk_180 0 9 (dk_at dksX4_isDone_4 18 rfl rfl)
theorem dX4_isDone_116 : decode cX4_isDone 116 = .ok (.iconst 1, 1) := dk_4 (dk_at dksX4_isDone_4 21 rfl rfl)
theorem dX4_isDone_117 : decode cX4_isDone 117 = .ok (.iload_n 2, 1) := dk_28 (dk_at dksX4_isDone_4 22 rfl rfl)
theorem dX4_isDone_118 : decode cX4_isDone 118 = .ok (.iastore, 1) := dk_79 (dk_at dksX4_isDone_4 23 rfl rfl)
theorem dX4_isDone_119 : decode cX4_isDone 119 = .ok (.iconst 1, 1) := dk_4 (dk_at dksX4_isDone_5 0 rfl rfl)
theorem dX4_isDone_120 : decode cX4_isDone 120 = .ok (.ireturn, 1) := dk_172 (dk_at dksX4_isDone_5 1 rfl rfl)
theorem dX4_isDone_121 : decode cX4_isDone 121 = .ok (.aload_n 0, 1) := dk_42 (dk_at dksX4_isDone_5 2 rfl rfl)
theorem dX4_isDone_122 : decode cX4_isDone 122 = .ok (.iload_n 2, 1) := dk_28 (dk_at dksX4_isDone_5 3 rfl rfl)
theorem dX4_isDone_123 : decode cX4_isDone 123 = .ok (.invokevirtual 121, 3) := dk_182 0 121 (dk_at dksX4_isDone_5 4 rfl rfl)
theorem dX4_isDone_126 : decode cX4_isDone 126 = .ok (.ifCond .eq 35, 3) := dk_153 0 35 (dk_at dksX4_isDone_5 7 rfl rfl)
theorem dX4_isDone_129 : decode cX4_isDone 129 = .ok (.aload_n 0, 1) := dk_42 (dk_at dksX4_isDone_5 10 rfl rfl)
theorem dX4_isDone_130 : decode cX4_isDone 130 = .ok (.iload_n 3, 1) := dk_29 (dk_at dksX4_isDone_5 11 rfl rfl)
theorem dX4_isDone_131 : decode cX4_isDone 131 = .ok (.invokevirtual 121, 3) := dk_182 0 121 (dk_at dksX4_isDone_5 12 rfl rfl)
theorem dX4_isDone_134 : decode cX4_isDone 134 = .ok (.ifCond .eq 27, 3) := dk_153 0 27 (dk_at dksX4_isDone_5 15 rfl rfl)
theorem dX4_isDone_137 : decode cX4_isDone 137 = .ok (.aload_n 0, 1) := dk_42 (dk_at dksX4_isDone_5 18 rfl rfl)
theorem dX4_isDone_138 : decode cX4_isDone 138 = .ok (.getfield 9, 3) := dk_180 0 9 (dk_at dksX4_isDone_5 19 rfl rfl)
theorem dX4_isDone_141 : decode cX4_isDone 141 = .ok (.iload_n 2, 1) := dk_28 (dk_at dksX4_isDone_5 22 rfl rfl)
theorem dX4_isDone_142 : decode cX4_isDone 142 = .ok (.iload_n 3, 1) := dk_29 (dk_at dksX4_isDone_5 23 rfl rfl)
theorem dX4_isDone_143 : decode cX4_isDone 143 = .ok (.invokestatic 91, 3) := dk_184 0 91 (dk_at dksX4_isDone_6 0 rfl rfl)
theorem dX4_isDone_146 : decode cX4_isDone 146 = .ok (.ifCond .eq 15, 3) := dk_153 0 15 (dk_at dksX4_isDone_6 3 rfl rfl)
theorem dX4_isDone_149 : decode cX4_isDone 149 = .ok (.aload_n 0, 1) := dk_42 (dk_at dksX4_isDone_6 6 rfl rfl)
theorem dX4_isDone_150 : decode cX4_isDone 150 = .ok (.getfield 9, 3) := dk_180 0 9 (dk_at dksX4_isDone_6 7 rfl rfl)
theorem dX4_isDone_153 : decode cX4_isDone 153 = .ok (.iconst 2, 1) := dk_5 (dk_at dksX4_isDone_6 10 rfl rfl)
theorem dX4_isDone_154 : decode cX4_isDone 154 = .ok (.iaload, 1) := dk_46 (dk_at dksX4_isDone_6 11 rfl rfl)
theorem dX4_isDone_155 : decode cX4_isDone 155 = .ok (.sipush 999, 3) := dk_17 3 231 (dk_at dksX4_isDone_6 12 rfl rfl)
theorem dX4_isDone_158 : decode cX4_isDone 158 = .ok (.if_icmp .ne 5, 3) := dk_160 0 5 (dk_at dksX4_isDone_6 15 rfl rfl)
theorem dX4_isDone_161 : decode cX4_isDone 161 = .ok (.iconst 0, 1) := dk_3 (dk_at dksX4_isDone_6 18 rfl rfl)
theorem dX4_isDone_162 : decode cX4_isDone 162 = .ok (.ireturn, 1) := dk_172 (dk_at dksX4_isDone_6 19 rfl rfl)
theorem dX4_isDone_163 : decode cX4_isDone 163 = .ok (.aload_n 0, 1) := dk_42 (dk_at dksX4_isDone_6 20 rfl rfl)
theorem dX4_isDone_164 : decode cX4_isDone 164 = .ok (.getfield 9, 3) := dk_180 0 9 (dk_at dksX4_isDone_6 21 rfl rfl)
theorem dX4_isDone_167 : decode cX4_isDone 167 = .ok (.iload_n 2, 1) := dk_28 (dk_at dksX4_isDone_7 0 rfl rfl)
theorem dX4_isDone_168 : decode cX4_isDone 168 = .ok (.iload_n 3, 1) := dk_29 (dk_at dksX4_isDone_7 1 rfl rfl)
theorem dX4_isDone_169 : decode cX4_isDone 169 = .ok (.invokestatic 125, 3) := dk_184 0 125 (dk_at dksX4_isDone_7 2 rfl rfl)
theorem dX4_isDone_172 : decode cX4_isDone 172 = .ok (.istore 4, 2) := dk_54 4 (dk_at dksX4_isDone_7 5 rfl rfl)
theorem dX4_isDone_174 : decode cX4_isDone 174 = .ok (.iconst 1, 1) := dk_4 (dk_at dksX4_isDone_7 7 rfl rfl)
theorem dX4_isDone_175 : decode cX4_isDone 175 = .ok (.ireturn, 1) := dk_172 (dk_at dksX4_isDone_7 8 rfl rfl)
theorem dX4_isDone_176 : decode cX4_isDone 176 = .ok (.aload_n 0, 1) := dk_42 (dk_at dksX4_isDone_7 9 rfl rfl)
theorem dX4_isDone_177 : decode cX4_isDone 177 = .ok (.iload_n 2, 1) := dk_28 (dk_at dksX4_isDone_7 10 rfl rfl)
theorem dX4_isDone_178 : decode cX4_isDone 178 = .ok (.invokevirtual 121, 3) := dk_182 0 121 (dk_at dksX4_isDone_7 11 rfl rfl)
theorem dX4_isDone_181 : decode cX4_isDone 181 = .ok (.ifCond .eq 9, 3) := dk_153 0 9 (dk_at dksX4_isDone_7 14 rfl rfl)
theorem dX4_isDone_184 : decode cX4_isDone 184 = .ok (.iload_n 3, 1) := dk_29 (dk_at dksX4_isDone_7 17 rfl rfl)
theorem dX4_isDone_185 : decode cX4_isDone 185 = .ok (.bipush 30, 2) := dk_16 30 (dk_at dksX4_isDone_7 18 rfl rfl)
theorem dX4_isDone_187 : decode cX4_isDone 187 = .ok (.if_icmp .le 5, 3) := dk_164 0 5 (dk_at dksX4_isDone_7 20 rfl rfl)
theorem dX4_isDone_190 : decode cX4_isDone 190 = .ok (.iconst 0, 1) := dk_3 (dk_at dksX4_isDone_7 23 rfl rfl)
theorem dX4_isDone_191 : decode cX4_isDone 191 = .ok (.ireturn, 1) := dk_172 (dk_at dksX4_isDone_8 0 rfl rfl)
theorem dX4_isDone_192 : decode cX4_isDone 192 = .ok (.aload_n 0, 1) := dk_42 (dk_at dksX4_isDone_8 1 rfl rfl)
theorem dX4_isDone_193 : decode cX4_isDone 193 = .ok (.getfield 9, 3) := dk_180 0 9 (dk_at dksX4_isDone_8 2 rfl rfl)
theorem dX4_isDone_196 : decode cX4_isDone 196 = .ok (.iload_n 2, 1) := dk_28 (dk_at dksX4_isDone_8 5 rfl rfl)
theorem dX4_isDone_197 : decode cX4_isDone 197 = .ok (.iload_n 1, 1) := dk_27 (dk_at dksX4_isDone_8 6 rfl rfl)
theorem dX4_isDone_198 : decode cX4_isDone 198 = .ok (.bipush 104, 2) := dk_16 104 (dk_at dksX4_isDone_8 7 rfl rfl)
theorem dX4_isDone_200 : decode cX4_isDone 200 = .ok (.if_icmp .ne 7, 3) := dk_160 0 7 (dk_at dksX4_isDone_8 9 rfl rfl)
theorem dX4_isDone_203 : decode cX4_isDone 203 = .ok (.iconst 2, 1) := dk_5 (dk_at dksX4_isDone_8 12 rfl rfl)
theorem dX4_isDone_204 : decode cX4_isDone 204 = .ok (.goto 4, 3) := dk_167 0 4 (dk_at dksX4_isDone_8 13 rfl rfl)
theorem dX4_isDone_207 : decode cX4_isDone 207 = .ok (.iconst 3, 1) := dk_6 (dk_at dksX4_isDone_8 16 rfl rfl)
theorem dX4_isDone_208 : decode cX4_isDone 208 = .ok (.invokestatic 53, 3) := dk_184 0 53 (dk_at dksX4_isDone_8 17 rfl rfl)
theorem dX4_isDone_211 : decode cX4_isDone 211 = .ok (.iload_n 3, 1) := dk_29 (dk_at dksX4_isDone_8 20 rfl rfl)
theorem dX4_isDone_212 : decode cX4_isDone 212 = .ok (.iastore, 1) := dk_79 (dk_at dksX4_isDone_8 21 rfl rfl)
theorem dX4_isDone_213 : decode cX4_isDone 213 = .ok (.iconst 1, 1) := dk_4 (dk_at dksX4_isDone_8 22 rfl rfl)
theorem dX4_isDone_214 : decode cX4_isDone 214 = .ok (.ireturn, 1) := dk_172 (dk_at dksX4_isDone_8 23 rfl rfl)
abbrev cX4_adds : ByteArray := prog_21_method_24_code
def yX4_adds : MethodName := ⟨RX4, "adds", "([IIIII)V"⟩
def dkwX4_adds_2 : List UInt8 := [184, 0, 53, 3, 79, 42, 21, 5, 8, 184, 0, 53, 3, 79, 42, 3, 92, 46, 4, 96, 79, 177]
abbrev dktX4_adds_2 : List UInt8 := dkwX4_adds_2 ++ []
def dkwX4_adds_1 : List UInt8 := [21, 5, 5, 184, 0, 53, 29, 79, 42, 21, 5, 6, 184, 0, 53, 21, 4, 79, 42, 21, 5, 7]
abbrev dktX4_adds_1 : List UInt8 := dkwX4_adds_1 ++ dktX4_adds_2
def dkwX4_adds_0 : List UInt8 := [42, 3, 46, 54, 5, 42, 21, 5, 3, 184, 0, 53, 27, 79, 42, 21, 5, 4, 184, 0, 53, 28, 79, 42]
abbrev dktX4_adds_0 : List UInt8 := dkwX4_adds_0 ++ dktX4_adds_1
theorem dksX4_adds_0 : cX4_adds.data.toList.drop 0 = dktX4_adds_0 := by decide +kernel
theorem dksX4_adds_1 : cX4_adds.data.toList.drop 24 = dktX4_adds_1 := dk_seg dksX4_adds_0 24 rfl rfl
theorem dksX4_adds_2 : cX4_adds.data.toList.drop 46 = dktX4_adds_2 := dk_seg dksX4_adds_1 22 rfl rfl
theorem dX4_adds_0 : decode cX4_adds 0 = .ok (.aload_n 0, 1) := dk_42 (dk_at dksX4_adds_0 0 rfl rfl)
theorem dX4_adds_1 : decode cX4_adds 1 = .ok (.iconst 0, 1) := dk_3 (dk_at dksX4_adds_0 1 rfl rfl)
theorem dX4_adds_2 : decode cX4_adds 2 = .ok (.iaload, 1) := dk_46 (dk_at dksX4_adds_0 2 rfl rfl)
theorem dX4_adds_3 : decode cX4_adds 3 = .ok (.istore 5, 2) := dk_54 5 (dk_at dksX4_adds_0 3 rfl rfl)
theorem dX4_adds_5 : decode cX4_adds 5 = .ok (.aload_n 0, 1) := dk_42 (dk_at dksX4_adds_0 5 rfl rfl)
theorem dX4_adds_6 : decode cX4_adds 6 = .ok (.iload 5, 2) := dk_21 5 (dk_at dksX4_adds_0 6 rfl rfl)
theorem dX4_adds_8 : decode cX4_adds 8 = .ok (.iconst 0, 1) := dk_3 (dk_at dksX4_adds_0 8 rfl rfl)
theorem dX4_adds_9 : decode cX4_adds 9 = .ok (.invokestatic 53, 3) := dk_184 0 53 (dk_at dksX4_adds_0 9 rfl rfl)
theorem dX4_adds_12 : decode cX4_adds 12 = .ok (.iload_n 1, 1) := dk_27 (dk_at dksX4_adds_0 12 rfl rfl)
theorem dX4_adds_13 : decode cX4_adds 13 = .ok (.iastore, 1) := dk_79 (dk_at dksX4_adds_0 13 rfl rfl)
theorem dX4_adds_14 : decode cX4_adds 14 = .ok (.aload_n 0, 1) := dk_42 (dk_at dksX4_adds_0 14 rfl rfl)
theorem dX4_adds_15 : decode cX4_adds 15 = .ok (.iload 5, 2) := dk_21 5 (dk_at dksX4_adds_0 15 rfl rfl)
theorem dX4_adds_17 : decode cX4_adds 17 = .ok (.iconst 1, 1) := dk_4 (dk_at dksX4_adds_0 17 rfl rfl)
theorem dX4_adds_18 : decode cX4_adds 18 = .ok (.invokestatic 53, 3) := dk_184 0 53 (dk_at dksX4_adds_0 18 rfl rfl)
theorem dX4_adds_21 : decode cX4_adds 21 = .ok (.iload_n 2, 1) := dk_28 (dk_at dksX4_adds_0 21 rfl rfl)
theorem dX4_adds_22 : decode cX4_adds 22 = .ok (.iastore, 1) := dk_79 (dk_at dksX4_adds_0 22 rfl rfl)
theorem dX4_adds_23 : decode cX4_adds 23 = .ok (.aload_n 0, 1) := dk_42 (dk_at dksX4_adds_0 23 rfl rfl)
theorem dX4_adds_24 : decode cX4_adds 24 = .ok (.iload 5, 2) := dk_21 5 (dk_at dksX4_adds_1 0 rfl rfl)
theorem dX4_adds_26 : decode cX4_adds 26 = .ok (.iconst 2, 1) := dk_5 (dk_at dksX4_adds_1 2 rfl rfl)
theorem dX4_adds_27 : decode cX4_adds 27 = .ok (.invokestatic 53, 3) := dk_184 0 53 (dk_at dksX4_adds_1 3 rfl rfl)
theorem dX4_adds_30 : decode cX4_adds 30 = .ok (.iload_n 3, 1) := dk_29 (dk_at dksX4_adds_1 6 rfl rfl)
theorem dX4_adds_31 : decode cX4_adds 31 = .ok (.iastore, 1) := dk_79 (dk_at dksX4_adds_1 7 rfl rfl)
theorem dX4_adds_32 : decode cX4_adds 32 = .ok (.aload_n 0, 1) := dk_42 (dk_at dksX4_adds_1 8 rfl rfl)
theorem dX4_adds_33 : decode cX4_adds 33 = .ok (.iload 5, 2) := dk_21 5 (dk_at dksX4_adds_1 9 rfl rfl)
theorem dX4_adds_35 : decode cX4_adds 35 = .ok (.iconst 3, 1) := dk_6 (dk_at dksX4_adds_1 11 rfl rfl)
theorem dX4_adds_36 : decode cX4_adds 36 = .ok (.invokestatic 53, 3) := dk_184 0 53 (dk_at dksX4_adds_1 12 rfl rfl)
theorem dX4_adds_39 : decode cX4_adds 39 = .ok (.iload 4, 2) := dk_21 4 (dk_at dksX4_adds_1 15 rfl rfl)
theorem dX4_adds_41 : decode cX4_adds 41 = .ok (.iastore, 1) := dk_79 (dk_at dksX4_adds_1 17 rfl rfl)
theorem dX4_adds_42 : decode cX4_adds 42 = .ok (.aload_n 0, 1) := dk_42 (dk_at dksX4_adds_1 18 rfl rfl)
theorem dX4_adds_43 : decode cX4_adds 43 = .ok (.iload 5, 2) := dk_21 5 (dk_at dksX4_adds_1 19 rfl rfl)
theorem dX4_adds_45 : decode cX4_adds 45 = .ok (.iconst 4, 1) := dk_7 (dk_at dksX4_adds_1 21 rfl rfl)
theorem dX4_adds_46 : decode cX4_adds 46 = .ok (.invokestatic 53, 3) := dk_184 0 53 (dk_at dksX4_adds_2 0 rfl rfl)
theorem dX4_adds_49 : decode cX4_adds 49 = .ok (.iconst 0, 1) := dk_3 (dk_at dksX4_adds_2 3 rfl rfl)
theorem dX4_adds_50 : decode cX4_adds 50 = .ok (.iastore, 1) := dk_79 (dk_at dksX4_adds_2 4 rfl rfl)
theorem dX4_adds_51 : decode cX4_adds 51 = .ok (.aload_n 0, 1) := dk_42 (dk_at dksX4_adds_2 5 rfl rfl)
theorem dX4_adds_52 : decode cX4_adds 52 = .ok (.iload 5, 2) := dk_21 5 (dk_at dksX4_adds_2 6 rfl rfl)
theorem dX4_adds_54 : decode cX4_adds 54 = .ok (.iconst 5, 1) := dk_8 (dk_at dksX4_adds_2 8 rfl rfl)
theorem dX4_adds_55 : decode cX4_adds 55 = .ok (.invokestatic 53, 3) := dk_184 0 53 (dk_at dksX4_adds_2 9 rfl rfl)
theorem dX4_adds_58 : decode cX4_adds 58 = .ok (.iconst 0, 1) := dk_3 (dk_at dksX4_adds_2 12 rfl rfl)
theorem dX4_adds_59 : decode cX4_adds 59 = .ok (.iastore, 1) := dk_79 (dk_at dksX4_adds_2 13 rfl rfl)
theorem dX4_adds_60 : decode cX4_adds 60 = .ok (.aload_n 0, 1) := dk_42 (dk_at dksX4_adds_2 14 rfl rfl)
theorem dX4_adds_61 : decode cX4_adds 61 = .ok (.iconst 0, 1) := dk_3 (dk_at dksX4_adds_2 15 rfl rfl)
theorem dX4_adds_62 : decode cX4_adds 62 = .ok (.dup2, 1) := dk_92 (dk_at dksX4_adds_2 16 rfl rfl)
theorem dX4_adds_63 : decode cX4_adds 63 = .ok (.iaload, 1) := dk_46 (dk_at dksX4_adds_2 17 rfl rfl)
theorem dX4_adds_64 : decode cX4_adds 64 = .ok (.iconst 1, 1) := dk_4 (dk_at dksX4_adds_2 18 rfl rfl)
theorem dX4_adds_65 : decode cX4_adds 65 = .ok (.iadd, 1) := dk_96 (dk_at dksX4_adds_2 19 rfl rfl)
theorem dX4_adds_66 : decode cX4_adds 66 = .ok (.iastore, 1) := dk_79 (dk_at dksX4_adds_2 20 rfl rfl)
theorem dX4_adds_67 : decode cX4_adds 67 = .ok (.return_, 1) := dk_177 (dk_at dksX4_adds_2 21 rfl rfl)
abbrev cX4_of : ByteArray := prog_21_method_6_code
def yX4_of : MethodName := ⟨RX4, "of", "(II)I"⟩
def dkwX4_of_0 : List UInt8 := [6, 16, 6, 26, 104, 96, 27, 96, 172]
abbrev dktX4_of_0 : List UInt8 := dkwX4_of_0 ++ []
theorem dksX4_of_0 : cX4_of.data.toList.drop 0 = dktX4_of_0 := by decide +kernel
theorem dX4_of_0 : decode cX4_of 0 = .ok (.iconst 3, 1) := dk_6 (dk_at dksX4_of_0 0 rfl rfl)
theorem dX4_of_1 : decode cX4_of 1 = .ok (.bipush 6, 2) := dk_16 6 (dk_at dksX4_of_0 1 rfl rfl)
theorem dX4_of_3 : decode cX4_of 3 = .ok (.iload_n 0, 1) := dk_26 (dk_at dksX4_of_0 3 rfl rfl)
theorem dX4_of_4 : decode cX4_of 4 = .ok (.imul, 1) := dk_104 (dk_at dksX4_of_0 4 rfl rfl)
theorem dX4_of_5 : decode cX4_of 5 = .ok (.iadd, 1) := dk_96 (dk_at dksX4_of_0 5 rfl rfl)
theorem dX4_of_6 : decode cX4_of 6 = .ok (.iload_n 1, 1) := dk_27 (dk_at dksX4_of_0 6 rfl rfl)
theorem dX4_of_7 : decode cX4_of 7 = .ok (.iadd, 1) := dk_96 (dk_at dksX4_of_0 7 rfl rfl)
theorem dX4_of_8 : decode cX4_of 8 = .ok (.ireturn, 1) := dk_172 (dk_at dksX4_of_0 8 rfl rfl)
abbrev cX4_isPerson : ByteArray := prog_21_method_7_code
def yX4_isPerson : MethodName := ⟨RX4, "isPerson", "(I)Z"⟩
def dkwX4_isPerson_0 : List UInt8 := [27, 3, 42, 180, 0, 9, 3, 46, 4, 100, 184, 0, 49, 172]
abbrev dktX4_isPerson_0 : List UInt8 := dkwX4_isPerson_0 ++ []
theorem dksX4_isPerson_0 : cX4_isPerson.data.toList.drop 0 = dktX4_isPerson_0 := by decide +kernel
theorem dX4_isPerson_0 : decode cX4_isPerson 0 = .ok (.iload_n 1, 1) := dk_27 (dk_at dksX4_isPerson_0 0 rfl rfl)
theorem dX4_isPerson_1 : decode cX4_isPerson 1 = .ok (.iconst 0, 1) := dk_3 (dk_at dksX4_isPerson_0 1 rfl rfl)
theorem dX4_isPerson_2 : decode cX4_isPerson 2 = .ok (.aload_n 0, 1) := dk_42 (dk_at dksX4_isPerson_0 2 rfl rfl)
theorem dX4_isPerson_3 : decode cX4_isPerson 3 = .ok (.getfield 9, 3) := dk_180 0 9 (dk_at dksX4_isPerson_0 3 rfl rfl)
theorem dX4_isPerson_6 : decode cX4_isPerson 6 = .ok (.iconst 0, 1) := dk_3 (dk_at dksX4_isPerson_0 6 rfl rfl)
theorem dX4_isPerson_7 : decode cX4_isPerson 7 = .ok (.iaload, 1) := dk_46 (dk_at dksX4_isPerson_0 7 rfl rfl)
theorem dX4_isPerson_8 : decode cX4_isPerson 8 = .ok (.iconst 1, 1) := dk_4 (dk_at dksX4_isPerson_0 8 rfl rfl)
theorem dX4_isPerson_9 : decode cX4_isPerson 9 = .ok (.isub, 1) := dk_100 (dk_at dksX4_isPerson_0 9 rfl rfl)
theorem dX4_isPerson_10 : decode cX4_isPerson 10 = .ok (.invokestatic 49, 3) := dk_184 0 49 (dk_at dksX4_isPerson_0 10 rfl rfl)
theorem dX4_isPerson_13 : decode cX4_isPerson 13 = .ok (.ireturn, 1) := dk_172 (dk_at dksX4_isPerson_0 13 rfl rfl)
abbrev cX4_canEat : ByteArray := prog_21_method_15_code
def yX4_canEat : MethodName := ⟨RX4, "canEat", "([III)Z"⟩
def dkwX4_canEat_1 : List UInt8 := [184, 0, 66, 153, 0, 7, 4, 167, 0, 4, 3, 172]
abbrev dktX4_canEat_1 : List UInt8 := dkwX4_canEat_1 ++ []
def dkwX4_canEat_0 : List UInt8 := [27, 28, 159, 0, 31, 42, 4, 46, 158, 0, 25, 42, 27, 5, 184, 0, 53, 46, 158, 0, 15, 42, 28]
abbrev dktX4_canEat_0 : List UInt8 := dkwX4_canEat_0 ++ dktX4_canEat_1
theorem dksX4_canEat_0 : cX4_canEat.data.toList.drop 0 = dktX4_canEat_0 := by decide +kernel
theorem dksX4_canEat_1 : cX4_canEat.data.toList.drop 23 = dktX4_canEat_1 := dk_seg dksX4_canEat_0 23 rfl rfl
theorem dX4_canEat_0 : decode cX4_canEat 0 = .ok (.iload_n 1, 1) := dk_27 (dk_at dksX4_canEat_0 0 rfl rfl)
theorem dX4_canEat_1 : decode cX4_canEat 1 = .ok (.iload_n 2, 1) := dk_28 (dk_at dksX4_canEat_0 1 rfl rfl)
theorem dX4_canEat_2 : decode cX4_canEat 2 = .ok (.if_icmp .eq 31, 3) := dk_159 0 31 (dk_at dksX4_canEat_0 2 rfl rfl)
theorem dX4_canEat_5 : decode cX4_canEat 5 = .ok (.aload_n 0, 1) := dk_42 (dk_at dksX4_canEat_0 5 rfl rfl)
theorem dX4_canEat_6 : decode cX4_canEat 6 = .ok (.iconst 1, 1) := dk_4 (dk_at dksX4_canEat_0 6 rfl rfl)
theorem dX4_canEat_7 : decode cX4_canEat 7 = .ok (.iaload, 1) := dk_46 (dk_at dksX4_canEat_0 7 rfl rfl)
theorem dX4_canEat_8 : decode cX4_canEat 8 = .ok (.ifCond .le 25, 3) := dk_158 0 25 (dk_at dksX4_canEat_0 8 rfl rfl)
theorem dX4_canEat_11 : decode cX4_canEat 11 = .ok (.aload_n 0, 1) := dk_42 (dk_at dksX4_canEat_0 11 rfl rfl)
theorem dX4_canEat_12 : decode cX4_canEat 12 = .ok (.iload_n 1, 1) := dk_27 (dk_at dksX4_canEat_0 12 rfl rfl)
theorem dX4_canEat_13 : decode cX4_canEat 13 = .ok (.iconst 2, 1) := dk_5 (dk_at dksX4_canEat_0 13 rfl rfl)
theorem dX4_canEat_14 : decode cX4_canEat 14 = .ok (.invokestatic 53, 3) := dk_184 0 53 (dk_at dksX4_canEat_0 14 rfl rfl)
theorem dX4_canEat_17 : decode cX4_canEat 17 = .ok (.iaload, 1) := dk_46 (dk_at dksX4_canEat_0 17 rfl rfl)
theorem dX4_canEat_18 : decode cX4_canEat 18 = .ok (.ifCond .le 15, 3) := dk_158 0 15 (dk_at dksX4_canEat_0 18 rfl rfl)
theorem dX4_canEat_21 : decode cX4_canEat 21 = .ok (.aload_n 0, 1) := dk_42 (dk_at dksX4_canEat_0 21 rfl rfl)
theorem dX4_canEat_22 : decode cX4_canEat 22 = .ok (.iload_n 2, 1) := dk_28 (dk_at dksX4_canEat_0 22 rfl rfl)
theorem dX4_canEat_23 : decode cX4_canEat 23 = .ok (.invokestatic 66, 3) := dk_184 0 66 (dk_at dksX4_canEat_1 0 rfl rfl)
theorem dX4_canEat_26 : decode cX4_canEat 26 = .ok (.ifCond .eq 7, 3) := dk_153 0 7 (dk_at dksX4_canEat_1 3 rfl rfl)
theorem dX4_canEat_29 : decode cX4_canEat 29 = .ok (.iconst 1, 1) := dk_4 (dk_at dksX4_canEat_1 6 rfl rfl)
theorem dX4_canEat_30 : decode cX4_canEat 30 = .ok (.goto 4, 3) := dk_167 0 4 (dk_at dksX4_canEat_1 7 rfl rfl)
theorem dX4_canEat_33 : decode cX4_canEat 33 = .ok (.iconst 0, 1) := dk_3 (dk_at dksX4_canEat_1 10 rfl rfl)
theorem dX4_canEat_34 : decode cX4_canEat 34 = .ok (.ireturn, 1) := dk_172 (dk_at dksX4_canEat_1 11 rfl rfl)
abbrev cX4_canLook : ByteArray := prog_21_method_14_code
def yX4_canLook : MethodName := ⟨RX4, "canLook", "([II)Z"⟩
def dkwX4_canLook_1 : List UInt8 := [167, 0, 4, 3, 172]
abbrev dktX4_canLook_1 : List UInt8 := dkwX4_canLook_1 ++ []
def dkwX4_canLook_0 : List UInt8 := [42, 27, 7, 184, 0, 53, 46, 154, 0, 18, 42, 27, 3, 184, 0, 53, 46, 7, 159, 0, 7, 4]
abbrev dktX4_canLook_0 : List UInt8 := dkwX4_canLook_0 ++ dktX4_canLook_1
theorem dksX4_canLook_0 : cX4_canLook.data.toList.drop 0 = dktX4_canLook_0 := by decide +kernel
theorem dksX4_canLook_1 : cX4_canLook.data.toList.drop 22 = dktX4_canLook_1 := dk_seg dksX4_canLook_0 22 rfl rfl
theorem dX4_canLook_0 : decode cX4_canLook 0 = .ok (.aload_n 0, 1) := dk_42 (dk_at dksX4_canLook_0 0 rfl rfl)
theorem dX4_canLook_1 : decode cX4_canLook 1 = .ok (.iload_n 1, 1) := dk_27 (dk_at dksX4_canLook_0 1 rfl rfl)
theorem dX4_canLook_2 : decode cX4_canLook 2 = .ok (.iconst 4, 1) := dk_7 (dk_at dksX4_canLook_0 2 rfl rfl)
theorem dX4_canLook_3 : decode cX4_canLook 3 = .ok (.invokestatic 53, 3) := dk_184 0 53 (dk_at dksX4_canLook_0 3 rfl rfl)
theorem dX4_canLook_6 : decode cX4_canLook 6 = .ok (.iaload, 1) := dk_46 (dk_at dksX4_canLook_0 6 rfl rfl)
theorem dX4_canLook_7 : decode cX4_canLook 7 = .ok (.ifCond .ne 18, 3) := dk_154 0 18 (dk_at dksX4_canLook_0 7 rfl rfl)
theorem dX4_canLook_10 : decode cX4_canLook 10 = .ok (.aload_n 0, 1) := dk_42 (dk_at dksX4_canLook_0 10 rfl rfl)
theorem dX4_canLook_11 : decode cX4_canLook 11 = .ok (.iload_n 1, 1) := dk_27 (dk_at dksX4_canLook_0 11 rfl rfl)
theorem dX4_canLook_12 : decode cX4_canLook 12 = .ok (.iconst 0, 1) := dk_3 (dk_at dksX4_canLook_0 12 rfl rfl)
theorem dX4_canLook_13 : decode cX4_canLook 13 = .ok (.invokestatic 53, 3) := dk_184 0 53 (dk_at dksX4_canLook_0 13 rfl rfl)
theorem dX4_canLook_16 : decode cX4_canLook 16 = .ok (.iaload, 1) := dk_46 (dk_at dksX4_canLook_0 16 rfl rfl)
theorem dX4_canLook_17 : decode cX4_canLook 17 = .ok (.iconst 4, 1) := dk_7 (dk_at dksX4_canLook_0 17 rfl rfl)
theorem dX4_canLook_18 : decode cX4_canLook 18 = .ok (.if_icmp .eq 7, 3) := dk_159 0 7 (dk_at dksX4_canLook_0 18 rfl rfl)
theorem dX4_canLook_21 : decode cX4_canLook 21 = .ok (.iconst 1, 1) := dk_4 (dk_at dksX4_canLook_0 21 rfl rfl)
theorem dX4_canLook_22 : decode cX4_canLook 22 = .ok (.goto 4, 3) := dk_167 0 4 (dk_at dksX4_canLook_1 0 rfl rfl)
theorem dX4_canLook_25 : decode cX4_canLook 25 = .ok (.iconst 0, 1) := dk_3 (dk_at dksX4_canLook_1 3 rfl rfl)
theorem dX4_canLook_26 : decode cX4_canLook 26 = .ok (.ireturn, 1) := dk_172 (dk_at dksX4_canLook_1 4 rfl rfl)
abbrev cX4_turn : ByteArray := prog_21_method_18_code
def yX4_turn : MethodName := ⟨RX4, "turn", "([III)I"⟩
def dkwX4_turn_3 : List UInt8 := [46, 4, 96, 184, 0, 60, 79, 42, 4, 92, 46, 4, 100, 79, 42, 5, 92, 46, 4, 96, 79, 29, 172]
abbrev dktX4_turn_3 : List UInt8 := dkwX4_turn_3 ++ []
def dkwX4_turn_2 : List UInt8 := [184, 0, 53, 46, 4, 96, 184, 0, 60, 79, 42, 28, 8, 184, 0, 53, 16, 99, 42, 28, 8, 184, 0, 53]
abbrev dktX4_turn_2 : List UInt8 := dkwX4_turn_2 ++ dktX4_turn_3
def dkwX4_turn_1 : List UInt8 := [6, 184, 0, 53, 92, 46, 42, 28, 184, 0, 85, 100, 79, 42, 27, 7, 184, 0, 53, 16, 99, 42, 27, 7]
abbrev dktX4_turn_1 : List UInt8 := dkwX4_turn_1 ++ dktX4_turn_2
def dkwX4_turn_0 : List UInt8 := [42, 27, 28, 184, 0, 88, 62, 42, 27, 5, 184, 0, 53, 92, 46, 42, 27, 184, 0, 70, 100, 79, 42, 28]
abbrev dktX4_turn_0 : List UInt8 := dkwX4_turn_0 ++ dktX4_turn_1
theorem dksX4_turn_0 : cX4_turn.data.toList.drop 0 = dktX4_turn_0 := by decide +kernel
theorem dksX4_turn_1 : cX4_turn.data.toList.drop 24 = dktX4_turn_1 := dk_seg dksX4_turn_0 24 rfl rfl
theorem dksX4_turn_2 : cX4_turn.data.toList.drop 48 = dktX4_turn_2 := dk_seg dksX4_turn_1 24 rfl rfl
theorem dksX4_turn_3 : cX4_turn.data.toList.drop 72 = dktX4_turn_3 := dk_seg dksX4_turn_2 24 rfl rfl
theorem dX4_turn_0 : decode cX4_turn 0 = .ok (.aload_n 0, 1) := dk_42 (dk_at dksX4_turn_0 0 rfl rfl)
theorem dX4_turn_1 : decode cX4_turn 1 = .ok (.iload_n 1, 1) := dk_27 (dk_at dksX4_turn_0 1 rfl rfl)
theorem dX4_turn_2 : decode cX4_turn 2 = .ok (.iload_n 2, 1) := dk_28 (dk_at dksX4_turn_0 2 rfl rfl)
theorem dX4_turn_3 : decode cX4_turn 3 = .ok (.invokestatic 88, 3) := dk_184 0 88 (dk_at dksX4_turn_0 3 rfl rfl)
theorem dX4_turn_6 : decode cX4_turn 6 = .ok (.istore_n 3, 1) := dk_62 (dk_at dksX4_turn_0 6 rfl rfl)
theorem dX4_turn_7 : decode cX4_turn 7 = .ok (.aload_n 0, 1) := dk_42 (dk_at dksX4_turn_0 7 rfl rfl)
theorem dX4_turn_8 : decode cX4_turn 8 = .ok (.iload_n 1, 1) := dk_27 (dk_at dksX4_turn_0 8 rfl rfl)
theorem dX4_turn_9 : decode cX4_turn 9 = .ok (.iconst 2, 1) := dk_5 (dk_at dksX4_turn_0 9 rfl rfl)
theorem dX4_turn_10 : decode cX4_turn 10 = .ok (.invokestatic 53, 3) := dk_184 0 53 (dk_at dksX4_turn_0 10 rfl rfl)
theorem dX4_turn_13 : decode cX4_turn 13 = .ok (.dup2, 1) := dk_92 (dk_at dksX4_turn_0 13 rfl rfl)
theorem dX4_turn_14 : decode cX4_turn 14 = .ok (.iaload, 1) := dk_46 (dk_at dksX4_turn_0 14 rfl rfl)
theorem dX4_turn_15 : decode cX4_turn 15 = .ok (.aload_n 0, 1) := dk_42 (dk_at dksX4_turn_0 15 rfl rfl)
theorem dX4_turn_16 : decode cX4_turn 16 = .ok (.iload_n 1, 1) := dk_27 (dk_at dksX4_turn_0 16 rfl rfl)
theorem dX4_turn_17 : decode cX4_turn 17 = .ok (.invokestatic 70, 3) := dk_184 0 70 (dk_at dksX4_turn_0 17 rfl rfl)
theorem dX4_turn_20 : decode cX4_turn 20 = .ok (.isub, 1) := dk_100 (dk_at dksX4_turn_0 20 rfl rfl)
theorem dX4_turn_21 : decode cX4_turn 21 = .ok (.iastore, 1) := dk_79 (dk_at dksX4_turn_0 21 rfl rfl)
theorem dX4_turn_22 : decode cX4_turn 22 = .ok (.aload_n 0, 1) := dk_42 (dk_at dksX4_turn_0 22 rfl rfl)
theorem dX4_turn_23 : decode cX4_turn 23 = .ok (.iload_n 2, 1) := dk_28 (dk_at dksX4_turn_0 23 rfl rfl)
theorem dX4_turn_24 : decode cX4_turn 24 = .ok (.iconst 3, 1) := dk_6 (dk_at dksX4_turn_1 0 rfl rfl)
theorem dX4_turn_25 : decode cX4_turn 25 = .ok (.invokestatic 53, 3) := dk_184 0 53 (dk_at dksX4_turn_1 1 rfl rfl)
theorem dX4_turn_28 : decode cX4_turn 28 = .ok (.dup2, 1) := dk_92 (dk_at dksX4_turn_1 4 rfl rfl)
theorem dX4_turn_29 : decode cX4_turn 29 = .ok (.iaload, 1) := dk_46 (dk_at dksX4_turn_1 5 rfl rfl)
theorem dX4_turn_30 : decode cX4_turn 30 = .ok (.aload_n 0, 1) := dk_42 (dk_at dksX4_turn_1 6 rfl rfl)
theorem dX4_turn_31 : decode cX4_turn 31 = .ok (.iload_n 2, 1) := dk_28 (dk_at dksX4_turn_1 7 rfl rfl)
theorem dX4_turn_32 : decode cX4_turn 32 = .ok (.invokestatic 85, 3) := dk_184 0 85 (dk_at dksX4_turn_1 8 rfl rfl)
theorem dX4_turn_35 : decode cX4_turn 35 = .ok (.isub, 1) := dk_100 (dk_at dksX4_turn_1 11 rfl rfl)
theorem dX4_turn_36 : decode cX4_turn 36 = .ok (.iastore, 1) := dk_79 (dk_at dksX4_turn_1 12 rfl rfl)
theorem dX4_turn_37 : decode cX4_turn 37 = .ok (.aload_n 0, 1) := dk_42 (dk_at dksX4_turn_1 13 rfl rfl)
theorem dX4_turn_38 : decode cX4_turn 38 = .ok (.iload_n 1, 1) := dk_27 (dk_at dksX4_turn_1 14 rfl rfl)
theorem dX4_turn_39 : decode cX4_turn 39 = .ok (.iconst 4, 1) := dk_7 (dk_at dksX4_turn_1 15 rfl rfl)
theorem dX4_turn_40 : decode cX4_turn 40 = .ok (.invokestatic 53, 3) := dk_184 0 53 (dk_at dksX4_turn_1 16 rfl rfl)
theorem dX4_turn_43 : decode cX4_turn 43 = .ok (.bipush 99, 2) := dk_16 99 (dk_at dksX4_turn_1 19 rfl rfl)
theorem dX4_turn_45 : decode cX4_turn 45 = .ok (.aload_n 0, 1) := dk_42 (dk_at dksX4_turn_1 21 rfl rfl)
theorem dX4_turn_46 : decode cX4_turn 46 = .ok (.iload_n 1, 1) := dk_27 (dk_at dksX4_turn_1 22 rfl rfl)
theorem dX4_turn_47 : decode cX4_turn 47 = .ok (.iconst 4, 1) := dk_7 (dk_at dksX4_turn_1 23 rfl rfl)
theorem dX4_turn_48 : decode cX4_turn 48 = .ok (.invokestatic 53, 3) := dk_184 0 53 (dk_at dksX4_turn_2 0 rfl rfl)
theorem dX4_turn_51 : decode cX4_turn 51 = .ok (.iaload, 1) := dk_46 (dk_at dksX4_turn_2 3 rfl rfl)
theorem dX4_turn_52 : decode cX4_turn 52 = .ok (.iconst 1, 1) := dk_4 (dk_at dksX4_turn_2 4 rfl rfl)
theorem dX4_turn_53 : decode cX4_turn 53 = .ok (.iadd, 1) := dk_96 (dk_at dksX4_turn_2 5 rfl rfl)
theorem dX4_turn_54 : decode cX4_turn 54 = .ok (.invokestatic 60, 3) := dk_184 0 60 (dk_at dksX4_turn_2 6 rfl rfl)
theorem dX4_turn_57 : decode cX4_turn 57 = .ok (.iastore, 1) := dk_79 (dk_at dksX4_turn_2 9 rfl rfl)
theorem dX4_turn_58 : decode cX4_turn 58 = .ok (.aload_n 0, 1) := dk_42 (dk_at dksX4_turn_2 10 rfl rfl)
theorem dX4_turn_59 : decode cX4_turn 59 = .ok (.iload_n 2, 1) := dk_28 (dk_at dksX4_turn_2 11 rfl rfl)
theorem dX4_turn_60 : decode cX4_turn 60 = .ok (.iconst 5, 1) := dk_8 (dk_at dksX4_turn_2 12 rfl rfl)
theorem dX4_turn_61 : decode cX4_turn 61 = .ok (.invokestatic 53, 3) := dk_184 0 53 (dk_at dksX4_turn_2 13 rfl rfl)
theorem dX4_turn_64 : decode cX4_turn 64 = .ok (.bipush 99, 2) := dk_16 99 (dk_at dksX4_turn_2 16 rfl rfl)
theorem dX4_turn_66 : decode cX4_turn 66 = .ok (.aload_n 0, 1) := dk_42 (dk_at dksX4_turn_2 18 rfl rfl)
theorem dX4_turn_67 : decode cX4_turn 67 = .ok (.iload_n 2, 1) := dk_28 (dk_at dksX4_turn_2 19 rfl rfl)
theorem dX4_turn_68 : decode cX4_turn 68 = .ok (.iconst 5, 1) := dk_8 (dk_at dksX4_turn_2 20 rfl rfl)
theorem dX4_turn_69 : decode cX4_turn 69 = .ok (.invokestatic 53, 3) := dk_184 0 53 (dk_at dksX4_turn_2 21 rfl rfl)
theorem dX4_turn_72 : decode cX4_turn 72 = .ok (.iaload, 1) := dk_46 (dk_at dksX4_turn_3 0 rfl rfl)
theorem dX4_turn_73 : decode cX4_turn 73 = .ok (.iconst 1, 1) := dk_4 (dk_at dksX4_turn_3 1 rfl rfl)
theorem dX4_turn_74 : decode cX4_turn 74 = .ok (.iadd, 1) := dk_96 (dk_at dksX4_turn_3 2 rfl rfl)
theorem dX4_turn_75 : decode cX4_turn 75 = .ok (.invokestatic 60, 3) := dk_184 0 60 (dk_at dksX4_turn_3 3 rfl rfl)
theorem dX4_turn_78 : decode cX4_turn 78 = .ok (.iastore, 1) := dk_79 (dk_at dksX4_turn_3 6 rfl rfl)
theorem dX4_turn_79 : decode cX4_turn 79 = .ok (.aload_n 0, 1) := dk_42 (dk_at dksX4_turn_3 7 rfl rfl)
theorem dX4_turn_80 : decode cX4_turn 80 = .ok (.iconst 1, 1) := dk_4 (dk_at dksX4_turn_3 8 rfl rfl)
theorem dX4_turn_81 : decode cX4_turn 81 = .ok (.dup2, 1) := dk_92 (dk_at dksX4_turn_3 9 rfl rfl)
theorem dX4_turn_82 : decode cX4_turn 82 = .ok (.iaload, 1) := dk_46 (dk_at dksX4_turn_3 10 rfl rfl)
theorem dX4_turn_83 : decode cX4_turn 83 = .ok (.iconst 1, 1) := dk_4 (dk_at dksX4_turn_3 11 rfl rfl)
theorem dX4_turn_84 : decode cX4_turn 84 = .ok (.isub, 1) := dk_100 (dk_at dksX4_turn_3 12 rfl rfl)
theorem dX4_turn_85 : decode cX4_turn 85 = .ok (.iastore, 1) := dk_79 (dk_at dksX4_turn_3 13 rfl rfl)
theorem dX4_turn_86 : decode cX4_turn 86 = .ok (.aload_n 0, 1) := dk_42 (dk_at dksX4_turn_3 14 rfl rfl)
theorem dX4_turn_87 : decode cX4_turn 87 = .ok (.iconst 2, 1) := dk_5 (dk_at dksX4_turn_3 15 rfl rfl)
theorem dX4_turn_88 : decode cX4_turn 88 = .ok (.dup2, 1) := dk_92 (dk_at dksX4_turn_3 16 rfl rfl)
theorem dX4_turn_89 : decode cX4_turn 89 = .ok (.iaload, 1) := dk_46 (dk_at dksX4_turn_3 17 rfl rfl)
theorem dX4_turn_90 : decode cX4_turn 90 = .ok (.iconst 1, 1) := dk_4 (dk_at dksX4_turn_3 18 rfl rfl)
theorem dX4_turn_91 : decode cX4_turn 91 = .ok (.iadd, 1) := dk_96 (dk_at dksX4_turn_3 19 rfl rfl)
theorem dX4_turn_92 : decode cX4_turn 92 = .ok (.iastore, 1) := dk_79 (dk_at dksX4_turn_3 20 rfl rfl)
theorem dX4_turn_93 : decode cX4_turn 93 = .ok (.iload_n 3, 1) := dk_29 (dk_at dksX4_turn_3 21 rfl rfl)
theorem dX4_turn_94 : decode cX4_turn 94 = .ok (.ireturn, 1) := dk_172 (dk_at dksX4_turn_3 22 rfl rfl)
abbrev cX4_joysOf : ByteArray := prog_21_method_17_code
def yX4_joysOf : MethodName := ⟨RX4, "joysOf", "([III)I"⟩
def dkwX4_joysOf_0 : List UInt8 := [42, 27, 28, 184, 0, 81, 42, 28, 184, 0, 85, 96, 172]
abbrev dktX4_joysOf_0 : List UInt8 := dkwX4_joysOf_0 ++ []
theorem dksX4_joysOf_0 : cX4_joysOf.data.toList.drop 0 = dktX4_joysOf_0 := by decide +kernel
theorem dX4_joysOf_0 : decode cX4_joysOf 0 = .ok (.aload_n 0, 1) := dk_42 (dk_at dksX4_joysOf_0 0 rfl rfl)
theorem dX4_joysOf_1 : decode cX4_joysOf 1 = .ok (.iload_n 1, 1) := dk_27 (dk_at dksX4_joysOf_0 1 rfl rfl)
theorem dX4_joysOf_2 : decode cX4_joysOf 2 = .ok (.iload_n 2, 1) := dk_28 (dk_at dksX4_joysOf_0 2 rfl rfl)
theorem dX4_joysOf_3 : decode cX4_joysOf 3 = .ok (.invokestatic 81, 3) := dk_184 0 81 (dk_at dksX4_joysOf_0 3 rfl rfl)
theorem dX4_joysOf_6 : decode cX4_joysOf 6 = .ok (.aload_n 0, 1) := dk_42 (dk_at dksX4_joysOf_0 6 rfl rfl)
theorem dX4_joysOf_7 : decode cX4_joysOf 7 = .ok (.iload_n 2, 1) := dk_28 (dk_at dksX4_joysOf_0 7 rfl rfl)
theorem dX4_joysOf_8 : decode cX4_joysOf 8 = .ok (.invokestatic 85, 3) := dk_184 0 85 (dk_at dksX4_joysOf_0 8 rfl rfl)
theorem dX4_joysOf_11 : decode cX4_joysOf 11 = .ok (.iadd, 1) := dk_96 (dk_at dksX4_joysOf_0 11 rfl rfl)
theorem dX4_joysOf_12 : decode cX4_joysOf 12 = .ok (.ireturn, 1) := dk_172 (dk_at dksX4_joysOf_0 12 rfl rfl)
abbrev cX4_eaterJoy : ByteArray := prog_21_method_16_code
def yX4_eaterJoy : MethodName := ⟨RX4, "eaterJoy", "([III)I"⟩
def dkwX4_eaterJoy_1 : List UInt8 := [100, 184, 0, 78, 172]
abbrev dktX4_eaterJoy_1 : List UInt8 := dkwX4_eaterJoy_1 ++ []
def dkwX4_eaterJoy_0 : List UInt8 := [3, 42, 27, 184, 0, 70, 42, 27, 3, 184, 0, 53, 46, 184, 0, 74, 42, 28, 8, 184, 0, 53, 46, 104]
abbrev dktX4_eaterJoy_0 : List UInt8 := dkwX4_eaterJoy_0 ++ dktX4_eaterJoy_1
theorem dksX4_eaterJoy_0 : cX4_eaterJoy.data.toList.drop 0 = dktX4_eaterJoy_0 := by decide +kernel
theorem dksX4_eaterJoy_1 : cX4_eaterJoy.data.toList.drop 24 = dktX4_eaterJoy_1 := dk_seg dksX4_eaterJoy_0 24 rfl rfl
theorem dX4_eaterJoy_0 : decode cX4_eaterJoy 0 = .ok (.iconst 0, 1) := dk_3 (dk_at dksX4_eaterJoy_0 0 rfl rfl)
theorem dX4_eaterJoy_1 : decode cX4_eaterJoy 1 = .ok (.aload_n 0, 1) := dk_42 (dk_at dksX4_eaterJoy_0 1 rfl rfl)
theorem dX4_eaterJoy_2 : decode cX4_eaterJoy 2 = .ok (.iload_n 1, 1) := dk_27 (dk_at dksX4_eaterJoy_0 2 rfl rfl)
theorem dX4_eaterJoy_3 : decode cX4_eaterJoy 3 = .ok (.invokestatic 70, 3) := dk_184 0 70 (dk_at dksX4_eaterJoy_0 3 rfl rfl)
theorem dX4_eaterJoy_6 : decode cX4_eaterJoy 6 = .ok (.aload_n 0, 1) := dk_42 (dk_at dksX4_eaterJoy_0 6 rfl rfl)
theorem dX4_eaterJoy_7 : decode cX4_eaterJoy 7 = .ok (.iload_n 1, 1) := dk_27 (dk_at dksX4_eaterJoy_0 7 rfl rfl)
theorem dX4_eaterJoy_8 : decode cX4_eaterJoy 8 = .ok (.iconst 0, 1) := dk_3 (dk_at dksX4_eaterJoy_0 8 rfl rfl)
theorem dX4_eaterJoy_9 : decode cX4_eaterJoy 9 = .ok (.invokestatic 53, 3) := dk_184 0 53 (dk_at dksX4_eaterJoy_0 9 rfl rfl)
theorem dX4_eaterJoy_12 : decode cX4_eaterJoy 12 = .ok (.iaload, 1) := dk_46 (dk_at dksX4_eaterJoy_0 12 rfl rfl)
theorem dX4_eaterJoy_13 : decode cX4_eaterJoy 13 = .ok (.invokestatic 74, 3) := dk_184 0 74 (dk_at dksX4_eaterJoy_0 13 rfl rfl)
theorem dX4_eaterJoy_16 : decode cX4_eaterJoy 16 = .ok (.aload_n 0, 1) := dk_42 (dk_at dksX4_eaterJoy_0 16 rfl rfl)
theorem dX4_eaterJoy_17 : decode cX4_eaterJoy 17 = .ok (.iload_n 2, 1) := dk_28 (dk_at dksX4_eaterJoy_0 17 rfl rfl)
theorem dX4_eaterJoy_18 : decode cX4_eaterJoy 18 = .ok (.iconst 5, 1) := dk_8 (dk_at dksX4_eaterJoy_0 18 rfl rfl)
theorem dX4_eaterJoy_19 : decode cX4_eaterJoy 19 = .ok (.invokestatic 53, 3) := dk_184 0 53 (dk_at dksX4_eaterJoy_0 19 rfl rfl)
theorem dX4_eaterJoy_22 : decode cX4_eaterJoy 22 = .ok (.iaload, 1) := dk_46 (dk_at dksX4_eaterJoy_0 22 rfl rfl)
theorem dX4_eaterJoy_23 : decode cX4_eaterJoy 23 = .ok (.imul, 1) := dk_104 (dk_at dksX4_eaterJoy_0 23 rfl rfl)
theorem dX4_eaterJoy_24 : decode cX4_eaterJoy 24 = .ok (.isub, 1) := dk_100 (dk_at dksX4_eaterJoy_1 0 rfl rfl)
theorem dX4_eaterJoy_25 : decode cX4_eaterJoy 25 = .ok (.invokestatic 78, 3) := dk_184 0 78 (dk_at dksX4_eaterJoy_1 1 rfl rfl)
theorem dX4_eaterJoy_28 : decode cX4_eaterJoy 28 = .ok (.ireturn, 1) := dk_172 (dk_at dksX4_eaterJoy_1 4 rfl rfl)
abbrev cX4_bites : ByteArray := prog_21_method_12_code
def yX4_bites : MethodName := ⟨RX4, "bites", "([II)I"⟩
def dkwX4_bites_1 : List UInt8 := [184, 0, 60, 172]
abbrev dktX4_bites_1 : List UInt8 := dkwX4_bites_1 ++ []
def dkwX4_bites_0 : List UInt8 := [42, 27, 5, 184, 0, 53, 46, 42, 27, 3, 184, 0, 53, 46, 42, 27, 4, 184, 0, 53, 46, 184, 0, 57]
abbrev dktX4_bites_0 : List UInt8 := dkwX4_bites_0 ++ dktX4_bites_1
theorem dksX4_bites_0 : cX4_bites.data.toList.drop 0 = dktX4_bites_0 := by decide +kernel
theorem dksX4_bites_1 : cX4_bites.data.toList.drop 24 = dktX4_bites_1 := dk_seg dksX4_bites_0 24 rfl rfl
theorem dX4_bites_0 : decode cX4_bites 0 = .ok (.aload_n 0, 1) := dk_42 (dk_at dksX4_bites_0 0 rfl rfl)
theorem dX4_bites_1 : decode cX4_bites 1 = .ok (.iload_n 1, 1) := dk_27 (dk_at dksX4_bites_0 1 rfl rfl)
theorem dX4_bites_2 : decode cX4_bites 2 = .ok (.iconst 2, 1) := dk_5 (dk_at dksX4_bites_0 2 rfl rfl)
theorem dX4_bites_3 : decode cX4_bites 3 = .ok (.invokestatic 53, 3) := dk_184 0 53 (dk_at dksX4_bites_0 3 rfl rfl)
theorem dX4_bites_6 : decode cX4_bites 6 = .ok (.iaload, 1) := dk_46 (dk_at dksX4_bites_0 6 rfl rfl)
theorem dX4_bites_7 : decode cX4_bites 7 = .ok (.aload_n 0, 1) := dk_42 (dk_at dksX4_bites_0 7 rfl rfl)
theorem dX4_bites_8 : decode cX4_bites 8 = .ok (.iload_n 1, 1) := dk_27 (dk_at dksX4_bites_0 8 rfl rfl)
theorem dX4_bites_9 : decode cX4_bites 9 = .ok (.iconst 0, 1) := dk_3 (dk_at dksX4_bites_0 9 rfl rfl)
theorem dX4_bites_10 : decode cX4_bites 10 = .ok (.invokestatic 53, 3) := dk_184 0 53 (dk_at dksX4_bites_0 10 rfl rfl)
theorem dX4_bites_13 : decode cX4_bites 13 = .ok (.iaload, 1) := dk_46 (dk_at dksX4_bites_0 13 rfl rfl)
theorem dX4_bites_14 : decode cX4_bites 14 = .ok (.aload_n 0, 1) := dk_42 (dk_at dksX4_bites_0 14 rfl rfl)
theorem dX4_bites_15 : decode cX4_bites 15 = .ok (.iload_n 1, 1) := dk_27 (dk_at dksX4_bites_0 15 rfl rfl)
theorem dX4_bites_16 : decode cX4_bites 16 = .ok (.iconst 1, 1) := dk_4 (dk_at dksX4_bites_0 16 rfl rfl)
theorem dX4_bites_17 : decode cX4_bites 17 = .ok (.invokestatic 53, 3) := dk_184 0 53 (dk_at dksX4_bites_0 17 rfl rfl)
theorem dX4_bites_20 : decode cX4_bites 20 = .ok (.iaload, 1) := dk_46 (dk_at dksX4_bites_0 20 rfl rfl)
theorem dX4_bites_21 : decode cX4_bites 21 = .ok (.invokestatic 57, 3) := dk_184 0 57 (dk_at dksX4_bites_0 21 rfl rfl)
theorem dX4_bites_24 : decode cX4_bites 24 = .ok (.invokestatic 60, 3) := dk_184 0 60 (dk_at dksX4_bites_1 0 rfl rfl)
theorem dX4_bites_27 : decode cX4_bites 27 = .ok (.ireturn, 1) := dk_172 (dk_at dksX4_bites_1 3 rfl rfl)
abbrev cX4_bite : ByteArray := prog_21_method_9_code
def yX4_bite : MethodName := ⟨RX4, "bite", "(II)I"⟩
def dkwX4_bite_2 : List UInt8 := [8, 172, 6, 27, 5, 108, 96, 172, 4, 172, 5, 172, 16, 9, 172, 6, 172]
abbrev dktX4_bite_2 : List UInt8 := dkwX4_bite_2 ++ []
def dkwX4_bite_1 : List UInt8 := [170, 0, 0, 0, 0, 0, 58, 0, 0, 0, 1, 0, 0, 0, 7, 0, 0, 0, 43, 0, 0, 0, 45, 0, 0, 0, 51, 0, 0, 0, 58, 0, 0, 0, 53, 0, 0, 0, 53, 0, 0, 0, 55]
abbrev dktX4_bite_1 : List UInt8 := dkwX4_bite_1 ++ dktX4_bite_2
def dkwX4_bite_0 : List UInt8 := [26]
abbrev dktX4_bite_0 : List UInt8 := dkwX4_bite_0 ++ dktX4_bite_1
theorem dksX4_bite_0 : cX4_bite.data.toList.drop 0 = dktX4_bite_0 := by decide +kernel
theorem dksX4_bite_1 : cX4_bite.data.toList.drop 1 = dktX4_bite_1 := dk_seg dksX4_bite_0 1 rfl rfl
theorem dksX4_bite_2 : cX4_bite.data.toList.drop 44 = dktX4_bite_2 := dk_seg dksX4_bite_1 43 rfl rfl
theorem dX4_bite_0 : decode cX4_bite 0 = .ok (.iload_n 0, 1) := dk_26 (dk_at dksX4_bite_0 0 rfl rfl)
theorem dX4_bite_1 : decode cX4_bite 1 = .ok (.tableswitch 58 1 7 #[43, 45, 51, 58, 53, 53, 55], 43) := by decide +kernel
theorem dX4_bite_44 : decode cX4_bite 44 = .ok (.iconst 5, 1) := dk_8 (dk_at dksX4_bite_2 0 rfl rfl)
theorem dX4_bite_45 : decode cX4_bite 45 = .ok (.ireturn, 1) := dk_172 (dk_at dksX4_bite_2 1 rfl rfl)
theorem dX4_bite_46 : decode cX4_bite 46 = .ok (.iconst 3, 1) := dk_6 (dk_at dksX4_bite_2 2 rfl rfl)
theorem dX4_bite_47 : decode cX4_bite 47 = .ok (.iload_n 1, 1) := dk_27 (dk_at dksX4_bite_2 3 rfl rfl)
theorem dX4_bite_48 : decode cX4_bite 48 = .ok (.iconst 2, 1) := dk_5 (dk_at dksX4_bite_2 4 rfl rfl)
theorem dX4_bite_49 : decode cX4_bite 49 = .ok (.idiv, 1) := dk_108 (dk_at dksX4_bite_2 5 rfl rfl)
theorem dX4_bite_50 : decode cX4_bite 50 = .ok (.iadd, 1) := dk_96 (dk_at dksX4_bite_2 6 rfl rfl)
theorem dX4_bite_51 : decode cX4_bite 51 = .ok (.ireturn, 1) := dk_172 (dk_at dksX4_bite_2 7 rfl rfl)
theorem dX4_bite_52 : decode cX4_bite 52 = .ok (.iconst 1, 1) := dk_4 (dk_at dksX4_bite_2 8 rfl rfl)
theorem dX4_bite_53 : decode cX4_bite 53 = .ok (.ireturn, 1) := dk_172 (dk_at dksX4_bite_2 9 rfl rfl)
theorem dX4_bite_54 : decode cX4_bite 54 = .ok (.iconst 2, 1) := dk_5 (dk_at dksX4_bite_2 10 rfl rfl)
theorem dX4_bite_55 : decode cX4_bite 55 = .ok (.ireturn, 1) := dk_172 (dk_at dksX4_bite_2 11 rfl rfl)
theorem dX4_bite_56 : decode cX4_bite 56 = .ok (.bipush 9, 2) := dk_16 9 (dk_at dksX4_bite_2 12 rfl rfl)
theorem dX4_bite_58 : decode cX4_bite 58 = .ok (.ireturn, 1) := dk_172 (dk_at dksX4_bite_2 14 rfl rfl)
theorem dX4_bite_59 : decode cX4_bite 59 = .ok (.iconst 3, 1) := dk_6 (dk_at dksX4_bite_2 15 rfl rfl)
theorem dX4_bite_60 : decode cX4_bite 60 = .ok (.ireturn, 1) := dk_172 (dk_at dksX4_bite_2 16 rfl rfl)
abbrev cX4_least : ByteArray := prog_21_method_3_code
def yX4_least : MethodName := ⟨RX4, "least", "(II)I"⟩
def dkwX4_least_0 : List UInt8 := [26, 27, 162, 0, 7, 26, 167, 0, 4, 27, 172]
abbrev dktX4_least_0 : List UInt8 := dkwX4_least_0 ++ []
theorem dksX4_least_0 : cX4_least.data.toList.drop 0 = dktX4_least_0 := by decide +kernel
theorem dX4_least_0 : decode cX4_least 0 = .ok (.iload_n 0, 1) := dk_26 (dk_at dksX4_least_0 0 rfl rfl)
theorem dX4_least_1 : decode cX4_least 1 = .ok (.iload_n 1, 1) := dk_27 (dk_at dksX4_least_0 1 rfl rfl)
theorem dX4_least_2 : decode cX4_least 2 = .ok (.if_icmp .ge 7, 3) := dk_162 0 7 (dk_at dksX4_least_0 2 rfl rfl)
theorem dX4_least_5 : decode cX4_least 5 = .ok (.iload_n 0, 1) := dk_26 (dk_at dksX4_least_0 5 rfl rfl)
theorem dX4_least_6 : decode cX4_least 6 = .ok (.goto 4, 3) := dk_167 0 4 (dk_at dksX4_least_0 6 rfl rfl)
theorem dX4_least_9 : decode cX4_least 9 = .ok (.iload_n 1, 1) := dk_27 (dk_at dksX4_least_0 9 rfl rfl)
theorem dX4_least_10 : decode cX4_least 10 = .ok (.ireturn, 1) := dk_172 (dk_at dksX4_least_0 10 rfl rfl)
abbrev cX4_shy : ByteArray := prog_21_method_11_code
def yX4_shy : MethodName := ⟨RX4, "shy", "(I)I"⟩
def dkwX4_shy_1 : List UInt8 := [3, 172]
abbrev dktX4_shy_1 : List UInt8 := dkwX4_shy_1 ++ []
def dkwX4_shy_0 : List UInt8 := [26, 16, 6, 160, 0, 7, 5, 167, 0, 18, 26, 4, 159, 0, 8, 26, 5, 160, 0, 7, 4, 167, 0, 4]
abbrev dktX4_shy_0 : List UInt8 := dkwX4_shy_0 ++ dktX4_shy_1
theorem dksX4_shy_0 : cX4_shy.data.toList.drop 0 = dktX4_shy_0 := by decide +kernel
theorem dksX4_shy_1 : cX4_shy.data.toList.drop 24 = dktX4_shy_1 := dk_seg dksX4_shy_0 24 rfl rfl
theorem dX4_shy_0 : decode cX4_shy 0 = .ok (.iload_n 0, 1) := dk_26 (dk_at dksX4_shy_0 0 rfl rfl)
theorem dX4_shy_1 : decode cX4_shy 1 = .ok (.bipush 6, 2) := dk_16 6 (dk_at dksX4_shy_0 1 rfl rfl)
theorem dX4_shy_3 : decode cX4_shy 3 = .ok (.if_icmp .ne 7, 3) := dk_160 0 7 (dk_at dksX4_shy_0 3 rfl rfl)
theorem dX4_shy_6 : decode cX4_shy 6 = .ok (.iconst 2, 1) := dk_5 (dk_at dksX4_shy_0 6 rfl rfl)
theorem dX4_shy_7 : decode cX4_shy 7 = .ok (.goto 18, 3) := dk_167 0 18 (dk_at dksX4_shy_0 7 rfl rfl)
theorem dX4_shy_10 : decode cX4_shy 10 = .ok (.iload_n 0, 1) := dk_26 (dk_at dksX4_shy_0 10 rfl rfl)
theorem dX4_shy_11 : decode cX4_shy 11 = .ok (.iconst 1, 1) := dk_4 (dk_at dksX4_shy_0 11 rfl rfl)
theorem dX4_shy_12 : decode cX4_shy 12 = .ok (.if_icmp .eq 8, 3) := dk_159 0 8 (dk_at dksX4_shy_0 12 rfl rfl)
theorem dX4_shy_15 : decode cX4_shy 15 = .ok (.iload_n 0, 1) := dk_26 (dk_at dksX4_shy_0 15 rfl rfl)
theorem dX4_shy_16 : decode cX4_shy 16 = .ok (.iconst 2, 1) := dk_5 (dk_at dksX4_shy_0 16 rfl rfl)
theorem dX4_shy_17 : decode cX4_shy 17 = .ok (.if_icmp .ne 7, 3) := dk_160 0 7 (dk_at dksX4_shy_0 17 rfl rfl)
theorem dX4_shy_20 : decode cX4_shy 20 = .ok (.iconst 1, 1) := dk_4 (dk_at dksX4_shy_0 20 rfl rfl)
theorem dX4_shy_21 : decode cX4_shy 21 = .ok (.goto 4, 3) := dk_167 0 4 (dk_at dksX4_shy_0 21 rfl rfl)
theorem dX4_shy_24 : decode cX4_shy 24 = .ok (.iconst 0, 1) := dk_3 (dk_at dksX4_shy_1 0 rfl rfl)
theorem dX4_shy_25 : decode cX4_shy 25 = .ok (.ireturn, 1) := dk_172 (dk_at dksX4_shy_1 1 rfl rfl)
abbrev cX4_most : ByteArray := prog_21_method_4_code
def yX4_most : MethodName := ⟨RX4, "most", "(II)I"⟩
def dkwX4_most_0 : List UInt8 := [26, 27, 164, 0, 7, 26, 167, 0, 4, 27, 172]
abbrev dktX4_most_0 : List UInt8 := dkwX4_most_0 ++ []
theorem dksX4_most_0 : cX4_most.data.toList.drop 0 = dktX4_most_0 := by decide +kernel
theorem dX4_most_0 : decode cX4_most 0 = .ok (.iload_n 0, 1) := dk_26 (dk_at dksX4_most_0 0 rfl rfl)
theorem dX4_most_1 : decode cX4_most 1 = .ok (.iload_n 1, 1) := dk_27 (dk_at dksX4_most_0 1 rfl rfl)
theorem dX4_most_2 : decode cX4_most 2 = .ok (.if_icmp .le 7, 3) := dk_164 0 7 (dk_at dksX4_most_0 2 rfl rfl)
theorem dX4_most_5 : decode cX4_most 5 = .ok (.iload_n 0, 1) := dk_26 (dk_at dksX4_most_0 5 rfl rfl)
theorem dX4_most_6 : decode cX4_most 6 = .ok (.goto 4, 3) := dk_167 0 4 (dk_at dksX4_most_0 6 rfl rfl)
theorem dX4_most_9 : decode cX4_most 9 = .ok (.iload_n 1, 1) := dk_27 (dk_at dksX4_most_0 9 rfl rfl)
theorem dX4_most_10 : decode cX4_most 10 = .ok (.ireturn, 1) := dk_172 (dk_at dksX4_most_0 10 rfl rfl)
abbrev cX4_gazes : ByteArray := prog_21_method_13_code
def yX4_gazes : MethodName := ⟨RX4, "gazes", "([II)I"⟩
def dkwX4_gazes_1 : List UInt8 := [184, 0, 60, 172]
abbrev dktX4_gazes_1 : List UInt8 := dkwX4_gazes_1 ++ []
def dkwX4_gazes_0 : List UInt8 := [42, 27, 6, 184, 0, 53, 46, 42, 27, 3, 184, 0, 53, 46, 42, 27, 4, 184, 0, 53, 46, 184, 0, 63]
abbrev dktX4_gazes_0 : List UInt8 := dkwX4_gazes_0 ++ dktX4_gazes_1
theorem dksX4_gazes_0 : cX4_gazes.data.toList.drop 0 = dktX4_gazes_0 := by decide +kernel
theorem dksX4_gazes_1 : cX4_gazes.data.toList.drop 24 = dktX4_gazes_1 := dk_seg dksX4_gazes_0 24 rfl rfl
theorem dX4_gazes_0 : decode cX4_gazes 0 = .ok (.aload_n 0, 1) := dk_42 (dk_at dksX4_gazes_0 0 rfl rfl)
theorem dX4_gazes_1 : decode cX4_gazes 1 = .ok (.iload_n 1, 1) := dk_27 (dk_at dksX4_gazes_0 1 rfl rfl)
theorem dX4_gazes_2 : decode cX4_gazes 2 = .ok (.iconst 3, 1) := dk_6 (dk_at dksX4_gazes_0 2 rfl rfl)
theorem dX4_gazes_3 : decode cX4_gazes 3 = .ok (.invokestatic 53, 3) := dk_184 0 53 (dk_at dksX4_gazes_0 3 rfl rfl)
theorem dX4_gazes_6 : decode cX4_gazes 6 = .ok (.iaload, 1) := dk_46 (dk_at dksX4_gazes_0 6 rfl rfl)
theorem dX4_gazes_7 : decode cX4_gazes 7 = .ok (.aload_n 0, 1) := dk_42 (dk_at dksX4_gazes_0 7 rfl rfl)
theorem dX4_gazes_8 : decode cX4_gazes 8 = .ok (.iload_n 1, 1) := dk_27 (dk_at dksX4_gazes_0 8 rfl rfl)
theorem dX4_gazes_9 : decode cX4_gazes 9 = .ok (.iconst 0, 1) := dk_3 (dk_at dksX4_gazes_0 9 rfl rfl)
theorem dX4_gazes_10 : decode cX4_gazes 10 = .ok (.invokestatic 53, 3) := dk_184 0 53 (dk_at dksX4_gazes_0 10 rfl rfl)
theorem dX4_gazes_13 : decode cX4_gazes 13 = .ok (.iaload, 1) := dk_46 (dk_at dksX4_gazes_0 13 rfl rfl)
theorem dX4_gazes_14 : decode cX4_gazes 14 = .ok (.aload_n 0, 1) := dk_42 (dk_at dksX4_gazes_0 14 rfl rfl)
theorem dX4_gazes_15 : decode cX4_gazes 15 = .ok (.iload_n 1, 1) := dk_27 (dk_at dksX4_gazes_0 15 rfl rfl)
theorem dX4_gazes_16 : decode cX4_gazes 16 = .ok (.iconst 1, 1) := dk_4 (dk_at dksX4_gazes_0 16 rfl rfl)
theorem dX4_gazes_17 : decode cX4_gazes 17 = .ok (.invokestatic 53, 3) := dk_184 0 53 (dk_at dksX4_gazes_0 17 rfl rfl)
theorem dX4_gazes_20 : decode cX4_gazes 20 = .ok (.iaload, 1) := dk_46 (dk_at dksX4_gazes_0 20 rfl rfl)
theorem dX4_gazes_21 : decode cX4_gazes 21 = .ok (.invokestatic 63, 3) := dk_184 0 63 (dk_at dksX4_gazes_0 21 rfl rfl)
theorem dX4_gazes_24 : decode cX4_gazes 24 = .ok (.invokestatic 60, 3) := dk_184 0 60 (dk_at dksX4_gazes_1 0 rfl rfl)
theorem dX4_gazes_27 : decode cX4_gazes 27 = .ok (.ireturn, 1) := dk_172 (dk_at dksX4_gazes_1 3 rfl rfl)
abbrev cX4_gaze : ByteArray := prog_21_method_10_code
def yX4_gaze : MethodName := ⟨RX4, "gaze", "(II)I"⟩
def dkwX4_gaze_2 : List UInt8 := [4, 172, 7, 172, 5, 27, 6, 108, 96, 172, 5, 5, 27, 6, 108, 96, 104, 172, 3, 172, 5, 172]
abbrev dktX4_gaze_2 : List UInt8 := dkwX4_gaze_2 ++ []
def dkwX4_gaze_1 : List UInt8 := [170, 0, 0, 0, 0, 0, 63, 0, 0, 0, 1, 0, 0, 0, 7, 0, 0, 0, 43, 0, 0, 0, 45, 0, 0, 0, 47, 0, 0, 0, 61, 0, 0, 0, 53, 0, 0, 0, 43, 0, 0, 0, 61]
abbrev dktX4_gaze_1 : List UInt8 := dkwX4_gaze_1 ++ dktX4_gaze_2
def dkwX4_gaze_0 : List UInt8 := [26]
abbrev dktX4_gaze_0 : List UInt8 := dkwX4_gaze_0 ++ dktX4_gaze_1
theorem dksX4_gaze_0 : cX4_gaze.data.toList.drop 0 = dktX4_gaze_0 := by decide +kernel
theorem dksX4_gaze_1 : cX4_gaze.data.toList.drop 1 = dktX4_gaze_1 := dk_seg dksX4_gaze_0 1 rfl rfl
theorem dksX4_gaze_2 : cX4_gaze.data.toList.drop 44 = dktX4_gaze_2 := dk_seg dksX4_gaze_1 43 rfl rfl
theorem dX4_gaze_0 : decode cX4_gaze 0 = .ok (.iload_n 0, 1) := dk_26 (dk_at dksX4_gaze_0 0 rfl rfl)
theorem dX4_gaze_1 : decode cX4_gaze 1 = .ok (.tableswitch 63 1 7 #[43, 45, 47, 61, 53, 43, 61], 43) := by decide +kernel
theorem dX4_gaze_44 : decode cX4_gaze 44 = .ok (.iconst 1, 1) := dk_4 (dk_at dksX4_gaze_2 0 rfl rfl)
theorem dX4_gaze_45 : decode cX4_gaze 45 = .ok (.ireturn, 1) := dk_172 (dk_at dksX4_gaze_2 1 rfl rfl)
theorem dX4_gaze_46 : decode cX4_gaze 46 = .ok (.iconst 4, 1) := dk_7 (dk_at dksX4_gaze_2 2 rfl rfl)
theorem dX4_gaze_47 : decode cX4_gaze 47 = .ok (.ireturn, 1) := dk_172 (dk_at dksX4_gaze_2 3 rfl rfl)
theorem dX4_gaze_48 : decode cX4_gaze 48 = .ok (.iconst 2, 1) := dk_5 (dk_at dksX4_gaze_2 4 rfl rfl)
theorem dX4_gaze_49 : decode cX4_gaze 49 = .ok (.iload_n 1, 1) := dk_27 (dk_at dksX4_gaze_2 5 rfl rfl)
theorem dX4_gaze_50 : decode cX4_gaze 50 = .ok (.iconst 3, 1) := dk_6 (dk_at dksX4_gaze_2 6 rfl rfl)
theorem dX4_gaze_51 : decode cX4_gaze 51 = .ok (.idiv, 1) := dk_108 (dk_at dksX4_gaze_2 7 rfl rfl)
theorem dX4_gaze_52 : decode cX4_gaze 52 = .ok (.iadd, 1) := dk_96 (dk_at dksX4_gaze_2 8 rfl rfl)
theorem dX4_gaze_53 : decode cX4_gaze 53 = .ok (.ireturn, 1) := dk_172 (dk_at dksX4_gaze_2 9 rfl rfl)
theorem dX4_gaze_54 : decode cX4_gaze 54 = .ok (.iconst 2, 1) := dk_5 (dk_at dksX4_gaze_2 10 rfl rfl)
theorem dX4_gaze_55 : decode cX4_gaze 55 = .ok (.iconst 2, 1) := dk_5 (dk_at dksX4_gaze_2 11 rfl rfl)
theorem dX4_gaze_56 : decode cX4_gaze 56 = .ok (.iload_n 1, 1) := dk_27 (dk_at dksX4_gaze_2 12 rfl rfl)
theorem dX4_gaze_57 : decode cX4_gaze 57 = .ok (.iconst 3, 1) := dk_6 (dk_at dksX4_gaze_2 13 rfl rfl)
theorem dX4_gaze_58 : decode cX4_gaze 58 = .ok (.idiv, 1) := dk_108 (dk_at dksX4_gaze_2 14 rfl rfl)
theorem dX4_gaze_59 : decode cX4_gaze 59 = .ok (.iadd, 1) := dk_96 (dk_at dksX4_gaze_2 15 rfl rfl)
theorem dX4_gaze_60 : decode cX4_gaze 60 = .ok (.imul, 1) := dk_104 (dk_at dksX4_gaze_2 16 rfl rfl)
theorem dX4_gaze_61 : decode cX4_gaze 61 = .ok (.ireturn, 1) := dk_172 (dk_at dksX4_gaze_2 17 rfl rfl)
theorem dX4_gaze_62 : decode cX4_gaze 62 = .ok (.iconst 0, 1) := dk_3 (dk_at dksX4_gaze_2 18 rfl rfl)
theorem dX4_gaze_63 : decode cX4_gaze 63 = .ok (.ireturn, 1) := dk_172 (dk_at dksX4_gaze_2 19 rfl rfl)
theorem dX4_gaze_64 : decode cX4_gaze 64 = .ok (.iconst 2, 1) := dk_5 (dk_at dksX4_gaze_2 20 rfl rfl)
theorem dX4_gaze_65 : decode cX4_gaze 65 = .ok (.ireturn, 1) := dk_172 (dk_at dksX4_gaze_2 21 rfl rfl)
abbrev cX4_person : ByteArray := prog_21_method_27_code
def yX4_person : MethodName := ⟨RX4, "person", "(II)I"⟩
def dkwX4_person_4 : List UInt8 := [184, 0, 74, 172]
abbrev dktX4_person_4 : List UInt8 := dkwX4_person_4 ++ []
def dkwX4_person_3 : List UInt8 := [21, 4, 184, 0, 57, 167, 0, 22, 28, 16, 7, 160, 0, 12, 29, 21, 4, 184, 0, 63, 167, 0, 7, 29]
abbrev dktX4_person_3 : List UInt8 := dkwX4_person_3 ++ dktX4_person_4
def dkwX4_person_2 : List UInt8 := [162, 0, 16, 42, 180, 0, 9, 27, 28, 184, 0, 53, 46, 167, 0, 37, 28, 16, 6, 160, 0, 12, 29]
abbrev dktX4_person_2 : List UInt8 := dkwX4_person_2 ++ dktX4_person_3
def dkwX4_person_1 : List UInt8 := [27, 3, 184, 0, 53, 46, 62, 42, 180, 0, 9, 27, 4, 184, 0, 53, 46, 54, 4, 28, 16, 6]
abbrev dktX4_person_1 : List UInt8 := dkwX4_person_1 ++ dktX4_person_2
def dkwX4_person_0 : List UInt8 := [42, 27, 182, 0, 121, 153, 0, 13, 28, 3, 16, 8, 184, 0, 49, 154, 0, 5, 2, 172, 42, 180, 0, 9]
abbrev dktX4_person_0 : List UInt8 := dkwX4_person_0 ++ dktX4_person_1
theorem dksX4_person_0 : cX4_person.data.toList.drop 0 = dktX4_person_0 := by decide +kernel
theorem dksX4_person_1 : cX4_person.data.toList.drop 24 = dktX4_person_1 := dk_seg dksX4_person_0 24 rfl rfl
theorem dksX4_person_2 : cX4_person.data.toList.drop 46 = dktX4_person_2 := dk_seg dksX4_person_1 22 rfl rfl
theorem dksX4_person_3 : cX4_person.data.toList.drop 69 = dktX4_person_3 := dk_seg dksX4_person_2 23 rfl rfl
theorem dksX4_person_4 : cX4_person.data.toList.drop 93 = dktX4_person_4 := dk_seg dksX4_person_3 24 rfl rfl
theorem dX4_person_0 : decode cX4_person 0 = .ok (.aload_n 0, 1) := dk_42 (dk_at dksX4_person_0 0 rfl rfl)
theorem dX4_person_1 : decode cX4_person 1 = .ok (.iload_n 1, 1) := dk_27 (dk_at dksX4_person_0 1 rfl rfl)
theorem dX4_person_2 : decode cX4_person 2 = .ok (.invokevirtual 121, 3) := dk_182 0 121 (dk_at dksX4_person_0 2 rfl rfl)
theorem dX4_person_5 : decode cX4_person 5 = .ok (.ifCond .eq 13, 3) := dk_153 0 13 (dk_at dksX4_person_0 5 rfl rfl)
theorem dX4_person_8 : decode cX4_person 8 = .ok (.iload_n 2, 1) := dk_28 (dk_at dksX4_person_0 8 rfl rfl)
theorem dX4_person_9 : decode cX4_person 9 = .ok (.iconst 0, 1) := dk_3 (dk_at dksX4_person_0 9 rfl rfl)
theorem dX4_person_10 : decode cX4_person 10 = .ok (.bipush 8, 2) := dk_16 8 (dk_at dksX4_person_0 10 rfl rfl)
theorem dX4_person_12 : decode cX4_person 12 = .ok (.invokestatic 49, 3) := dk_184 0 49 (dk_at dksX4_person_0 12 rfl rfl)
theorem dX4_person_15 : decode cX4_person 15 = .ok (.ifCond .ne 5, 3) := dk_154 0 5 (dk_at dksX4_person_0 15 rfl rfl)
theorem dX4_person_18 : decode cX4_person 18 = .ok (.iconst (-1), 1) := dk_2 (dk_at dksX4_person_0 18 rfl rfl)
theorem dX4_person_19 : decode cX4_person 19 = .ok (.ireturn, 1) := dk_172 (dk_at dksX4_person_0 19 rfl rfl)
theorem dX4_person_20 : decode cX4_person 20 = .ok (.aload_n 0, 1) := dk_42 (dk_at dksX4_person_0 20 rfl rfl)
theorem dX4_person_21 : decode cX4_person 21 = .ok (.getfield 9, 3) := dk_180 0 9 (dk_at dksX4_person_0 21 rfl rfl)
theorem dX4_person_24 : decode cX4_person 24 = .ok (.iload_n 1, 1) := dk_27 (dk_at dksX4_person_1 0 rfl rfl)
theorem dX4_person_25 : decode cX4_person 25 = .ok (.iconst 0, 1) := dk_3 (dk_at dksX4_person_1 1 rfl rfl)
theorem dX4_person_26 : decode cX4_person 26 = .ok (.invokestatic 53, 3) := dk_184 0 53 (dk_at dksX4_person_1 2 rfl rfl)
theorem dX4_person_29 : decode cX4_person 29 = .ok (.iaload, 1) := dk_46 (dk_at dksX4_person_1 5 rfl rfl)
theorem dX4_person_30 : decode cX4_person 30 = .ok (.istore_n 3, 1) := dk_62 (dk_at dksX4_person_1 6 rfl rfl)
theorem dX4_person_31 : decode cX4_person 31 = .ok (.aload_n 0, 1) := dk_42 (dk_at dksX4_person_1 7 rfl rfl)
theorem dX4_person_32 : decode cX4_person 32 = .ok (.getfield 9, 3) := dk_180 0 9 (dk_at dksX4_person_1 8 rfl rfl)
theorem dX4_person_35 : decode cX4_person 35 = .ok (.iload_n 1, 1) := dk_27 (dk_at dksX4_person_1 11 rfl rfl)
theorem dX4_person_36 : decode cX4_person 36 = .ok (.iconst 1, 1) := dk_4 (dk_at dksX4_person_1 12 rfl rfl)
theorem dX4_person_37 : decode cX4_person 37 = .ok (.invokestatic 53, 3) := dk_184 0 53 (dk_at dksX4_person_1 13 rfl rfl)
theorem dX4_person_40 : decode cX4_person 40 = .ok (.iaload, 1) := dk_46 (dk_at dksX4_person_1 16 rfl rfl)
theorem dX4_person_41 : decode cX4_person 41 = .ok (.istore 4, 2) := dk_54 4 (dk_at dksX4_person_1 17 rfl rfl)
theorem dX4_person_43 : decode cX4_person 43 = .ok (.iload_n 2, 1) := dk_28 (dk_at dksX4_person_1 19 rfl rfl)
theorem dX4_person_44 : decode cX4_person 44 = .ok (.bipush 6, 2) := dk_16 6 (dk_at dksX4_person_1 20 rfl rfl)
theorem dX4_person_46 : decode cX4_person 46 = .ok (.if_icmp .ge 16, 3) := dk_162 0 16 (dk_at dksX4_person_2 0 rfl rfl)
theorem dX4_person_49 : decode cX4_person 49 = .ok (.aload_n 0, 1) := dk_42 (dk_at dksX4_person_2 3 rfl rfl)
theorem dX4_person_50 : decode cX4_person 50 = .ok (.getfield 9, 3) := dk_180 0 9 (dk_at dksX4_person_2 4 rfl rfl)
theorem dX4_person_53 : decode cX4_person 53 = .ok (.iload_n 1, 1) := dk_27 (dk_at dksX4_person_2 7 rfl rfl)
theorem dX4_person_54 : decode cX4_person 54 = .ok (.iload_n 2, 1) := dk_28 (dk_at dksX4_person_2 8 rfl rfl)
theorem dX4_person_55 : decode cX4_person 55 = .ok (.invokestatic 53, 3) := dk_184 0 53 (dk_at dksX4_person_2 9 rfl rfl)
theorem dX4_person_58 : decode cX4_person 58 = .ok (.iaload, 1) := dk_46 (dk_at dksX4_person_2 12 rfl rfl)
theorem dX4_person_59 : decode cX4_person 59 = .ok (.goto 37, 3) := dk_167 0 37 (dk_at dksX4_person_2 13 rfl rfl)
theorem dX4_person_62 : decode cX4_person 62 = .ok (.iload_n 2, 1) := dk_28 (dk_at dksX4_person_2 16 rfl rfl)
theorem dX4_person_63 : decode cX4_person 63 = .ok (.bipush 6, 2) := dk_16 6 (dk_at dksX4_person_2 17 rfl rfl)
theorem dX4_person_65 : decode cX4_person 65 = .ok (.if_icmp .ne 12, 3) := dk_160 0 12 (dk_at dksX4_person_2 19 rfl rfl)
theorem dX4_person_68 : decode cX4_person 68 = .ok (.iload_n 3, 1) := dk_29 (dk_at dksX4_person_2 22 rfl rfl)
theorem dX4_person_69 : decode cX4_person 69 = .ok (.iload 4, 2) := dk_21 4 (dk_at dksX4_person_3 0 rfl rfl)
theorem dX4_person_71 : decode cX4_person 71 = .ok (.invokestatic 57, 3) := dk_184 0 57 (dk_at dksX4_person_3 2 rfl rfl)
theorem dX4_person_74 : decode cX4_person 74 = .ok (.goto 22, 3) := dk_167 0 22 (dk_at dksX4_person_3 5 rfl rfl)
theorem dX4_person_77 : decode cX4_person 77 = .ok (.iload_n 2, 1) := dk_28 (dk_at dksX4_person_3 8 rfl rfl)
theorem dX4_person_78 : decode cX4_person 78 = .ok (.bipush 7, 2) := dk_16 7 (dk_at dksX4_person_3 9 rfl rfl)
theorem dX4_person_80 : decode cX4_person 80 = .ok (.if_icmp .ne 12, 3) := dk_160 0 12 (dk_at dksX4_person_3 11 rfl rfl)
theorem dX4_person_83 : decode cX4_person 83 = .ok (.iload_n 3, 1) := dk_29 (dk_at dksX4_person_3 14 rfl rfl)
theorem dX4_person_84 : decode cX4_person 84 = .ok (.iload 4, 2) := dk_21 4 (dk_at dksX4_person_3 15 rfl rfl)
theorem dX4_person_86 : decode cX4_person 86 = .ok (.invokestatic 63, 3) := dk_184 0 63 (dk_at dksX4_person_3 17 rfl rfl)
theorem dX4_person_89 : decode cX4_person 89 = .ok (.goto 7, 3) := dk_167 0 7 (dk_at dksX4_person_3 20 rfl rfl)
theorem dX4_person_92 : decode cX4_person 92 = .ok (.iload_n 3, 1) := dk_29 (dk_at dksX4_person_3 23 rfl rfl)
theorem dX4_person_93 : decode cX4_person 93 = .ok (.invokestatic 74, 3) := dk_184 0 74 (dk_at dksX4_person_4 0 rfl rfl)
theorem dX4_person_96 : decode cX4_person 96 = .ok (.ireturn, 1) := dk_172 (dk_at dksX4_person_4 3 rfl rfl)
abbrev cX4_comes : ByteArray := prog_21_method_28_code
def yX4_comes : MethodName := ⟨RX4, "comes", "(III)I"⟩
def dkwX4_comes_3 : List UInt8 := [42, 180, 0, 9, 3, 46, 4, 100, 172]
abbrev dktX4_comes_3 : List UInt8 := dkwX4_comes_3 ++ []
def dkwX4_comes_2 : List UInt8 := [16, 254, 172, 42, 180, 0, 9, 42, 180, 0, 34, 27, 46, 42, 180, 0, 37, 27, 46, 28, 29, 184, 0, 117]
abbrev dktX4_comes_2 : List UInt8 := dkwX4_comes_2 ++ dktX4_comes_3
def dkwX4_comes_1 : List UInt8 := [182, 0, 142, 54, 4, 21, 4, 153, 0, 6, 21, 4, 172, 42, 180, 0, 9, 3, 46, 16, 8, 160, 0, 6]
abbrev dktX4_comes_1 : List UInt8 := dkwX4_comes_1 ++ dktX4_comes_2
def dkwX4_comes_0 : List UInt8 := [28, 3, 16, 30, 184, 0, 49, 153, 0, 13, 29, 3, 16, 30, 184, 0, 49, 154, 0, 5, 2, 172, 42, 27]
abbrev dktX4_comes_0 : List UInt8 := dkwX4_comes_0 ++ dktX4_comes_1
theorem dksX4_comes_0 : cX4_comes.data.toList.drop 0 = dktX4_comes_0 := by decide +kernel
theorem dksX4_comes_1 : cX4_comes.data.toList.drop 24 = dktX4_comes_1 := dk_seg dksX4_comes_0 24 rfl rfl
theorem dksX4_comes_2 : cX4_comes.data.toList.drop 48 = dktX4_comes_2 := dk_seg dksX4_comes_1 24 rfl rfl
theorem dksX4_comes_3 : cX4_comes.data.toList.drop 72 = dktX4_comes_3 := dk_seg dksX4_comes_2 24 rfl rfl
theorem dX4_comes_0 : decode cX4_comes 0 = .ok (.iload_n 2, 1) := dk_28 (dk_at dksX4_comes_0 0 rfl rfl)
theorem dX4_comes_1 : decode cX4_comes 1 = .ok (.iconst 0, 1) := dk_3 (dk_at dksX4_comes_0 1 rfl rfl)
theorem dX4_comes_2 : decode cX4_comes 2 = .ok (.bipush 30, 2) := dk_16 30 (dk_at dksX4_comes_0 2 rfl rfl)
theorem dX4_comes_4 : decode cX4_comes 4 = .ok (.invokestatic 49, 3) := dk_184 0 49 (dk_at dksX4_comes_0 4 rfl rfl)
theorem dX4_comes_7 : decode cX4_comes 7 = .ok (.ifCond .eq 13, 3) := dk_153 0 13 (dk_at dksX4_comes_0 7 rfl rfl)
theorem dX4_comes_10 : decode cX4_comes 10 = .ok (.iload_n 3, 1) := dk_29 (dk_at dksX4_comes_0 10 rfl rfl)
theorem dX4_comes_11 : decode cX4_comes 11 = .ok (.iconst 0, 1) := dk_3 (dk_at dksX4_comes_0 11 rfl rfl)
theorem dX4_comes_12 : decode cX4_comes 12 = .ok (.bipush 30, 2) := dk_16 30 (dk_at dksX4_comes_0 12 rfl rfl)
theorem dX4_comes_14 : decode cX4_comes 14 = .ok (.invokestatic 49, 3) := dk_184 0 49 (dk_at dksX4_comes_0 14 rfl rfl)
theorem dX4_comes_17 : decode cX4_comes 17 = .ok (.ifCond .ne 5, 3) := dk_154 0 5 (dk_at dksX4_comes_0 17 rfl rfl)
theorem dX4_comes_20 : decode cX4_comes 20 = .ok (.iconst (-1), 1) := dk_2 (dk_at dksX4_comes_0 20 rfl rfl)
theorem dX4_comes_21 : decode cX4_comes 21 = .ok (.ireturn, 1) := dk_172 (dk_at dksX4_comes_0 21 rfl rfl)
theorem dX4_comes_22 : decode cX4_comes 22 = .ok (.aload_n 0, 1) := dk_42 (dk_at dksX4_comes_0 22 rfl rfl)
theorem dX4_comes_23 : decode cX4_comes 23 = .ok (.iload_n 1, 1) := dk_27 (dk_at dksX4_comes_0 23 rfl rfl)
theorem dX4_comes_24 : decode cX4_comes 24 = .ok (.invokevirtual 142, 3) := dk_182 0 142 (dk_at dksX4_comes_1 0 rfl rfl)
theorem dX4_comes_27 : decode cX4_comes 27 = .ok (.istore 4, 2) := dk_54 4 (dk_at dksX4_comes_1 3 rfl rfl)
theorem dX4_comes_29 : decode cX4_comes 29 = .ok (.iload 4, 2) := dk_21 4 (dk_at dksX4_comes_1 5 rfl rfl)
theorem dX4_comes_31 : decode cX4_comes 31 = .ok (.ifCond .eq 6, 3) := dk_153 0 6 (dk_at dksX4_comes_1 7 rfl rfl)
theorem dX4_comes_34 : decode cX4_comes 34 = .ok (.iload 4, 2) := dk_21 4 (dk_at dksX4_comes_1 10 rfl rfl)
theorem dX4_comes_36 : decode cX4_comes 36 = .ok (.ireturn, 1) := dk_172 (dk_at dksX4_comes_1 12 rfl rfl)
theorem dX4_comes_37 : decode cX4_comes 37 = .ok (.aload_n 0, 1) := dk_42 (dk_at dksX4_comes_1 13 rfl rfl)
theorem dX4_comes_38 : decode cX4_comes 38 = .ok (.getfield 9, 3) := dk_180 0 9 (dk_at dksX4_comes_1 14 rfl rfl)
theorem dX4_comes_41 : decode cX4_comes 41 = .ok (.iconst 0, 1) := dk_3 (dk_at dksX4_comes_1 17 rfl rfl)
theorem dX4_comes_42 : decode cX4_comes 42 = .ok (.iaload, 1) := dk_46 (dk_at dksX4_comes_1 18 rfl rfl)
theorem dX4_comes_43 : decode cX4_comes 43 = .ok (.bipush 8, 2) := dk_16 8 (dk_at dksX4_comes_1 19 rfl rfl)
theorem dX4_comes_45 : decode cX4_comes 45 = .ok (.if_icmp .ne 6, 3) := dk_160 0 6 (dk_at dksX4_comes_1 21 rfl rfl)
theorem dX4_comes_48 : decode cX4_comes 48 = .ok (.bipush (-2), 2) := dk_16 254 (dk_at dksX4_comes_2 0 rfl rfl)
theorem dX4_comes_50 : decode cX4_comes 50 = .ok (.ireturn, 1) := dk_172 (dk_at dksX4_comes_2 2 rfl rfl)
theorem dX4_comes_51 : decode cX4_comes 51 = .ok (.aload_n 0, 1) := dk_42 (dk_at dksX4_comes_2 3 rfl rfl)
theorem dX4_comes_52 : decode cX4_comes 52 = .ok (.getfield 9, 3) := dk_180 0 9 (dk_at dksX4_comes_2 4 rfl rfl)
theorem dX4_comes_55 : decode cX4_comes 55 = .ok (.aload_n 0, 1) := dk_42 (dk_at dksX4_comes_2 7 rfl rfl)
theorem dX4_comes_56 : decode cX4_comes 56 = .ok (.getfield 34, 3) := dk_180 0 34 (dk_at dksX4_comes_2 8 rfl rfl)
theorem dX4_comes_59 : decode cX4_comes 59 = .ok (.iload_n 1, 1) := dk_27 (dk_at dksX4_comes_2 11 rfl rfl)
theorem dX4_comes_60 : decode cX4_comes 60 = .ok (.iaload, 1) := dk_46 (dk_at dksX4_comes_2 12 rfl rfl)
theorem dX4_comes_61 : decode cX4_comes 61 = .ok (.aload_n 0, 1) := dk_42 (dk_at dksX4_comes_2 13 rfl rfl)
theorem dX4_comes_62 : decode cX4_comes 62 = .ok (.getfield 37, 3) := dk_180 0 37 (dk_at dksX4_comes_2 14 rfl rfl)
theorem dX4_comes_65 : decode cX4_comes 65 = .ok (.iload_n 1, 1) := dk_27 (dk_at dksX4_comes_2 17 rfl rfl)
theorem dX4_comes_66 : decode cX4_comes 66 = .ok (.iaload, 1) := dk_46 (dk_at dksX4_comes_2 18 rfl rfl)
theorem dX4_comes_67 : decode cX4_comes 67 = .ok (.iload_n 2, 1) := dk_28 (dk_at dksX4_comes_2 19 rfl rfl)
theorem dX4_comes_68 : decode cX4_comes 68 = .ok (.iload_n 3, 1) := dk_29 (dk_at dksX4_comes_2 20 rfl rfl)
theorem dX4_comes_69 : decode cX4_comes 69 = .ok (.invokestatic 117, 3) := dk_184 0 117 (dk_at dksX4_comes_2 21 rfl rfl)
theorem dX4_comes_72 : decode cX4_comes 72 = .ok (.aload_n 0, 1) := dk_42 (dk_at dksX4_comes_3 0 rfl rfl)
theorem dX4_comes_73 : decode cX4_comes 73 = .ok (.getfield 9, 3) := dk_180 0 9 (dk_at dksX4_comes_3 1 rfl rfl)
theorem dX4_comes_76 : decode cX4_comes 76 = .ok (.iconst 0, 1) := dk_3 (dk_at dksX4_comes_3 4 rfl rfl)
theorem dX4_comes_77 : decode cX4_comes 77 = .ok (.iaload, 1) := dk_46 (dk_at dksX4_comes_3 5 rfl rfl)
theorem dX4_comes_78 : decode cX4_comes 78 = .ok (.iconst 1, 1) := dk_4 (dk_at dksX4_comes_3 6 rfl rfl)
theorem dX4_comes_79 : decode cX4_comes 79 = .ok (.isub, 1) := dk_100 (dk_at dksX4_comes_3 7 rfl rfl)
theorem dX4_comes_80 : decode cX4_comes 80 = .ok (.ireturn, 1) := dk_172 (dk_at dksX4_comes_3 8 rfl rfl)
abbrev cX4_wrongKept : ByteArray := prog_21_method_73_code
def yX4_wrongKept : MethodName := ⟨RX4, "wrongKept", "(I)I"⟩
def dkwX4_wrongKept_1 : List UInt8 := [167, 0, 19, 42, 180, 0, 31, 27, 46, 5, 160, 0, 8, 16, 244, 167, 0, 4, 3, 172]
abbrev dktX4_wrongKept_1 : List UInt8 := dkwX4_wrongKept_1 ++ []
def dkwX4_wrongKept_0 : List UInt8 := [27, 184, 0, 206, 154, 0, 7, 2, 167, 0, 33, 42, 180, 0, 31, 27, 46, 154, 0, 8, 16, 245]
abbrev dktX4_wrongKept_0 : List UInt8 := dkwX4_wrongKept_0 ++ dktX4_wrongKept_1
theorem dksX4_wrongKept_0 : cX4_wrongKept.data.toList.drop 0 = dktX4_wrongKept_0 := by decide +kernel
theorem dksX4_wrongKept_1 : cX4_wrongKept.data.toList.drop 22 = dktX4_wrongKept_1 := dk_seg dksX4_wrongKept_0 22 rfl rfl
theorem dX4_wrongKept_0 : decode cX4_wrongKept 0 = .ok (.iload_n 1, 1) := dk_27 (dk_at dksX4_wrongKept_0 0 rfl rfl)
theorem dX4_wrongKept_1 : decode cX4_wrongKept 1 = .ok (.invokestatic 206, 3) := dk_184 0 206 (dk_at dksX4_wrongKept_0 1 rfl rfl)
theorem dX4_wrongKept_4 : decode cX4_wrongKept 4 = .ok (.ifCond .ne 7, 3) := dk_154 0 7 (dk_at dksX4_wrongKept_0 4 rfl rfl)
theorem dX4_wrongKept_7 : decode cX4_wrongKept 7 = .ok (.iconst (-1), 1) := dk_2 (dk_at dksX4_wrongKept_0 7 rfl rfl)
theorem dX4_wrongKept_8 : decode cX4_wrongKept 8 = .ok (.goto 33, 3) := dk_167 0 33 (dk_at dksX4_wrongKept_0 8 rfl rfl)
theorem dX4_wrongKept_11 : decode cX4_wrongKept 11 = .ok (.aload_n 0, 1) := dk_42 (dk_at dksX4_wrongKept_0 11 rfl rfl)
theorem dX4_wrongKept_12 : decode cX4_wrongKept 12 = .ok (.getfield 31, 3) := dk_180 0 31 (dk_at dksX4_wrongKept_0 12 rfl rfl)
theorem dX4_wrongKept_15 : decode cX4_wrongKept 15 = .ok (.iload_n 1, 1) := dk_27 (dk_at dksX4_wrongKept_0 15 rfl rfl)
theorem dX4_wrongKept_16 : decode cX4_wrongKept 16 = .ok (.iaload, 1) := dk_46 (dk_at dksX4_wrongKept_0 16 rfl rfl)
theorem dX4_wrongKept_17 : decode cX4_wrongKept 17 = .ok (.ifCond .ne 8, 3) := dk_154 0 8 (dk_at dksX4_wrongKept_0 17 rfl rfl)
theorem dX4_wrongKept_20 : decode cX4_wrongKept 20 = .ok (.bipush (-11), 2) := dk_16 245 (dk_at dksX4_wrongKept_0 20 rfl rfl)
theorem dX4_wrongKept_22 : decode cX4_wrongKept 22 = .ok (.goto 19, 3) := dk_167 0 19 (dk_at dksX4_wrongKept_1 0 rfl rfl)
theorem dX4_wrongKept_25 : decode cX4_wrongKept 25 = .ok (.aload_n 0, 1) := dk_42 (dk_at dksX4_wrongKept_1 3 rfl rfl)
theorem dX4_wrongKept_26 : decode cX4_wrongKept 26 = .ok (.getfield 31, 3) := dk_180 0 31 (dk_at dksX4_wrongKept_1 4 rfl rfl)
theorem dX4_wrongKept_29 : decode cX4_wrongKept 29 = .ok (.iload_n 1, 1) := dk_27 (dk_at dksX4_wrongKept_1 7 rfl rfl)
theorem dX4_wrongKept_30 : decode cX4_wrongKept 30 = .ok (.iaload, 1) := dk_46 (dk_at dksX4_wrongKept_1 8 rfl rfl)
theorem dX4_wrongKept_31 : decode cX4_wrongKept 31 = .ok (.iconst 2, 1) := dk_5 (dk_at dksX4_wrongKept_1 9 rfl rfl)
theorem dX4_wrongKept_32 : decode cX4_wrongKept 32 = .ok (.if_icmp .ne 8, 3) := dk_160 0 8 (dk_at dksX4_wrongKept_1 10 rfl rfl)
theorem dX4_wrongKept_35 : decode cX4_wrongKept 35 = .ok (.bipush (-12), 2) := dk_16 244 (dk_at dksX4_wrongKept_1 13 rfl rfl)
theorem dX4_wrongKept_37 : decode cX4_wrongKept 37 = .ok (.goto 4, 3) := dk_167 0 4 (dk_at dksX4_wrongKept_1 15 rfl rfl)
theorem dX4_wrongKept_40 : decode cX4_wrongKept 40 = .ok (.iconst 0, 1) := dk_3 (dk_at dksX4_wrongKept_1 18 rfl rfl)
theorem dX4_wrongKept_41 : decode cX4_wrongKept 41 = .ok (.ireturn, 1) := dk_172 (dk_at dksX4_wrongKept_1 19 rfl rfl)
abbrev cX4_feels : ByteArray := prog_21_method_29_code
def yX4_feels : MethodName := ⟨RX4, "feels", "(III)I"⟩
def dkwX4_feels_2 : List UInt8 := [21, 4, 46, 54, 5, 42, 180, 0, 9, 21, 4, 29, 79, 21, 5, 172]
abbrev dktX4_feels_2 : List UInt8 := dkwX4_feels_2 ++ []
def dkwX4_feels_1 : List UInt8 := [154, 0, 5, 2, 172, 27, 28, 154, 0, 7, 5, 167, 0, 4, 6, 184, 0, 53, 54, 4, 42, 180, 0, 9]
abbrev dktX4_feels_1 : List UInt8 := dkwX4_feels_1 ++ dktX4_feels_2
def dkwX4_feels_0 : List UInt8 := [42, 27, 182, 0, 121, 153, 0, 22, 28, 3, 4, 184, 0, 49, 153, 0, 13, 29, 3, 16, 30, 184, 0, 49]
abbrev dktX4_feels_0 : List UInt8 := dkwX4_feels_0 ++ dktX4_feels_1
theorem dksX4_feels_0 : cX4_feels.data.toList.drop 0 = dktX4_feels_0 := by decide +kernel
theorem dksX4_feels_1 : cX4_feels.data.toList.drop 24 = dktX4_feels_1 := dk_seg dksX4_feels_0 24 rfl rfl
theorem dksX4_feels_2 : cX4_feels.data.toList.drop 48 = dktX4_feels_2 := dk_seg dksX4_feels_1 24 rfl rfl
theorem dX4_feels_0 : decode cX4_feels 0 = .ok (.aload_n 0, 1) := dk_42 (dk_at dksX4_feels_0 0 rfl rfl)
theorem dX4_feels_1 : decode cX4_feels 1 = .ok (.iload_n 1, 1) := dk_27 (dk_at dksX4_feels_0 1 rfl rfl)
theorem dX4_feels_2 : decode cX4_feels 2 = .ok (.invokevirtual 121, 3) := dk_182 0 121 (dk_at dksX4_feels_0 2 rfl rfl)
theorem dX4_feels_5 : decode cX4_feels 5 = .ok (.ifCond .eq 22, 3) := dk_153 0 22 (dk_at dksX4_feels_0 5 rfl rfl)
theorem dX4_feels_8 : decode cX4_feels 8 = .ok (.iload_n 2, 1) := dk_28 (dk_at dksX4_feels_0 8 rfl rfl)
theorem dX4_feels_9 : decode cX4_feels 9 = .ok (.iconst 0, 1) := dk_3 (dk_at dksX4_feels_0 9 rfl rfl)
theorem dX4_feels_10 : decode cX4_feels 10 = .ok (.iconst 1, 1) := dk_4 (dk_at dksX4_feels_0 10 rfl rfl)
theorem dX4_feels_11 : decode cX4_feels 11 = .ok (.invokestatic 49, 3) := dk_184 0 49 (dk_at dksX4_feels_0 11 rfl rfl)
theorem dX4_feels_14 : decode cX4_feels 14 = .ok (.ifCond .eq 13, 3) := dk_153 0 13 (dk_at dksX4_feels_0 14 rfl rfl)
theorem dX4_feels_17 : decode cX4_feels 17 = .ok (.iload_n 3, 1) := dk_29 (dk_at dksX4_feels_0 17 rfl rfl)
theorem dX4_feels_18 : decode cX4_feels 18 = .ok (.iconst 0, 1) := dk_3 (dk_at dksX4_feels_0 18 rfl rfl)
theorem dX4_feels_19 : decode cX4_feels 19 = .ok (.bipush 30, 2) := dk_16 30 (dk_at dksX4_feels_0 19 rfl rfl)
theorem dX4_feels_21 : decode cX4_feels 21 = .ok (.invokestatic 49, 3) := dk_184 0 49 (dk_at dksX4_feels_0 21 rfl rfl)
theorem dX4_feels_24 : decode cX4_feels 24 = .ok (.ifCond .ne 5, 3) := dk_154 0 5 (dk_at dksX4_feels_1 0 rfl rfl)
theorem dX4_feels_27 : decode cX4_feels 27 = .ok (.iconst (-1), 1) := dk_2 (dk_at dksX4_feels_1 3 rfl rfl)
theorem dX4_feels_28 : decode cX4_feels 28 = .ok (.ireturn, 1) := dk_172 (dk_at dksX4_feels_1 4 rfl rfl)
theorem dX4_feels_29 : decode cX4_feels 29 = .ok (.iload_n 1, 1) := dk_27 (dk_at dksX4_feels_1 5 rfl rfl)
theorem dX4_feels_30 : decode cX4_feels 30 = .ok (.iload_n 2, 1) := dk_28 (dk_at dksX4_feels_1 6 rfl rfl)
theorem dX4_feels_31 : decode cX4_feels 31 = .ok (.ifCond .ne 7, 3) := dk_154 0 7 (dk_at dksX4_feels_1 7 rfl rfl)
theorem dX4_feels_34 : decode cX4_feels 34 = .ok (.iconst 2, 1) := dk_5 (dk_at dksX4_feels_1 10 rfl rfl)
theorem dX4_feels_35 : decode cX4_feels 35 = .ok (.goto 4, 3) := dk_167 0 4 (dk_at dksX4_feels_1 11 rfl rfl)
theorem dX4_feels_38 : decode cX4_feels 38 = .ok (.iconst 3, 1) := dk_6 (dk_at dksX4_feels_1 14 rfl rfl)
theorem dX4_feels_39 : decode cX4_feels 39 = .ok (.invokestatic 53, 3) := dk_184 0 53 (dk_at dksX4_feels_1 15 rfl rfl)
theorem dX4_feels_42 : decode cX4_feels 42 = .ok (.istore 4, 2) := dk_54 4 (dk_at dksX4_feels_1 18 rfl rfl)
theorem dX4_feels_44 : decode cX4_feels 44 = .ok (.aload_n 0, 1) := dk_42 (dk_at dksX4_feels_1 20 rfl rfl)
theorem dX4_feels_45 : decode cX4_feels 45 = .ok (.getfield 9, 3) := dk_180 0 9 (dk_at dksX4_feels_1 21 rfl rfl)
theorem dX4_feels_48 : decode cX4_feels 48 = .ok (.iload 4, 2) := dk_21 4 (dk_at dksX4_feels_2 0 rfl rfl)
theorem dX4_feels_50 : decode cX4_feels 50 = .ok (.iaload, 1) := dk_46 (dk_at dksX4_feels_2 2 rfl rfl)
theorem dX4_feels_51 : decode cX4_feels 51 = .ok (.istore 5, 2) := dk_54 5 (dk_at dksX4_feels_2 3 rfl rfl)
theorem dX4_feels_53 : decode cX4_feels 53 = .ok (.aload_n 0, 1) := dk_42 (dk_at dksX4_feels_2 5 rfl rfl)
theorem dX4_feels_54 : decode cX4_feels 54 = .ok (.getfield 9, 3) := dk_180 0 9 (dk_at dksX4_feels_2 6 rfl rfl)
theorem dX4_feels_57 : decode cX4_feels 57 = .ok (.iload 4, 2) := dk_21 4 (dk_at dksX4_feels_2 9 rfl rfl)
theorem dX4_feels_59 : decode cX4_feels 59 = .ok (.iload_n 3, 1) := dk_29 (dk_at dksX4_feels_2 11 rfl rfl)
theorem dX4_feels_60 : decode cX4_feels 60 = .ok (.iastore, 1) := dk_79 (dk_at dksX4_feels_2 12 rfl rfl)
theorem dX4_feels_61 : decode cX4_feels 61 = .ok (.iload 5, 2) := dk_21 5 (dk_at dksX4_feels_2 13 rfl rfl)
theorem dX4_feels_63 : decode cX4_feels 63 = .ok (.ireturn, 1) := dk_172 (dk_at dksX4_feels_2 15 rfl rfl)
abbrev cX4_slices : ByteArray := prog_21_method_30_code
def yX4_slices : MethodName := ⟨RX4, "slices", "(I)I"⟩
def dkwX4_slices_1 : List UInt8 := [27, 79, 28, 172]
abbrev dktX4_slices_1 : List UInt8 := dkwX4_slices_1 ++ []
def dkwX4_slices_0 : List UInt8 := [27, 3, 16, 99, 184, 0, 49, 154, 0, 5, 2, 172, 42, 180, 0, 9, 4, 46, 61, 42, 180, 0, 9, 4]
abbrev dktX4_slices_0 : List UInt8 := dkwX4_slices_0 ++ dktX4_slices_1
theorem dksX4_slices_0 : cX4_slices.data.toList.drop 0 = dktX4_slices_0 := by decide +kernel
theorem dksX4_slices_1 : cX4_slices.data.toList.drop 24 = dktX4_slices_1 := dk_seg dksX4_slices_0 24 rfl rfl
theorem dX4_slices_0 : decode cX4_slices 0 = .ok (.iload_n 1, 1) := dk_27 (dk_at dksX4_slices_0 0 rfl rfl)
theorem dX4_slices_1 : decode cX4_slices 1 = .ok (.iconst 0, 1) := dk_3 (dk_at dksX4_slices_0 1 rfl rfl)
theorem dX4_slices_2 : decode cX4_slices 2 = .ok (.bipush 99, 2) := dk_16 99 (dk_at dksX4_slices_0 2 rfl rfl)
theorem dX4_slices_4 : decode cX4_slices 4 = .ok (.invokestatic 49, 3) := dk_184 0 49 (dk_at dksX4_slices_0 4 rfl rfl)
theorem dX4_slices_7 : decode cX4_slices 7 = .ok (.ifCond .ne 5, 3) := dk_154 0 5 (dk_at dksX4_slices_0 7 rfl rfl)
theorem dX4_slices_10 : decode cX4_slices 10 = .ok (.iconst (-1), 1) := dk_2 (dk_at dksX4_slices_0 10 rfl rfl)
theorem dX4_slices_11 : decode cX4_slices 11 = .ok (.ireturn, 1) := dk_172 (dk_at dksX4_slices_0 11 rfl rfl)
theorem dX4_slices_12 : decode cX4_slices 12 = .ok (.aload_n 0, 1) := dk_42 (dk_at dksX4_slices_0 12 rfl rfl)
theorem dX4_slices_13 : decode cX4_slices 13 = .ok (.getfield 9, 3) := dk_180 0 9 (dk_at dksX4_slices_0 13 rfl rfl)
theorem dX4_slices_16 : decode cX4_slices 16 = .ok (.iconst 1, 1) := dk_4 (dk_at dksX4_slices_0 16 rfl rfl)
theorem dX4_slices_17 : decode cX4_slices 17 = .ok (.iaload, 1) := dk_46 (dk_at dksX4_slices_0 17 rfl rfl)
theorem dX4_slices_18 : decode cX4_slices 18 = .ok (.istore_n 2, 1) := dk_61 (dk_at dksX4_slices_0 18 rfl rfl)
theorem dX4_slices_19 : decode cX4_slices 19 = .ok (.aload_n 0, 1) := dk_42 (dk_at dksX4_slices_0 19 rfl rfl)
theorem dX4_slices_20 : decode cX4_slices 20 = .ok (.getfield 9, 3) := dk_180 0 9 (dk_at dksX4_slices_0 20 rfl rfl)
theorem dX4_slices_23 : decode cX4_slices 23 = .ok (.iconst 1, 1) := dk_4 (dk_at dksX4_slices_0 23 rfl rfl)
theorem dX4_slices_24 : decode cX4_slices 24 = .ok (.iload_n 1, 1) := dk_27 (dk_at dksX4_slices_1 0 rfl rfl)
theorem dX4_slices_25 : decode cX4_slices 25 = .ok (.iastore, 1) := dk_79 (dk_at dksX4_slices_1 1 rfl rfl)
theorem dX4_slices_26 : decode cX4_slices 26 = .ok (.iload_n 2, 1) := dk_28 (dk_at dksX4_slices_1 2 rfl rfl)
theorem dX4_slices_27 : decode cX4_slices 27 = .ok (.ireturn, 1) := dk_172 (dk_at dksX4_slices_1 3 rfl rfl)
abbrev cX4_eats : ByteArray := prog_21_method_32_code
def yX4_eats : MethodName := ⟨RX4, "eats", "(II)I"⟩
def dkwX4_eats_1 : List UInt8 := [16, 253, 62, 29, 153, 0, 7, 29, 167, 0, 12, 42, 180, 0, 9, 27, 28, 184, 0, 125, 172]
abbrev dktX4_eats_1 : List UInt8 := dkwX4_eats_1 ++ []
def dkwX4_eats_0 : List UInt8 := [42, 27, 28, 182, 0, 145, 62, 29, 154, 0, 18, 42, 180, 0, 9, 5, 46, 17, 3, 231, 160, 0, 6]
abbrev dktX4_eats_0 : List UInt8 := dkwX4_eats_0 ++ dktX4_eats_1
theorem dksX4_eats_0 : cX4_eats.data.toList.drop 0 = dktX4_eats_0 := by decide +kernel
theorem dksX4_eats_1 : cX4_eats.data.toList.drop 23 = dktX4_eats_1 := dk_seg dksX4_eats_0 23 rfl rfl
theorem dX4_eats_0 : decode cX4_eats 0 = .ok (.aload_n 0, 1) := dk_42 (dk_at dksX4_eats_0 0 rfl rfl)
theorem dX4_eats_1 : decode cX4_eats 1 = .ok (.iload_n 1, 1) := dk_27 (dk_at dksX4_eats_0 1 rfl rfl)
theorem dX4_eats_2 : decode cX4_eats 2 = .ok (.iload_n 2, 1) := dk_28 (dk_at dksX4_eats_0 2 rfl rfl)
theorem dX4_eats_3 : decode cX4_eats 3 = .ok (.invokevirtual 145, 3) := dk_182 0 145 (dk_at dksX4_eats_0 3 rfl rfl)
theorem dX4_eats_6 : decode cX4_eats 6 = .ok (.istore_n 3, 1) := dk_62 (dk_at dksX4_eats_0 6 rfl rfl)
theorem dX4_eats_7 : decode cX4_eats 7 = .ok (.iload_n 3, 1) := dk_29 (dk_at dksX4_eats_0 7 rfl rfl)
theorem dX4_eats_8 : decode cX4_eats 8 = .ok (.ifCond .ne 18, 3) := dk_154 0 18 (dk_at dksX4_eats_0 8 rfl rfl)
theorem dX4_eats_11 : decode cX4_eats 11 = .ok (.aload_n 0, 1) := dk_42 (dk_at dksX4_eats_0 11 rfl rfl)
theorem dX4_eats_12 : decode cX4_eats 12 = .ok (.getfield 9, 3) := dk_180 0 9 (dk_at dksX4_eats_0 12 rfl rfl)
theorem dX4_eats_15 : decode cX4_eats 15 = .ok (.iconst 2, 1) := dk_5 (dk_at dksX4_eats_0 15 rfl rfl)
theorem dX4_eats_16 : decode cX4_eats 16 = .ok (.iaload, 1) := dk_46 (dk_at dksX4_eats_0 16 rfl rfl)
theorem dX4_eats_17 : decode cX4_eats 17 = .ok (.sipush 999, 3) := dk_17 3 231 (dk_at dksX4_eats_0 17 rfl rfl)
theorem dX4_eats_20 : decode cX4_eats 20 = .ok (.if_icmp .ne 6, 3) := dk_160 0 6 (dk_at dksX4_eats_0 20 rfl rfl)
theorem dX4_eats_23 : decode cX4_eats 23 = .ok (.bipush (-3), 2) := dk_16 253 (dk_at dksX4_eats_1 0 rfl rfl)
theorem dX4_eats_25 : decode cX4_eats 25 = .ok (.istore_n 3, 1) := dk_62 (dk_at dksX4_eats_1 2 rfl rfl)
theorem dX4_eats_26 : decode cX4_eats 26 = .ok (.iload_n 3, 1) := dk_29 (dk_at dksX4_eats_1 3 rfl rfl)
theorem dX4_eats_27 : decode cX4_eats 27 = .ok (.ifCond .eq 7, 3) := dk_153 0 7 (dk_at dksX4_eats_1 4 rfl rfl)
theorem dX4_eats_30 : decode cX4_eats 30 = .ok (.iload_n 3, 1) := dk_29 (dk_at dksX4_eats_1 7 rfl rfl)
theorem dX4_eats_31 : decode cX4_eats 31 = .ok (.goto 12, 3) := dk_167 0 12 (dk_at dksX4_eats_1 8 rfl rfl)
theorem dX4_eats_34 : decode cX4_eats 34 = .ok (.aload_n 0, 1) := dk_42 (dk_at dksX4_eats_1 11 rfl rfl)
theorem dX4_eats_35 : decode cX4_eats 35 = .ok (.getfield 9, 3) := dk_180 0 9 (dk_at dksX4_eats_1 12 rfl rfl)
theorem dX4_eats_38 : decode cX4_eats 38 = .ok (.iload_n 1, 1) := dk_27 (dk_at dksX4_eats_1 15 rfl rfl)
theorem dX4_eats_39 : decode cX4_eats 39 = .ok (.iload_n 2, 1) := dk_28 (dk_at dksX4_eats_1 16 rfl rfl)
theorem dX4_eats_40 : decode cX4_eats 40 = .ok (.invokestatic 125, 3) := dk_184 0 125 (dk_at dksX4_eats_1 17 rfl rfl)
theorem dX4_eats_43 : decode cX4_eats 43 = .ok (.ireturn, 1) := dk_172 (dk_at dksX4_eats_1 20 rfl rfl)
abbrev cX4_wrongTurn : ByteArray := prog_21_method_31_code
def yX4_wrongTurn : MethodName := ⟨RX4, "wrongTurn", "(II)I"⟩
def dkwX4_wrongTurn_1 : List UInt8 := [167, 0, 21, 42, 180, 0, 9, 27, 28, 184, 0, 91, 153, 0, 7, 3, 167, 0, 5, 16, 253, 172]
abbrev dktX4_wrongTurn_1 : List UInt8 := dkwX4_wrongTurn_1 ++ []
def dkwX4_wrongTurn_0 : List UInt8 := [42, 27, 182, 0, 121, 153, 0, 16, 42, 28, 182, 0, 121, 153, 0, 8, 27, 28, 160, 0, 7, 2]
abbrev dktX4_wrongTurn_0 : List UInt8 := dkwX4_wrongTurn_0 ++ dktX4_wrongTurn_1
theorem dksX4_wrongTurn_0 : cX4_wrongTurn.data.toList.drop 0 = dktX4_wrongTurn_0 := by decide +kernel
theorem dksX4_wrongTurn_1 : cX4_wrongTurn.data.toList.drop 22 = dktX4_wrongTurn_1 := dk_seg dksX4_wrongTurn_0 22 rfl rfl
theorem dX4_wrongTurn_0 : decode cX4_wrongTurn 0 = .ok (.aload_n 0, 1) := dk_42 (dk_at dksX4_wrongTurn_0 0 rfl rfl)
theorem dX4_wrongTurn_1 : decode cX4_wrongTurn 1 = .ok (.iload_n 1, 1) := dk_27 (dk_at dksX4_wrongTurn_0 1 rfl rfl)
theorem dX4_wrongTurn_2 : decode cX4_wrongTurn 2 = .ok (.invokevirtual 121, 3) := dk_182 0 121 (dk_at dksX4_wrongTurn_0 2 rfl rfl)
theorem dX4_wrongTurn_5 : decode cX4_wrongTurn 5 = .ok (.ifCond .eq 16, 3) := dk_153 0 16 (dk_at dksX4_wrongTurn_0 5 rfl rfl)
theorem dX4_wrongTurn_8 : decode cX4_wrongTurn 8 = .ok (.aload_n 0, 1) := dk_42 (dk_at dksX4_wrongTurn_0 8 rfl rfl)
theorem dX4_wrongTurn_9 : decode cX4_wrongTurn 9 = .ok (.iload_n 2, 1) := dk_28 (dk_at dksX4_wrongTurn_0 9 rfl rfl)
theorem dX4_wrongTurn_10 : decode cX4_wrongTurn 10 = .ok (.invokevirtual 121, 3) := dk_182 0 121 (dk_at dksX4_wrongTurn_0 10 rfl rfl)
theorem dX4_wrongTurn_13 : decode cX4_wrongTurn 13 = .ok (.ifCond .eq 8, 3) := dk_153 0 8 (dk_at dksX4_wrongTurn_0 13 rfl rfl)
theorem dX4_wrongTurn_16 : decode cX4_wrongTurn 16 = .ok (.iload_n 1, 1) := dk_27 (dk_at dksX4_wrongTurn_0 16 rfl rfl)
theorem dX4_wrongTurn_17 : decode cX4_wrongTurn 17 = .ok (.iload_n 2, 1) := dk_28 (dk_at dksX4_wrongTurn_0 17 rfl rfl)
theorem dX4_wrongTurn_18 : decode cX4_wrongTurn 18 = .ok (.if_icmp .ne 7, 3) := dk_160 0 7 (dk_at dksX4_wrongTurn_0 18 rfl rfl)
theorem dX4_wrongTurn_21 : decode cX4_wrongTurn 21 = .ok (.iconst (-1), 1) := dk_2 (dk_at dksX4_wrongTurn_0 21 rfl rfl)
theorem dX4_wrongTurn_22 : decode cX4_wrongTurn 22 = .ok (.goto 21, 3) := dk_167 0 21 (dk_at dksX4_wrongTurn_1 0 rfl rfl)
theorem dX4_wrongTurn_25 : decode cX4_wrongTurn 25 = .ok (.aload_n 0, 1) := dk_42 (dk_at dksX4_wrongTurn_1 3 rfl rfl)
theorem dX4_wrongTurn_26 : decode cX4_wrongTurn 26 = .ok (.getfield 9, 3) := dk_180 0 9 (dk_at dksX4_wrongTurn_1 4 rfl rfl)
theorem dX4_wrongTurn_29 : decode cX4_wrongTurn 29 = .ok (.iload_n 1, 1) := dk_27 (dk_at dksX4_wrongTurn_1 7 rfl rfl)
theorem dX4_wrongTurn_30 : decode cX4_wrongTurn 30 = .ok (.iload_n 2, 1) := dk_28 (dk_at dksX4_wrongTurn_1 8 rfl rfl)
theorem dX4_wrongTurn_31 : decode cX4_wrongTurn 31 = .ok (.invokestatic 91, 3) := dk_184 0 91 (dk_at dksX4_wrongTurn_1 9 rfl rfl)
theorem dX4_wrongTurn_34 : decode cX4_wrongTurn 34 = .ok (.ifCond .eq 7, 3) := dk_153 0 7 (dk_at dksX4_wrongTurn_1 12 rfl rfl)
theorem dX4_wrongTurn_37 : decode cX4_wrongTurn 37 = .ok (.iconst 0, 1) := dk_3 (dk_at dksX4_wrongTurn_1 15 rfl rfl)
theorem dX4_wrongTurn_38 : decode cX4_wrongTurn 38 = .ok (.goto 5, 3) := dk_167 0 5 (dk_at dksX4_wrongTurn_1 16 rfl rfl)
theorem dX4_wrongTurn_41 : decode cX4_wrongTurn 41 = .ok (.bipush (-3), 2) := dk_16 253 (dk_at dksX4_wrongTurn_1 19 rfl rfl)
theorem dX4_wrongTurn_43 : decode cX4_wrongTurn 43 = .ok (.ireturn, 1) := dk_172 (dk_at dksX4_wrongTurn_1 21 rfl rfl)
abbrev cX4_joys : ByteArray := prog_21_method_33_code
def yX4_joys : MethodName := ⟨RX4, "joys", "(III)I"⟩
def dkwX4_joys_2 : List UInt8 := [42, 180, 0, 9, 27, 28, 184, 0, 81, 167, 0, 11, 42, 180, 0, 9, 28, 184, 0, 85, 172]
abbrev dktX4_joys_2 : List UInt8 := dkwX4_joys_2 ++ []
def dkwX4_joys_1 : List UInt8 := [21, 4, 172, 29, 154, 0, 15, 42, 180, 0, 9, 27, 28, 184, 0, 88, 167, 0, 28, 29, 4, 160, 0, 15]
abbrev dktX4_joys_1 : List UInt8 := dkwX4_joys_1 ++ dktX4_joys_2
def dkwX4_joys_0 : List UInt8 := [29, 3, 5, 184, 0, 49, 154, 0, 5, 2, 172, 42, 27, 28, 182, 0, 145, 54, 4, 21, 4, 153, 0, 6]
abbrev dktX4_joys_0 : List UInt8 := dkwX4_joys_0 ++ dktX4_joys_1
theorem dksX4_joys_0 : cX4_joys.data.toList.drop 0 = dktX4_joys_0 := by decide +kernel
theorem dksX4_joys_1 : cX4_joys.data.toList.drop 24 = dktX4_joys_1 := dk_seg dksX4_joys_0 24 rfl rfl
theorem dksX4_joys_2 : cX4_joys.data.toList.drop 48 = dktX4_joys_2 := dk_seg dksX4_joys_1 24 rfl rfl
theorem dX4_joys_0 : decode cX4_joys 0 = .ok (.iload_n 3, 1) := dk_29 (dk_at dksX4_joys_0 0 rfl rfl)
theorem dX4_joys_1 : decode cX4_joys 1 = .ok (.iconst 0, 1) := dk_3 (dk_at dksX4_joys_0 1 rfl rfl)
theorem dX4_joys_2 : decode cX4_joys 2 = .ok (.iconst 2, 1) := dk_5 (dk_at dksX4_joys_0 2 rfl rfl)
theorem dX4_joys_3 : decode cX4_joys 3 = .ok (.invokestatic 49, 3) := dk_184 0 49 (dk_at dksX4_joys_0 3 rfl rfl)
theorem dX4_joys_6 : decode cX4_joys 6 = .ok (.ifCond .ne 5, 3) := dk_154 0 5 (dk_at dksX4_joys_0 6 rfl rfl)
theorem dX4_joys_9 : decode cX4_joys 9 = .ok (.iconst (-1), 1) := dk_2 (dk_at dksX4_joys_0 9 rfl rfl)
theorem dX4_joys_10 : decode cX4_joys 10 = .ok (.ireturn, 1) := dk_172 (dk_at dksX4_joys_0 10 rfl rfl)
theorem dX4_joys_11 : decode cX4_joys 11 = .ok (.aload_n 0, 1) := dk_42 (dk_at dksX4_joys_0 11 rfl rfl)
theorem dX4_joys_12 : decode cX4_joys 12 = .ok (.iload_n 1, 1) := dk_27 (dk_at dksX4_joys_0 12 rfl rfl)
theorem dX4_joys_13 : decode cX4_joys 13 = .ok (.iload_n 2, 1) := dk_28 (dk_at dksX4_joys_0 13 rfl rfl)
theorem dX4_joys_14 : decode cX4_joys 14 = .ok (.invokevirtual 145, 3) := dk_182 0 145 (dk_at dksX4_joys_0 14 rfl rfl)
theorem dX4_joys_17 : decode cX4_joys 17 = .ok (.istore 4, 2) := dk_54 4 (dk_at dksX4_joys_0 17 rfl rfl)
theorem dX4_joys_19 : decode cX4_joys 19 = .ok (.iload 4, 2) := dk_21 4 (dk_at dksX4_joys_0 19 rfl rfl)
theorem dX4_joys_21 : decode cX4_joys 21 = .ok (.ifCond .eq 6, 3) := dk_153 0 6 (dk_at dksX4_joys_0 21 rfl rfl)
theorem dX4_joys_24 : decode cX4_joys 24 = .ok (.iload 4, 2) := dk_21 4 (dk_at dksX4_joys_1 0 rfl rfl)
theorem dX4_joys_26 : decode cX4_joys 26 = .ok (.ireturn, 1) := dk_172 (dk_at dksX4_joys_1 2 rfl rfl)
theorem dX4_joys_27 : decode cX4_joys 27 = .ok (.iload_n 3, 1) := dk_29 (dk_at dksX4_joys_1 3 rfl rfl)
theorem dX4_joys_28 : decode cX4_joys 28 = .ok (.ifCond .ne 15, 3) := dk_154 0 15 (dk_at dksX4_joys_1 4 rfl rfl)
theorem dX4_joys_31 : decode cX4_joys 31 = .ok (.aload_n 0, 1) := dk_42 (dk_at dksX4_joys_1 7 rfl rfl)
theorem dX4_joys_32 : decode cX4_joys 32 = .ok (.getfield 9, 3) := dk_180 0 9 (dk_at dksX4_joys_1 8 rfl rfl)
theorem dX4_joys_35 : decode cX4_joys 35 = .ok (.iload_n 1, 1) := dk_27 (dk_at dksX4_joys_1 11 rfl rfl)
theorem dX4_joys_36 : decode cX4_joys 36 = .ok (.iload_n 2, 1) := dk_28 (dk_at dksX4_joys_1 12 rfl rfl)
theorem dX4_joys_37 : decode cX4_joys 37 = .ok (.invokestatic 88, 3) := dk_184 0 88 (dk_at dksX4_joys_1 13 rfl rfl)
theorem dX4_joys_40 : decode cX4_joys 40 = .ok (.goto 28, 3) := dk_167 0 28 (dk_at dksX4_joys_1 16 rfl rfl)
theorem dX4_joys_43 : decode cX4_joys 43 = .ok (.iload_n 3, 1) := dk_29 (dk_at dksX4_joys_1 19 rfl rfl)
theorem dX4_joys_44 : decode cX4_joys 44 = .ok (.iconst 1, 1) := dk_4 (dk_at dksX4_joys_1 20 rfl rfl)
theorem dX4_joys_45 : decode cX4_joys 45 = .ok (.if_icmp .ne 15, 3) := dk_160 0 15 (dk_at dksX4_joys_1 21 rfl rfl)
theorem dX4_joys_48 : decode cX4_joys 48 = .ok (.aload_n 0, 1) := dk_42 (dk_at dksX4_joys_2 0 rfl rfl)
theorem dX4_joys_49 : decode cX4_joys 49 = .ok (.getfield 9, 3) := dk_180 0 9 (dk_at dksX4_joys_2 1 rfl rfl)
theorem dX4_joys_52 : decode cX4_joys 52 = .ok (.iload_n 1, 1) := dk_27 (dk_at dksX4_joys_2 4 rfl rfl)
theorem dX4_joys_53 : decode cX4_joys 53 = .ok (.iload_n 2, 1) := dk_28 (dk_at dksX4_joys_2 5 rfl rfl)
theorem dX4_joys_54 : decode cX4_joys 54 = .ok (.invokestatic 81, 3) := dk_184 0 81 (dk_at dksX4_joys_2 6 rfl rfl)
theorem dX4_joys_57 : decode cX4_joys 57 = .ok (.goto 11, 3) := dk_167 0 11 (dk_at dksX4_joys_2 9 rfl rfl)
theorem dX4_joys_60 : decode cX4_joys 60 = .ok (.aload_n 0, 1) := dk_42 (dk_at dksX4_joys_2 12 rfl rfl)
theorem dX4_joys_61 : decode cX4_joys 61 = .ok (.getfield 9, 3) := dk_180 0 9 (dk_at dksX4_joys_2 13 rfl rfl)
theorem dX4_joys_64 : decode cX4_joys 64 = .ok (.iload_n 2, 1) := dk_28 (dk_at dksX4_joys_2 16 rfl rfl)
theorem dX4_joys_65 : decode cX4_joys 65 = .ok (.invokestatic 85, 3) := dk_184 0 85 (dk_at dksX4_joys_2 17 rfl rfl)
theorem dX4_joys_68 : decode cX4_joys 68 = .ok (.ireturn, 1) := dk_172 (dk_at dksX4_joys_2 20 rfl rfl)
abbrev cX4_who : ByteArray := prog_21_method_34_code
def yX4_who : MethodName := ⟨RX4, "who", "(I)I"⟩
def dkwX4_who_3 : List UInt8 := [128, 61, 132, 4, 1, 167, 255, 210, 132, 3, 1, 167, 255, 191, 28, 172]
abbrev dktX4_who_3 : List UInt8 := dkwX4_who_3 ++ []
def dkwX4_who_2 : List UInt8 := [21, 4, 184, 0, 91, 153, 0, 18, 4, 27, 154, 0, 7, 29, 167, 0, 5, 21, 4, 120, 167, 0, 4, 3]
abbrev dktX4_who_2 : List UInt8 := dkwX4_who_2 ++ dktX4_who_3
def dkwX4_who_1 : List UInt8 := [162, 0, 61, 3, 54, 4, 21, 4, 42, 180, 0, 9, 3, 46, 162, 0, 41, 28, 42, 180, 0, 9, 29]
abbrev dktX4_who_1 : List UInt8 := dkwX4_who_1 ++ dktX4_who_2
def dkwX4_who_0 : List UInt8 := [27, 3, 4, 184, 0, 49, 154, 0, 5, 2, 172, 3, 61, 3, 62, 29, 42, 180, 0, 9, 3, 46]
abbrev dktX4_who_0 : List UInt8 := dkwX4_who_0 ++ dktX4_who_1
theorem dksX4_who_0 : cX4_who.data.toList.drop 0 = dktX4_who_0 := by decide +kernel
theorem dksX4_who_1 : cX4_who.data.toList.drop 22 = dktX4_who_1 := dk_seg dksX4_who_0 22 rfl rfl
theorem dksX4_who_2 : cX4_who.data.toList.drop 45 = dktX4_who_2 := dk_seg dksX4_who_1 23 rfl rfl
theorem dksX4_who_3 : cX4_who.data.toList.drop 69 = dktX4_who_3 := dk_seg dksX4_who_2 24 rfl rfl
theorem dX4_who_0 : decode cX4_who 0 = .ok (.iload_n 1, 1) := dk_27 (dk_at dksX4_who_0 0 rfl rfl)
theorem dX4_who_1 : decode cX4_who 1 = .ok (.iconst 0, 1) := dk_3 (dk_at dksX4_who_0 1 rfl rfl)
theorem dX4_who_2 : decode cX4_who 2 = .ok (.iconst 1, 1) := dk_4 (dk_at dksX4_who_0 2 rfl rfl)
theorem dX4_who_3 : decode cX4_who 3 = .ok (.invokestatic 49, 3) := dk_184 0 49 (dk_at dksX4_who_0 3 rfl rfl)
theorem dX4_who_6 : decode cX4_who 6 = .ok (.ifCond .ne 5, 3) := dk_154 0 5 (dk_at dksX4_who_0 6 rfl rfl)
theorem dX4_who_9 : decode cX4_who 9 = .ok (.iconst (-1), 1) := dk_2 (dk_at dksX4_who_0 9 rfl rfl)
theorem dX4_who_10 : decode cX4_who 10 = .ok (.ireturn, 1) := dk_172 (dk_at dksX4_who_0 10 rfl rfl)
theorem dX4_who_11 : decode cX4_who 11 = .ok (.iconst 0, 1) := dk_3 (dk_at dksX4_who_0 11 rfl rfl)
theorem dX4_who_12 : decode cX4_who 12 = .ok (.istore_n 2, 1) := dk_61 (dk_at dksX4_who_0 12 rfl rfl)
theorem dX4_who_13 : decode cX4_who 13 = .ok (.iconst 0, 1) := dk_3 (dk_at dksX4_who_0 13 rfl rfl)
theorem dX4_who_14 : decode cX4_who 14 = .ok (.istore_n 3, 1) := dk_62 (dk_at dksX4_who_0 14 rfl rfl)
theorem dX4_who_15 : decode cX4_who 15 = .ok (.iload_n 3, 1) := dk_29 (dk_at dksX4_who_0 15 rfl rfl)
theorem dX4_who_16 : decode cX4_who 16 = .ok (.aload_n 0, 1) := dk_42 (dk_at dksX4_who_0 16 rfl rfl)
theorem dX4_who_17 : decode cX4_who 17 = .ok (.getfield 9, 3) := dk_180 0 9 (dk_at dksX4_who_0 17 rfl rfl)
theorem dX4_who_20 : decode cX4_who 20 = .ok (.iconst 0, 1) := dk_3 (dk_at dksX4_who_0 20 rfl rfl)
theorem dX4_who_21 : decode cX4_who 21 = .ok (.iaload, 1) := dk_46 (dk_at dksX4_who_0 21 rfl rfl)
theorem dX4_who_22 : decode cX4_who 22 = .ok (.if_icmp .ge 61, 3) := dk_162 0 61 (dk_at dksX4_who_1 0 rfl rfl)
theorem dX4_who_25 : decode cX4_who 25 = .ok (.iconst 0, 1) := dk_3 (dk_at dksX4_who_1 3 rfl rfl)
theorem dX4_who_26 : decode cX4_who 26 = .ok (.istore 4, 2) := dk_54 4 (dk_at dksX4_who_1 4 rfl rfl)
theorem dX4_who_28 : decode cX4_who 28 = .ok (.iload 4, 2) := dk_21 4 (dk_at dksX4_who_1 6 rfl rfl)
theorem dX4_who_30 : decode cX4_who 30 = .ok (.aload_n 0, 1) := dk_42 (dk_at dksX4_who_1 8 rfl rfl)
theorem dX4_who_31 : decode cX4_who 31 = .ok (.getfield 9, 3) := dk_180 0 9 (dk_at dksX4_who_1 9 rfl rfl)
theorem dX4_who_34 : decode cX4_who 34 = .ok (.iconst 0, 1) := dk_3 (dk_at dksX4_who_1 12 rfl rfl)
theorem dX4_who_35 : decode cX4_who 35 = .ok (.iaload, 1) := dk_46 (dk_at dksX4_who_1 13 rfl rfl)
theorem dX4_who_36 : decode cX4_who 36 = .ok (.if_icmp .ge 41, 3) := dk_162 0 41 (dk_at dksX4_who_1 14 rfl rfl)
theorem dX4_who_39 : decode cX4_who 39 = .ok (.iload_n 2, 1) := dk_28 (dk_at dksX4_who_1 17 rfl rfl)
theorem dX4_who_40 : decode cX4_who 40 = .ok (.aload_n 0, 1) := dk_42 (dk_at dksX4_who_1 18 rfl rfl)
theorem dX4_who_41 : decode cX4_who 41 = .ok (.getfield 9, 3) := dk_180 0 9 (dk_at dksX4_who_1 19 rfl rfl)
theorem dX4_who_44 : decode cX4_who 44 = .ok (.iload_n 3, 1) := dk_29 (dk_at dksX4_who_1 22 rfl rfl)
theorem dX4_who_45 : decode cX4_who 45 = .ok (.iload 4, 2) := dk_21 4 (dk_at dksX4_who_2 0 rfl rfl)
theorem dX4_who_47 : decode cX4_who 47 = .ok (.invokestatic 91, 3) := dk_184 0 91 (dk_at dksX4_who_2 2 rfl rfl)
theorem dX4_who_50 : decode cX4_who 50 = .ok (.ifCond .eq 18, 3) := dk_153 0 18 (dk_at dksX4_who_2 5 rfl rfl)
theorem dX4_who_53 : decode cX4_who 53 = .ok (.iconst 1, 1) := dk_4 (dk_at dksX4_who_2 8 rfl rfl)
theorem dX4_who_54 : decode cX4_who 54 = .ok (.iload_n 1, 1) := dk_27 (dk_at dksX4_who_2 9 rfl rfl)
theorem dX4_who_55 : decode cX4_who 55 = .ok (.ifCond .ne 7, 3) := dk_154 0 7 (dk_at dksX4_who_2 10 rfl rfl)
theorem dX4_who_58 : decode cX4_who 58 = .ok (.iload_n 3, 1) := dk_29 (dk_at dksX4_who_2 13 rfl rfl)
theorem dX4_who_59 : decode cX4_who 59 = .ok (.goto 5, 3) := dk_167 0 5 (dk_at dksX4_who_2 14 rfl rfl)
theorem dX4_who_62 : decode cX4_who 62 = .ok (.iload 4, 2) := dk_21 4 (dk_at dksX4_who_2 17 rfl rfl)
theorem dX4_who_64 : decode cX4_who 64 = .ok (.ishl, 1) := dk_120 (dk_at dksX4_who_2 19 rfl rfl)
theorem dX4_who_65 : decode cX4_who 65 = .ok (.goto 4, 3) := dk_167 0 4 (dk_at dksX4_who_2 20 rfl rfl)
theorem dX4_who_68 : decode cX4_who 68 = .ok (.iconst 0, 1) := dk_3 (dk_at dksX4_who_2 23 rfl rfl)
theorem dX4_who_69 : decode cX4_who 69 = .ok (.ior, 1) := dk_128 (dk_at dksX4_who_3 0 rfl rfl)
theorem dX4_who_70 : decode cX4_who 70 = .ok (.istore_n 2, 1) := dk_61 (dk_at dksX4_who_3 1 rfl rfl)
theorem dX4_who_71 : decode cX4_who 71 = .ok (.iinc 4 1, 3) := dk_132 4 1 (dk_at dksX4_who_3 2 rfl rfl)
theorem dX4_who_74 : decode cX4_who 74 = .ok (.goto (-46), 3) := dk_167 255 210 (dk_at dksX4_who_3 5 rfl rfl)
theorem dX4_who_77 : decode cX4_who 77 = .ok (.iinc 3 1, 3) := dk_132 3 1 (dk_at dksX4_who_3 8 rfl rfl)
theorem dX4_who_80 : decode cX4_who 80 = .ok (.goto (-65), 3) := dk_167 255 191 (dk_at dksX4_who_3 11 rfl rfl)
theorem dX4_who_83 : decode cX4_who 83 = .ok (.iload_n 2, 1) := dk_28 (dk_at dksX4_who_3 14 rfl rfl)
theorem dX4_who_84 : decode cX4_who 84 = .ok (.ireturn, 1) := dk_172 (dk_at dksX4_who_3 15 rfl rfl)
abbrev cX4_bestPair : ByteArray := prog_21_method_35_code
def yX4_bestPair : MethodName := ⟨RX4, "bestPair", "(I)I"⟩
def dkwX4_bestPair_1 : List UInt8 := [154, 0, 7, 28, 167, 0, 10, 42, 180, 0, 9, 184, 0, 148, 172]
abbrev dktX4_bestPair_1 : List UInt8 := dkwX4_bestPair_1 ++ []
def dkwX4_bestPair_0 : List UInt8 := [27, 3, 4, 184, 0, 49, 154, 0, 5, 2, 172, 42, 180, 0, 9, 184, 0, 95, 61, 28, 155, 0, 7, 27]
abbrev dktX4_bestPair_0 : List UInt8 := dkwX4_bestPair_0 ++ dktX4_bestPair_1
theorem dksX4_bestPair_0 : cX4_bestPair.data.toList.drop 0 = dktX4_bestPair_0 := by decide +kernel
theorem dksX4_bestPair_1 : cX4_bestPair.data.toList.drop 24 = dktX4_bestPair_1 := dk_seg dksX4_bestPair_0 24 rfl rfl
theorem dX4_bestPair_0 : decode cX4_bestPair 0 = .ok (.iload_n 1, 1) := dk_27 (dk_at dksX4_bestPair_0 0 rfl rfl)
theorem dX4_bestPair_1 : decode cX4_bestPair 1 = .ok (.iconst 0, 1) := dk_3 (dk_at dksX4_bestPair_0 1 rfl rfl)
theorem dX4_bestPair_2 : decode cX4_bestPair 2 = .ok (.iconst 1, 1) := dk_4 (dk_at dksX4_bestPair_0 2 rfl rfl)
theorem dX4_bestPair_3 : decode cX4_bestPair 3 = .ok (.invokestatic 49, 3) := dk_184 0 49 (dk_at dksX4_bestPair_0 3 rfl rfl)
theorem dX4_bestPair_6 : decode cX4_bestPair 6 = .ok (.ifCond .ne 5, 3) := dk_154 0 5 (dk_at dksX4_bestPair_0 6 rfl rfl)
theorem dX4_bestPair_9 : decode cX4_bestPair 9 = .ok (.iconst (-1), 1) := dk_2 (dk_at dksX4_bestPair_0 9 rfl rfl)
theorem dX4_bestPair_10 : decode cX4_bestPair 10 = .ok (.ireturn, 1) := dk_172 (dk_at dksX4_bestPair_0 10 rfl rfl)
theorem dX4_bestPair_11 : decode cX4_bestPair 11 = .ok (.aload_n 0, 1) := dk_42 (dk_at dksX4_bestPair_0 11 rfl rfl)
theorem dX4_bestPair_12 : decode cX4_bestPair 12 = .ok (.getfield 9, 3) := dk_180 0 9 (dk_at dksX4_bestPair_0 12 rfl rfl)
theorem dX4_bestPair_15 : decode cX4_bestPair 15 = .ok (.invokestatic 95, 3) := dk_184 0 95 (dk_at dksX4_bestPair_0 15 rfl rfl)
theorem dX4_bestPair_18 : decode cX4_bestPair 18 = .ok (.istore_n 2, 1) := dk_61 (dk_at dksX4_bestPair_0 18 rfl rfl)
theorem dX4_bestPair_19 : decode cX4_bestPair 19 = .ok (.iload_n 2, 1) := dk_28 (dk_at dksX4_bestPair_0 19 rfl rfl)
theorem dX4_bestPair_20 : decode cX4_bestPair 20 = .ok (.ifCond .lt 7, 3) := dk_155 0 7 (dk_at dksX4_bestPair_0 20 rfl rfl)
theorem dX4_bestPair_23 : decode cX4_bestPair 23 = .ok (.iload_n 1, 1) := dk_27 (dk_at dksX4_bestPair_0 23 rfl rfl)
theorem dX4_bestPair_24 : decode cX4_bestPair 24 = .ok (.ifCond .ne 7, 3) := dk_154 0 7 (dk_at dksX4_bestPair_1 0 rfl rfl)
theorem dX4_bestPair_27 : decode cX4_bestPair 27 = .ok (.iload_n 2, 1) := dk_28 (dk_at dksX4_bestPair_1 3 rfl rfl)
theorem dX4_bestPair_28 : decode cX4_bestPair 28 = .ok (.goto 10, 3) := dk_167 0 10 (dk_at dksX4_bestPair_1 4 rfl rfl)
theorem dX4_bestPair_31 : decode cX4_bestPair 31 = .ok (.aload_n 0, 1) := dk_42 (dk_at dksX4_bestPair_1 7 rfl rfl)
theorem dX4_bestPair_32 : decode cX4_bestPair 32 = .ok (.getfield 9, 3) := dk_180 0 9 (dk_at dksX4_bestPair_1 8 rfl rfl)
theorem dX4_bestPair_35 : decode cX4_bestPair 35 = .ok (.invokestatic 148, 3) := dk_184 0 148 (dk_at dksX4_bestPair_1 11 rfl rfl)
theorem dX4_bestPair_38 : decode cX4_bestPair 38 = .ok (.ireturn, 1) := dk_172 (dk_at dksX4_bestPair_1 14 rfl rfl)
abbrev cX4_bestIn : ByteArray := prog_21_method_19_code
def yX4_bestIn : MethodName := ⟨RX4, "bestIn", "([I)I"⟩
def dkwX4_bestIn_3 : List UInt8 := [167, 255, 205, 132, 3, 1, 167, 255, 189, 27, 172]
abbrev dktX4_bestIn_3 : List UInt8 := dkwX4_bestIn_3 ++ []
def dkwX4_bestIn_2 : List UInt8 := [167, 0, 19, 16, 10, 29, 104, 21, 4, 96, 60, 42, 29, 21, 4, 184, 0, 88, 61, 132, 4, 1]
abbrev dktX4_bestIn_2 : List UInt8 := dkwX4_bestIn_2 ++ dktX4_bestIn_3
def dkwX4_bestIn_1 : List UInt8 := [162, 0, 49, 42, 29, 21, 4, 184, 0, 91, 153, 0, 33, 42, 29, 21, 4, 184, 0, 88, 28, 163, 0, 6]
abbrev dktX4_bestIn_1 : List UInt8 := dkwX4_bestIn_1 ++ dktX4_bestIn_2
def dkwX4_bestIn_0 : List UInt8 := [16, 252, 60, 2, 61, 3, 62, 29, 42, 3, 46, 162, 0, 66, 3, 54, 4, 21, 4, 42, 3, 46]
abbrev dktX4_bestIn_0 : List UInt8 := dkwX4_bestIn_0 ++ dktX4_bestIn_1
theorem dksX4_bestIn_0 : cX4_bestIn.data.toList.drop 0 = dktX4_bestIn_0 := by decide +kernel
theorem dksX4_bestIn_1 : cX4_bestIn.data.toList.drop 22 = dktX4_bestIn_1 := dk_seg dksX4_bestIn_0 22 rfl rfl
theorem dksX4_bestIn_2 : cX4_bestIn.data.toList.drop 46 = dktX4_bestIn_2 := dk_seg dksX4_bestIn_1 24 rfl rfl
theorem dksX4_bestIn_3 : cX4_bestIn.data.toList.drop 68 = dktX4_bestIn_3 := dk_seg dksX4_bestIn_2 22 rfl rfl
theorem dX4_bestIn_0 : decode cX4_bestIn 0 = .ok (.bipush (-4), 2) := dk_16 252 (dk_at dksX4_bestIn_0 0 rfl rfl)
theorem dX4_bestIn_2 : decode cX4_bestIn 2 = .ok (.istore_n 1, 1) := dk_60 (dk_at dksX4_bestIn_0 2 rfl rfl)
theorem dX4_bestIn_3 : decode cX4_bestIn 3 = .ok (.iconst (-1), 1) := dk_2 (dk_at dksX4_bestIn_0 3 rfl rfl)
theorem dX4_bestIn_4 : decode cX4_bestIn 4 = .ok (.istore_n 2, 1) := dk_61 (dk_at dksX4_bestIn_0 4 rfl rfl)
theorem dX4_bestIn_5 : decode cX4_bestIn 5 = .ok (.iconst 0, 1) := dk_3 (dk_at dksX4_bestIn_0 5 rfl rfl)
theorem dX4_bestIn_6 : decode cX4_bestIn 6 = .ok (.istore_n 3, 1) := dk_62 (dk_at dksX4_bestIn_0 6 rfl rfl)
theorem dX4_bestIn_7 : decode cX4_bestIn 7 = .ok (.iload_n 3, 1) := dk_29 (dk_at dksX4_bestIn_0 7 rfl rfl)
theorem dX4_bestIn_8 : decode cX4_bestIn 8 = .ok (.aload_n 0, 1) := dk_42 (dk_at dksX4_bestIn_0 8 rfl rfl)
theorem dX4_bestIn_9 : decode cX4_bestIn 9 = .ok (.iconst 0, 1) := dk_3 (dk_at dksX4_bestIn_0 9 rfl rfl)
theorem dX4_bestIn_10 : decode cX4_bestIn 10 = .ok (.iaload, 1) := dk_46 (dk_at dksX4_bestIn_0 10 rfl rfl)
theorem dX4_bestIn_11 : decode cX4_bestIn 11 = .ok (.if_icmp .ge 66, 3) := dk_162 0 66 (dk_at dksX4_bestIn_0 11 rfl rfl)
theorem dX4_bestIn_14 : decode cX4_bestIn 14 = .ok (.iconst 0, 1) := dk_3 (dk_at dksX4_bestIn_0 14 rfl rfl)
theorem dX4_bestIn_15 : decode cX4_bestIn 15 = .ok (.istore 4, 2) := dk_54 4 (dk_at dksX4_bestIn_0 15 rfl rfl)
theorem dX4_bestIn_17 : decode cX4_bestIn 17 = .ok (.iload 4, 2) := dk_21 4 (dk_at dksX4_bestIn_0 17 rfl rfl)
theorem dX4_bestIn_19 : decode cX4_bestIn 19 = .ok (.aload_n 0, 1) := dk_42 (dk_at dksX4_bestIn_0 19 rfl rfl)
theorem dX4_bestIn_20 : decode cX4_bestIn 20 = .ok (.iconst 0, 1) := dk_3 (dk_at dksX4_bestIn_0 20 rfl rfl)
theorem dX4_bestIn_21 : decode cX4_bestIn 21 = .ok (.iaload, 1) := dk_46 (dk_at dksX4_bestIn_0 21 rfl rfl)
theorem dX4_bestIn_22 : decode cX4_bestIn 22 = .ok (.if_icmp .ge 49, 3) := dk_162 0 49 (dk_at dksX4_bestIn_1 0 rfl rfl)
theorem dX4_bestIn_25 : decode cX4_bestIn 25 = .ok (.aload_n 0, 1) := dk_42 (dk_at dksX4_bestIn_1 3 rfl rfl)
theorem dX4_bestIn_26 : decode cX4_bestIn 26 = .ok (.iload_n 3, 1) := dk_29 (dk_at dksX4_bestIn_1 4 rfl rfl)
theorem dX4_bestIn_27 : decode cX4_bestIn 27 = .ok (.iload 4, 2) := dk_21 4 (dk_at dksX4_bestIn_1 5 rfl rfl)
theorem dX4_bestIn_29 : decode cX4_bestIn 29 = .ok (.invokestatic 91, 3) := dk_184 0 91 (dk_at dksX4_bestIn_1 7 rfl rfl)
theorem dX4_bestIn_32 : decode cX4_bestIn 32 = .ok (.ifCond .eq 33, 3) := dk_153 0 33 (dk_at dksX4_bestIn_1 10 rfl rfl)
theorem dX4_bestIn_35 : decode cX4_bestIn 35 = .ok (.aload_n 0, 1) := dk_42 (dk_at dksX4_bestIn_1 13 rfl rfl)
theorem dX4_bestIn_36 : decode cX4_bestIn 36 = .ok (.iload_n 3, 1) := dk_29 (dk_at dksX4_bestIn_1 14 rfl rfl)
theorem dX4_bestIn_37 : decode cX4_bestIn 37 = .ok (.iload 4, 2) := dk_21 4 (dk_at dksX4_bestIn_1 15 rfl rfl)
theorem dX4_bestIn_39 : decode cX4_bestIn 39 = .ok (.invokestatic 88, 3) := dk_184 0 88 (dk_at dksX4_bestIn_1 17 rfl rfl)
theorem dX4_bestIn_42 : decode cX4_bestIn 42 = .ok (.iload_n 2, 1) := dk_28 (dk_at dksX4_bestIn_1 20 rfl rfl)
theorem dX4_bestIn_43 : decode cX4_bestIn 43 = .ok (.if_icmp .gt 6, 3) := dk_163 0 6 (dk_at dksX4_bestIn_1 21 rfl rfl)
theorem dX4_bestIn_46 : decode cX4_bestIn 46 = .ok (.goto 19, 3) := dk_167 0 19 (dk_at dksX4_bestIn_2 0 rfl rfl)
theorem dX4_bestIn_49 : decode cX4_bestIn 49 = .ok (.bipush 10, 2) := dk_16 10 (dk_at dksX4_bestIn_2 3 rfl rfl)
theorem dX4_bestIn_51 : decode cX4_bestIn 51 = .ok (.iload_n 3, 1) := dk_29 (dk_at dksX4_bestIn_2 5 rfl rfl)
theorem dX4_bestIn_52 : decode cX4_bestIn 52 = .ok (.imul, 1) := dk_104 (dk_at dksX4_bestIn_2 6 rfl rfl)
theorem dX4_bestIn_53 : decode cX4_bestIn 53 = .ok (.iload 4, 2) := dk_21 4 (dk_at dksX4_bestIn_2 7 rfl rfl)
theorem dX4_bestIn_55 : decode cX4_bestIn 55 = .ok (.iadd, 1) := dk_96 (dk_at dksX4_bestIn_2 9 rfl rfl)
theorem dX4_bestIn_56 : decode cX4_bestIn 56 = .ok (.istore_n 1, 1) := dk_60 (dk_at dksX4_bestIn_2 10 rfl rfl)
theorem dX4_bestIn_57 : decode cX4_bestIn 57 = .ok (.aload_n 0, 1) := dk_42 (dk_at dksX4_bestIn_2 11 rfl rfl)
theorem dX4_bestIn_58 : decode cX4_bestIn 58 = .ok (.iload_n 3, 1) := dk_29 (dk_at dksX4_bestIn_2 12 rfl rfl)
theorem dX4_bestIn_59 : decode cX4_bestIn 59 = .ok (.iload 4, 2) := dk_21 4 (dk_at dksX4_bestIn_2 13 rfl rfl)
theorem dX4_bestIn_61 : decode cX4_bestIn 61 = .ok (.invokestatic 88, 3) := dk_184 0 88 (dk_at dksX4_bestIn_2 15 rfl rfl)
theorem dX4_bestIn_64 : decode cX4_bestIn 64 = .ok (.istore_n 2, 1) := dk_61 (dk_at dksX4_bestIn_2 18 rfl rfl)
theorem dX4_bestIn_65 : decode cX4_bestIn 65 = .ok (.iinc 4 1, 3) := dk_132 4 1 (dk_at dksX4_bestIn_2 19 rfl rfl)
theorem dX4_bestIn_68 : decode cX4_bestIn 68 = .ok (.goto (-51), 3) := dk_167 255 205 (dk_at dksX4_bestIn_3 0 rfl rfl)
theorem dX4_bestIn_71 : decode cX4_bestIn 71 = .ok (.iinc 3 1, 3) := dk_132 3 1 (dk_at dksX4_bestIn_3 3 rfl rfl)
theorem dX4_bestIn_74 : decode cX4_bestIn 74 = .ok (.goto (-67), 3) := dk_167 255 189 (dk_at dksX4_bestIn_3 6 rfl rfl)
theorem dX4_bestIn_77 : decode cX4_bestIn 77 = .ok (.iload_n 1, 1) := dk_27 (dk_at dksX4_bestIn_3 9 rfl rfl)
theorem dX4_bestIn_78 : decode cX4_bestIn 78 = .ok (.ireturn, 1) := dk_172 (dk_at dksX4_bestIn_3 10 rfl rfl)
abbrev cX4_bestJoys : ByteArray := prog_21_method_20_code
def yX4_bestJoys : MethodName := ⟨RX4, "bestJoys", "([I)I"⟩
def dkwX4_bestJoys_1 : List UInt8 := [184, 0, 88, 172]
abbrev dktX4_bestJoys_1 : List UInt8 := dkwX4_bestJoys_1 ++ []
def dkwX4_bestJoys_0 : List UInt8 := [42, 184, 0, 95, 60, 27, 156, 0, 7, 3, 167, 0, 15, 42, 27, 16, 10, 108, 27, 16, 10, 112]
abbrev dktX4_bestJoys_0 : List UInt8 := dkwX4_bestJoys_0 ++ dktX4_bestJoys_1
theorem dksX4_bestJoys_0 : cX4_bestJoys.data.toList.drop 0 = dktX4_bestJoys_0 := by decide +kernel
theorem dksX4_bestJoys_1 : cX4_bestJoys.data.toList.drop 22 = dktX4_bestJoys_1 := dk_seg dksX4_bestJoys_0 22 rfl rfl
theorem dX4_bestJoys_0 : decode cX4_bestJoys 0 = .ok (.aload_n 0, 1) := dk_42 (dk_at dksX4_bestJoys_0 0 rfl rfl)
theorem dX4_bestJoys_1 : decode cX4_bestJoys 1 = .ok (.invokestatic 95, 3) := dk_184 0 95 (dk_at dksX4_bestJoys_0 1 rfl rfl)
theorem dX4_bestJoys_4 : decode cX4_bestJoys 4 = .ok (.istore_n 1, 1) := dk_60 (dk_at dksX4_bestJoys_0 4 rfl rfl)
theorem dX4_bestJoys_5 : decode cX4_bestJoys 5 = .ok (.iload_n 1, 1) := dk_27 (dk_at dksX4_bestJoys_0 5 rfl rfl)
theorem dX4_bestJoys_6 : decode cX4_bestJoys 6 = .ok (.ifCond .ge 7, 3) := dk_156 0 7 (dk_at dksX4_bestJoys_0 6 rfl rfl)
theorem dX4_bestJoys_9 : decode cX4_bestJoys 9 = .ok (.iconst 0, 1) := dk_3 (dk_at dksX4_bestJoys_0 9 rfl rfl)
theorem dX4_bestJoys_10 : decode cX4_bestJoys 10 = .ok (.goto 15, 3) := dk_167 0 15 (dk_at dksX4_bestJoys_0 10 rfl rfl)
theorem dX4_bestJoys_13 : decode cX4_bestJoys 13 = .ok (.aload_n 0, 1) := dk_42 (dk_at dksX4_bestJoys_0 13 rfl rfl)
theorem dX4_bestJoys_14 : decode cX4_bestJoys 14 = .ok (.iload_n 1, 1) := dk_27 (dk_at dksX4_bestJoys_0 14 rfl rfl)
theorem dX4_bestJoys_15 : decode cX4_bestJoys 15 = .ok (.bipush 10, 2) := dk_16 10 (dk_at dksX4_bestJoys_0 15 rfl rfl)
theorem dX4_bestJoys_17 : decode cX4_bestJoys 17 = .ok (.idiv, 1) := dk_108 (dk_at dksX4_bestJoys_0 17 rfl rfl)
theorem dX4_bestJoys_18 : decode cX4_bestJoys 18 = .ok (.iload_n 1, 1) := dk_27 (dk_at dksX4_bestJoys_0 18 rfl rfl)
theorem dX4_bestJoys_19 : decode cX4_bestJoys 19 = .ok (.bipush 10, 2) := dk_16 10 (dk_at dksX4_bestJoys_0 19 rfl rfl)
theorem dX4_bestJoys_21 : decode cX4_bestJoys 21 = .ok (.irem, 1) := dk_112 (dk_at dksX4_bestJoys_0 21 rfl rfl)
theorem dX4_bestJoys_22 : decode cX4_bestJoys 22 = .ok (.invokestatic 88, 3) := dk_184 0 88 (dk_at dksX4_bestJoys_1 0 rfl rfl)
theorem dX4_bestJoys_25 : decode cX4_bestJoys 25 = .ok (.ireturn, 1) := dk_172 (dk_at dksX4_bestJoys_1 3 rfl rfl)
abbrev cX4_bestLooker : ByteArray := prog_21_method_36_code
def yX4_bestLooker : MethodName := ⟨RX4, "bestLooker", "(I)I"⟩
def dkwX4_bestLooker_3 : List UInt8 := [28, 172]
abbrev dktX4_bestLooker_3 : List UInt8 := dkwX4_bestLooker_3 ++ []
def dkwX4_bestLooker_2 : List UInt8 := [29, 184, 0, 88, 42, 180, 0, 9, 27, 28, 184, 0, 88, 164, 0, 5, 29, 61, 132, 3, 1, 167, 255, 204]
abbrev dktX4_bestLooker_2 : List UInt8 := dkwX4_bestLooker_2 ++ dktX4_bestLooker_3
def dkwX4_bestLooker_1 : List UInt8 := [162, 0, 48, 42, 180, 0, 9, 27, 29, 184, 0, 91, 153, 0, 30, 28, 155, 0, 24, 42, 180, 0, 9, 27]
abbrev dktX4_bestLooker_1 : List UInt8 := dkwX4_bestLooker_1 ++ dktX4_bestLooker_2
def dkwX4_bestLooker_0 : List UInt8 := [42, 27, 182, 0, 121, 154, 0, 5, 2, 172, 16, 252, 61, 3, 62, 29, 42, 180, 0, 9, 3, 46]
abbrev dktX4_bestLooker_0 : List UInt8 := dkwX4_bestLooker_0 ++ dktX4_bestLooker_1
theorem dksX4_bestLooker_0 : cX4_bestLooker.data.toList.drop 0 = dktX4_bestLooker_0 := by decide +kernel
theorem dksX4_bestLooker_1 : cX4_bestLooker.data.toList.drop 22 = dktX4_bestLooker_1 := dk_seg dksX4_bestLooker_0 22 rfl rfl
theorem dksX4_bestLooker_2 : cX4_bestLooker.data.toList.drop 46 = dktX4_bestLooker_2 := dk_seg dksX4_bestLooker_1 24 rfl rfl
theorem dksX4_bestLooker_3 : cX4_bestLooker.data.toList.drop 70 = dktX4_bestLooker_3 := dk_seg dksX4_bestLooker_2 24 rfl rfl
theorem dX4_bestLooker_0 : decode cX4_bestLooker 0 = .ok (.aload_n 0, 1) := dk_42 (dk_at dksX4_bestLooker_0 0 rfl rfl)
theorem dX4_bestLooker_1 : decode cX4_bestLooker 1 = .ok (.iload_n 1, 1) := dk_27 (dk_at dksX4_bestLooker_0 1 rfl rfl)
theorem dX4_bestLooker_2 : decode cX4_bestLooker 2 = .ok (.invokevirtual 121, 3) := dk_182 0 121 (dk_at dksX4_bestLooker_0 2 rfl rfl)
theorem dX4_bestLooker_5 : decode cX4_bestLooker 5 = .ok (.ifCond .ne 5, 3) := dk_154 0 5 (dk_at dksX4_bestLooker_0 5 rfl rfl)
theorem dX4_bestLooker_8 : decode cX4_bestLooker 8 = .ok (.iconst (-1), 1) := dk_2 (dk_at dksX4_bestLooker_0 8 rfl rfl)
theorem dX4_bestLooker_9 : decode cX4_bestLooker 9 = .ok (.ireturn, 1) := dk_172 (dk_at dksX4_bestLooker_0 9 rfl rfl)
theorem dX4_bestLooker_10 : decode cX4_bestLooker 10 = .ok (.bipush (-4), 2) := dk_16 252 (dk_at dksX4_bestLooker_0 10 rfl rfl)
theorem dX4_bestLooker_12 : decode cX4_bestLooker 12 = .ok (.istore_n 2, 1) := dk_61 (dk_at dksX4_bestLooker_0 12 rfl rfl)
theorem dX4_bestLooker_13 : decode cX4_bestLooker 13 = .ok (.iconst 0, 1) := dk_3 (dk_at dksX4_bestLooker_0 13 rfl rfl)
theorem dX4_bestLooker_14 : decode cX4_bestLooker 14 = .ok (.istore_n 3, 1) := dk_62 (dk_at dksX4_bestLooker_0 14 rfl rfl)
theorem dX4_bestLooker_15 : decode cX4_bestLooker 15 = .ok (.iload_n 3, 1) := dk_29 (dk_at dksX4_bestLooker_0 15 rfl rfl)
theorem dX4_bestLooker_16 : decode cX4_bestLooker 16 = .ok (.aload_n 0, 1) := dk_42 (dk_at dksX4_bestLooker_0 16 rfl rfl)
theorem dX4_bestLooker_17 : decode cX4_bestLooker 17 = .ok (.getfield 9, 3) := dk_180 0 9 (dk_at dksX4_bestLooker_0 17 rfl rfl)
theorem dX4_bestLooker_20 : decode cX4_bestLooker 20 = .ok (.iconst 0, 1) := dk_3 (dk_at dksX4_bestLooker_0 20 rfl rfl)
theorem dX4_bestLooker_21 : decode cX4_bestLooker 21 = .ok (.iaload, 1) := dk_46 (dk_at dksX4_bestLooker_0 21 rfl rfl)
theorem dX4_bestLooker_22 : decode cX4_bestLooker 22 = .ok (.if_icmp .ge 48, 3) := dk_162 0 48 (dk_at dksX4_bestLooker_1 0 rfl rfl)
theorem dX4_bestLooker_25 : decode cX4_bestLooker 25 = .ok (.aload_n 0, 1) := dk_42 (dk_at dksX4_bestLooker_1 3 rfl rfl)
theorem dX4_bestLooker_26 : decode cX4_bestLooker 26 = .ok (.getfield 9, 3) := dk_180 0 9 (dk_at dksX4_bestLooker_1 4 rfl rfl)
theorem dX4_bestLooker_29 : decode cX4_bestLooker 29 = .ok (.iload_n 1, 1) := dk_27 (dk_at dksX4_bestLooker_1 7 rfl rfl)
theorem dX4_bestLooker_30 : decode cX4_bestLooker 30 = .ok (.iload_n 3, 1) := dk_29 (dk_at dksX4_bestLooker_1 8 rfl rfl)
theorem dX4_bestLooker_31 : decode cX4_bestLooker 31 = .ok (.invokestatic 91, 3) := dk_184 0 91 (dk_at dksX4_bestLooker_1 9 rfl rfl)
theorem dX4_bestLooker_34 : decode cX4_bestLooker 34 = .ok (.ifCond .eq 30, 3) := dk_153 0 30 (dk_at dksX4_bestLooker_1 12 rfl rfl)
theorem dX4_bestLooker_37 : decode cX4_bestLooker 37 = .ok (.iload_n 2, 1) := dk_28 (dk_at dksX4_bestLooker_1 15 rfl rfl)
theorem dX4_bestLooker_38 : decode cX4_bestLooker 38 = .ok (.ifCond .lt 24, 3) := dk_155 0 24 (dk_at dksX4_bestLooker_1 16 rfl rfl)
theorem dX4_bestLooker_41 : decode cX4_bestLooker 41 = .ok (.aload_n 0, 1) := dk_42 (dk_at dksX4_bestLooker_1 19 rfl rfl)
theorem dX4_bestLooker_42 : decode cX4_bestLooker 42 = .ok (.getfield 9, 3) := dk_180 0 9 (dk_at dksX4_bestLooker_1 20 rfl rfl)
theorem dX4_bestLooker_45 : decode cX4_bestLooker 45 = .ok (.iload_n 1, 1) := dk_27 (dk_at dksX4_bestLooker_1 23 rfl rfl)
theorem dX4_bestLooker_46 : decode cX4_bestLooker 46 = .ok (.iload_n 3, 1) := dk_29 (dk_at dksX4_bestLooker_2 0 rfl rfl)
theorem dX4_bestLooker_47 : decode cX4_bestLooker 47 = .ok (.invokestatic 88, 3) := dk_184 0 88 (dk_at dksX4_bestLooker_2 1 rfl rfl)
theorem dX4_bestLooker_50 : decode cX4_bestLooker 50 = .ok (.aload_n 0, 1) := dk_42 (dk_at dksX4_bestLooker_2 4 rfl rfl)
theorem dX4_bestLooker_51 : decode cX4_bestLooker 51 = .ok (.getfield 9, 3) := dk_180 0 9 (dk_at dksX4_bestLooker_2 5 rfl rfl)
theorem dX4_bestLooker_54 : decode cX4_bestLooker 54 = .ok (.iload_n 1, 1) := dk_27 (dk_at dksX4_bestLooker_2 8 rfl rfl)
theorem dX4_bestLooker_55 : decode cX4_bestLooker 55 = .ok (.iload_n 2, 1) := dk_28 (dk_at dksX4_bestLooker_2 9 rfl rfl)
theorem dX4_bestLooker_56 : decode cX4_bestLooker 56 = .ok (.invokestatic 88, 3) := dk_184 0 88 (dk_at dksX4_bestLooker_2 10 rfl rfl)
theorem dX4_bestLooker_59 : decode cX4_bestLooker 59 = .ok (.if_icmp .le 5, 3) := dk_164 0 5 (dk_at dksX4_bestLooker_2 13 rfl rfl)
theorem dX4_bestLooker_62 : decode cX4_bestLooker 62 = .ok (.iload_n 3, 1) := dk_29 (dk_at dksX4_bestLooker_2 16 rfl rfl)
theorem dX4_bestLooker_63 : decode cX4_bestLooker 63 = .ok (.istore_n 2, 1) := dk_61 (dk_at dksX4_bestLooker_2 17 rfl rfl)
theorem dX4_bestLooker_64 : decode cX4_bestLooker 64 = .ok (.iinc 3 1, 3) := dk_132 3 1 (dk_at dksX4_bestLooker_2 18 rfl rfl)
theorem dX4_bestLooker_67 : decode cX4_bestLooker 67 = .ok (.goto (-52), 3) := dk_167 255 204 (dk_at dksX4_bestLooker_2 21 rfl rfl)
theorem dX4_bestLooker_70 : decode cX4_bestLooker 70 = .ok (.iload_n 2, 1) := dk_28 (dk_at dksX4_bestLooker_3 0 rfl rfl)
theorem dX4_bestLooker_71 : decode cX4_bestLooker 71 = .ok (.ireturn, 1) := dk_172 (dk_at dksX4_bestLooker_3 1 rfl rfl)
abbrev cX4_twoTurns : ByteArray := prog_21_method_37_code
def yX4_twoTurns : MethodName := ⟨RX4, "twoTurns", "(I)I"⟩
def dkwX4_twoTurns_6 : List UInt8 := [3, 29, 184, 0, 78, 172]
abbrev dktX4_twoTurns_6 : List UInt8 := dkwX4_twoTurns_6 ++ []
def dkwX4_twoTurns_5 : List UInt8 := [21, 6, 62, 132, 5, 1, 167, 255, 168, 132, 4, 1, 167, 255, 148, 27, 4, 160, 0, 7, 28, 167, 0, 8]
abbrev dktX4_twoTurns_5 : List UInt8 := dkwX4_twoTurns_5 ++ dktX4_twoTurns_6
def dkwX4_twoTurns_4 : List UInt8 := [184, 0, 148, 96, 54, 6, 21, 6, 29, 163, 0, 6, 167, 0, 15, 16, 10, 21, 4, 104, 21, 5, 96, 61]
abbrev dktX4_twoTurns_4 : List UInt8 := dkwX4_twoTurns_4 ++ dktX4_twoTurns_5
def dkwX4_twoTurns_3 : List UInt8 := [184, 0, 135, 42, 180, 0, 13, 21, 4, 21, 5, 184, 0, 125, 54, 6, 21, 6, 42, 180, 0, 13]
abbrev dktX4_twoTurns_3 : List UInt8 := dkwX4_twoTurns_3 ++ dktX4_twoTurns_4
def dkwX4_twoTurns_2 : List UInt8 := [180, 0, 9, 21, 4, 21, 5, 184, 0, 91, 154, 0, 6, 167, 0, 60, 42, 180, 0, 9, 42, 180, 0, 13]
abbrev dktX4_twoTurns_2 : List UInt8 := dkwX4_twoTurns_2 ++ dktX4_twoTurns_3
def dkwX4_twoTurns_1 : List UInt8 := [180, 0, 9, 3, 46, 162, 0, 103, 3, 54, 5, 21, 5, 42, 180, 0, 9, 3, 46, 162, 0, 83, 42]
abbrev dktX4_twoTurns_1 : List UInt8 := dkwX4_twoTurns_1 ++ dktX4_twoTurns_2
def dkwX4_twoTurns_0 : List UInt8 := [27, 3, 4, 184, 0, 49, 154, 0, 5, 2, 172, 16, 252, 61, 2, 62, 3, 54, 4, 21, 4, 42]
abbrev dktX4_twoTurns_0 : List UInt8 := dkwX4_twoTurns_0 ++ dktX4_twoTurns_1
theorem dksX4_twoTurns_0 : cX4_twoTurns.data.toList.drop 0 = dktX4_twoTurns_0 := by decide +kernel
theorem dksX4_twoTurns_1 : cX4_twoTurns.data.toList.drop 22 = dktX4_twoTurns_1 := dk_seg dksX4_twoTurns_0 22 rfl rfl
theorem dksX4_twoTurns_2 : cX4_twoTurns.data.toList.drop 45 = dktX4_twoTurns_2 := dk_seg dksX4_twoTurns_1 23 rfl rfl
theorem dksX4_twoTurns_3 : cX4_twoTurns.data.toList.drop 69 = dktX4_twoTurns_3 := dk_seg dksX4_twoTurns_2 24 rfl rfl
theorem dksX4_twoTurns_4 : cX4_twoTurns.data.toList.drop 91 = dktX4_twoTurns_4 := dk_seg dksX4_twoTurns_3 22 rfl rfl
theorem dksX4_twoTurns_5 : cX4_twoTurns.data.toList.drop 115 = dktX4_twoTurns_5 := dk_seg dksX4_twoTurns_4 24 rfl rfl
theorem dksX4_twoTurns_6 : cX4_twoTurns.data.toList.drop 139 = dktX4_twoTurns_6 := dk_seg dksX4_twoTurns_5 24 rfl rfl
theorem dX4_twoTurns_0 : decode cX4_twoTurns 0 = .ok (.iload_n 1, 1) := dk_27 (dk_at dksX4_twoTurns_0 0 rfl rfl)
theorem dX4_twoTurns_1 : decode cX4_twoTurns 1 = .ok (.iconst 0, 1) := dk_3 (dk_at dksX4_twoTurns_0 1 rfl rfl)
theorem dX4_twoTurns_2 : decode cX4_twoTurns 2 = .ok (.iconst 1, 1) := dk_4 (dk_at dksX4_twoTurns_0 2 rfl rfl)
theorem dX4_twoTurns_3 : decode cX4_twoTurns 3 = .ok (.invokestatic 49, 3) := dk_184 0 49 (dk_at dksX4_twoTurns_0 3 rfl rfl)
theorem dX4_twoTurns_6 : decode cX4_twoTurns 6 = .ok (.ifCond .ne 5, 3) := dk_154 0 5 (dk_at dksX4_twoTurns_0 6 rfl rfl)
theorem dX4_twoTurns_9 : decode cX4_twoTurns 9 = .ok (.iconst (-1), 1) := dk_2 (dk_at dksX4_twoTurns_0 9 rfl rfl)
theorem dX4_twoTurns_10 : decode cX4_twoTurns 10 = .ok (.ireturn, 1) := dk_172 (dk_at dksX4_twoTurns_0 10 rfl rfl)
theorem dX4_twoTurns_11 : decode cX4_twoTurns 11 = .ok (.bipush (-4), 2) := dk_16 252 (dk_at dksX4_twoTurns_0 11 rfl rfl)
theorem dX4_twoTurns_13 : decode cX4_twoTurns 13 = .ok (.istore_n 2, 1) := dk_61 (dk_at dksX4_twoTurns_0 13 rfl rfl)
theorem dX4_twoTurns_14 : decode cX4_twoTurns 14 = .ok (.iconst (-1), 1) := dk_2 (dk_at dksX4_twoTurns_0 14 rfl rfl)
theorem dX4_twoTurns_15 : decode cX4_twoTurns 15 = .ok (.istore_n 3, 1) := dk_62 (dk_at dksX4_twoTurns_0 15 rfl rfl)
theorem dX4_twoTurns_16 : decode cX4_twoTurns 16 = .ok (.iconst 0, 1) := dk_3 (dk_at dksX4_twoTurns_0 16 rfl rfl)
theorem dX4_twoTurns_17 : decode cX4_twoTurns 17 = .ok (.istore 4, 2) := dk_54 4 (dk_at dksX4_twoTurns_0 17 rfl rfl)
theorem dX4_twoTurns_19 : decode cX4_twoTurns 19 = .ok (.iload 4, 2) := dk_21 4 (dk_at dksX4_twoTurns_0 19 rfl rfl)
theorem dX4_twoTurns_21 : decode cX4_twoTurns 21 = .ok (.aload_n 0, 1) := dk_42 (dk_at dksX4_twoTurns_0 21 rfl rfl)
theorem dX4_twoTurns_22 : decode cX4_twoTurns 22 = .ok (.getfield 9, 3) := dk_180 0 9 (dk_at dksX4_twoTurns_1 0 rfl rfl)
theorem dX4_twoTurns_25 : decode cX4_twoTurns 25 = .ok (.iconst 0, 1) := dk_3 (dk_at dksX4_twoTurns_1 3 rfl rfl)
theorem dX4_twoTurns_26 : decode cX4_twoTurns 26 = .ok (.iaload, 1) := dk_46 (dk_at dksX4_twoTurns_1 4 rfl rfl)
theorem dX4_twoTurns_27 : decode cX4_twoTurns 27 = .ok (.if_icmp .ge 103, 3) := dk_162 0 103 (dk_at dksX4_twoTurns_1 5 rfl rfl)
theorem dX4_twoTurns_30 : decode cX4_twoTurns 30 = .ok (.iconst 0, 1) := dk_3 (dk_at dksX4_twoTurns_1 8 rfl rfl)
theorem dX4_twoTurns_31 : decode cX4_twoTurns 31 = .ok (.istore 5, 2) := dk_54 5 (dk_at dksX4_twoTurns_1 9 rfl rfl)
theorem dX4_twoTurns_33 : decode cX4_twoTurns 33 = .ok (.iload 5, 2) := dk_21 5 (dk_at dksX4_twoTurns_1 11 rfl rfl)
theorem dX4_twoTurns_35 : decode cX4_twoTurns 35 = .ok (.aload_n 0, 1) := dk_42 (dk_at dksX4_twoTurns_1 13 rfl rfl)
theorem dX4_twoTurns_36 : decode cX4_twoTurns 36 = .ok (.getfield 9, 3) := dk_180 0 9 (dk_at dksX4_twoTurns_1 14 rfl rfl)
theorem dX4_twoTurns_39 : decode cX4_twoTurns 39 = .ok (.iconst 0, 1) := dk_3 (dk_at dksX4_twoTurns_1 17 rfl rfl)
theorem dX4_twoTurns_40 : decode cX4_twoTurns 40 = .ok (.iaload, 1) := dk_46 (dk_at dksX4_twoTurns_1 18 rfl rfl)
theorem dX4_twoTurns_41 : decode cX4_twoTurns 41 = .ok (.if_icmp .ge 83, 3) := dk_162 0 83 (dk_at dksX4_twoTurns_1 19 rfl rfl)
theorem dX4_twoTurns_44 : decode cX4_twoTurns 44 = .ok (.aload_n 0, 1) := dk_42 (dk_at dksX4_twoTurns_1 22 rfl rfl)
theorem dX4_twoTurns_45 : decode cX4_twoTurns 45 = .ok (.getfield 9, 3) := dk_180 0 9 (dk_at dksX4_twoTurns_2 0 rfl rfl)
theorem dX4_twoTurns_48 : decode cX4_twoTurns 48 = .ok (.iload 4, 2) := dk_21 4 (dk_at dksX4_twoTurns_2 3 rfl rfl)
theorem dX4_twoTurns_50 : decode cX4_twoTurns 50 = .ok (.iload 5, 2) := dk_21 5 (dk_at dksX4_twoTurns_2 5 rfl rfl)
theorem dX4_twoTurns_52 : decode cX4_twoTurns 52 = .ok (.invokestatic 91, 3) := dk_184 0 91 (dk_at dksX4_twoTurns_2 7 rfl rfl)
theorem dX4_twoTurns_55 : decode cX4_twoTurns 55 = .ok (.ifCond .ne 6, 3) := dk_154 0 6 (dk_at dksX4_twoTurns_2 10 rfl rfl)
theorem dX4_twoTurns_58 : decode cX4_twoTurns 58 = .ok (.goto 60, 3) := dk_167 0 60 (dk_at dksX4_twoTurns_2 13 rfl rfl)
theorem dX4_twoTurns_61 : decode cX4_twoTurns 61 = .ok (.aload_n 0, 1) := dk_42 (dk_at dksX4_twoTurns_2 16 rfl rfl)
theorem dX4_twoTurns_62 : decode cX4_twoTurns 62 = .ok (.getfield 9, 3) := dk_180 0 9 (dk_at dksX4_twoTurns_2 17 rfl rfl)
theorem dX4_twoTurns_65 : decode cX4_twoTurns 65 = .ok (.aload_n 0, 1) := dk_42 (dk_at dksX4_twoTurns_2 20 rfl rfl)
theorem dX4_twoTurns_66 : decode cX4_twoTurns 66 = .ok (.getfield 13, 3) := dk_180 0 13 (dk_at dksX4_twoTurns_2 21 rfl rfl)
theorem dX4_twoTurns_69 : decode cX4_twoTurns 69 = .ok (.invokestatic 135, 3) := dk_184 0 135 (dk_at dksX4_twoTurns_3 0 rfl rfl)
theorem dX4_twoTurns_72 : decode cX4_twoTurns 72 = .ok (.aload_n 0, 1) := dk_42 (dk_at dksX4_twoTurns_3 3 rfl rfl)
theorem dX4_twoTurns_73 : decode cX4_twoTurns 73 = .ok (.getfield 13, 3) := dk_180 0 13 (dk_at dksX4_twoTurns_3 4 rfl rfl)
theorem dX4_twoTurns_76 : decode cX4_twoTurns 76 = .ok (.iload 4, 2) := dk_21 4 (dk_at dksX4_twoTurns_3 7 rfl rfl)
theorem dX4_twoTurns_78 : decode cX4_twoTurns 78 = .ok (.iload 5, 2) := dk_21 5 (dk_at dksX4_twoTurns_3 9 rfl rfl)
theorem dX4_twoTurns_80 : decode cX4_twoTurns 80 = .ok (.invokestatic 125, 3) := dk_184 0 125 (dk_at dksX4_twoTurns_3 11 rfl rfl)
theorem dX4_twoTurns_83 : decode cX4_twoTurns 83 = .ok (.istore 6, 2) := dk_54 6 (dk_at dksX4_twoTurns_3 14 rfl rfl)
theorem dX4_twoTurns_85 : decode cX4_twoTurns 85 = .ok (.iload 6, 2) := dk_21 6 (dk_at dksX4_twoTurns_3 16 rfl rfl)
theorem dX4_twoTurns_87 : decode cX4_twoTurns 87 = .ok (.aload_n 0, 1) := dk_42 (dk_at dksX4_twoTurns_3 18 rfl rfl)
theorem dX4_twoTurns_88 : decode cX4_twoTurns 88 = .ok (.getfield 13, 3) := dk_180 0 13 (dk_at dksX4_twoTurns_3 19 rfl rfl)
theorem dX4_twoTurns_91 : decode cX4_twoTurns 91 = .ok (.invokestatic 148, 3) := dk_184 0 148 (dk_at dksX4_twoTurns_4 0 rfl rfl)
theorem dX4_twoTurns_94 : decode cX4_twoTurns 94 = .ok (.iadd, 1) := dk_96 (dk_at dksX4_twoTurns_4 3 rfl rfl)
theorem dX4_twoTurns_95 : decode cX4_twoTurns 95 = .ok (.istore 6, 2) := dk_54 6 (dk_at dksX4_twoTurns_4 4 rfl rfl)
theorem dX4_twoTurns_97 : decode cX4_twoTurns 97 = .ok (.iload 6, 2) := dk_21 6 (dk_at dksX4_twoTurns_4 6 rfl rfl)
theorem dX4_twoTurns_99 : decode cX4_twoTurns 99 = .ok (.iload_n 3, 1) := dk_29 (dk_at dksX4_twoTurns_4 8 rfl rfl)
theorem dX4_twoTurns_100 : decode cX4_twoTurns 100 = .ok (.if_icmp .gt 6, 3) := dk_163 0 6 (dk_at dksX4_twoTurns_4 9 rfl rfl)
theorem dX4_twoTurns_103 : decode cX4_twoTurns 103 = .ok (.goto 15, 3) := dk_167 0 15 (dk_at dksX4_twoTurns_4 12 rfl rfl)
theorem dX4_twoTurns_106 : decode cX4_twoTurns 106 = .ok (.bipush 10, 2) := dk_16 10 (dk_at dksX4_twoTurns_4 15 rfl rfl)
theorem dX4_twoTurns_108 : decode cX4_twoTurns 108 = .ok (.iload 4, 2) := dk_21 4 (dk_at dksX4_twoTurns_4 17 rfl rfl)
theorem dX4_twoTurns_110 : decode cX4_twoTurns 110 = .ok (.imul, 1) := dk_104 (dk_at dksX4_twoTurns_4 19 rfl rfl)
theorem dX4_twoTurns_111 : decode cX4_twoTurns 111 = .ok (.iload 5, 2) := dk_21 5 (dk_at dksX4_twoTurns_4 20 rfl rfl)
theorem dX4_twoTurns_113 : decode cX4_twoTurns 113 = .ok (.iadd, 1) := dk_96 (dk_at dksX4_twoTurns_4 22 rfl rfl)
theorem dX4_twoTurns_114 : decode cX4_twoTurns 114 = .ok (.istore_n 2, 1) := dk_61 (dk_at dksX4_twoTurns_4 23 rfl rfl)
theorem dX4_twoTurns_115 : decode cX4_twoTurns 115 = .ok (.iload 6, 2) := dk_21 6 (dk_at dksX4_twoTurns_5 0 rfl rfl)
theorem dX4_twoTurns_117 : decode cX4_twoTurns 117 = .ok (.istore_n 3, 1) := dk_62 (dk_at dksX4_twoTurns_5 2 rfl rfl)
theorem dX4_twoTurns_118 : decode cX4_twoTurns 118 = .ok (.iinc 5 1, 3) := dk_132 5 1 (dk_at dksX4_twoTurns_5 3 rfl rfl)
theorem dX4_twoTurns_121 : decode cX4_twoTurns 121 = .ok (.goto (-88), 3) := dk_167 255 168 (dk_at dksX4_twoTurns_5 6 rfl rfl)
theorem dX4_twoTurns_124 : decode cX4_twoTurns 124 = .ok (.iinc 4 1, 3) := dk_132 4 1 (dk_at dksX4_twoTurns_5 9 rfl rfl)
theorem dX4_twoTurns_127 : decode cX4_twoTurns 127 = .ok (.goto (-108), 3) := dk_167 255 148 (dk_at dksX4_twoTurns_5 12 rfl rfl)
theorem dX4_twoTurns_130 : decode cX4_twoTurns 130 = .ok (.iload_n 1, 1) := dk_27 (dk_at dksX4_twoTurns_5 15 rfl rfl)
theorem dX4_twoTurns_131 : decode cX4_twoTurns 131 = .ok (.iconst 1, 1) := dk_4 (dk_at dksX4_twoTurns_5 16 rfl rfl)
theorem dX4_twoTurns_132 : decode cX4_twoTurns 132 = .ok (.if_icmp .ne 7, 3) := dk_160 0 7 (dk_at dksX4_twoTurns_5 17 rfl rfl)
theorem dX4_twoTurns_135 : decode cX4_twoTurns 135 = .ok (.iload_n 2, 1) := dk_28 (dk_at dksX4_twoTurns_5 20 rfl rfl)
theorem dX4_twoTurns_136 : decode cX4_twoTurns 136 = .ok (.goto 8, 3) := dk_167 0 8 (dk_at dksX4_twoTurns_5 21 rfl rfl)
theorem dX4_twoTurns_139 : decode cX4_twoTurns 139 = .ok (.iconst 0, 1) := dk_3 (dk_at dksX4_twoTurns_6 0 rfl rfl)
theorem dX4_twoTurns_140 : decode cX4_twoTurns 140 = .ok (.iload_n 3, 1) := dk_29 (dk_at dksX4_twoTurns_6 1 rfl rfl)
theorem dX4_twoTurns_141 : decode cX4_twoTurns 141 = .ok (.invokestatic 78, 3) := dk_184 0 78 (dk_at dksX4_twoTurns_6 2 rfl rfl)
theorem dX4_twoTurns_144 : decode cX4_twoTurns 144 = .ok (.ireturn, 1) := dk_172 (dk_at dksX4_twoTurns_6 5 rfl rfl)
abbrev cX4_pairs : ByteArray := prog_21_method_39_code
def yX4_pairs : MethodName := ⟨RX4, "pairs", "(I)I"⟩
def dkwX4_pairs_3 : List UInt8 := [27, 46, 172]
abbrev dktX4_pairs_3 : List UInt8 := dkwX4_pairs_3 ++ []
def dkwX4_pairs_2 : List UInt8 := [180, 0, 9, 4, 46, 3, 182, 0, 154, 27, 156, 0, 10, 42, 180, 0, 151, 167, 0, 9, 42, 180, 0, 28]
abbrev dktX4_pairs_2 : List UInt8 := dkwX4_pairs_2 ++ dktX4_pairs_3
def dkwX4_pairs_1 : List UInt8 := [180, 0, 25, 28, 16, 9, 79, 132, 2, 1, 167, 255, 239, 42, 2, 181, 0, 151, 42, 3, 3, 42]
abbrev dktX4_pairs_1 : List UInt8 := dkwX4_pairs_1 ++ dktX4_pairs_2
def dkwX4_pairs_0 : List UInt8 := [27, 2, 159, 0, 13, 42, 27, 182, 0, 121, 154, 0, 5, 2, 172, 3, 61, 28, 16, 8, 162, 0, 17, 42]
abbrev dktX4_pairs_0 : List UInt8 := dkwX4_pairs_0 ++ dktX4_pairs_1
theorem dksX4_pairs_0 : cX4_pairs.data.toList.drop 0 = dktX4_pairs_0 := by decide +kernel
theorem dksX4_pairs_1 : cX4_pairs.data.toList.drop 24 = dktX4_pairs_1 := dk_seg dksX4_pairs_0 24 rfl rfl
theorem dksX4_pairs_2 : cX4_pairs.data.toList.drop 46 = dktX4_pairs_2 := dk_seg dksX4_pairs_1 22 rfl rfl
theorem dksX4_pairs_3 : cX4_pairs.data.toList.drop 70 = dktX4_pairs_3 := dk_seg dksX4_pairs_2 24 rfl rfl
theorem dX4_pairs_0 : decode cX4_pairs 0 = .ok (.iload_n 1, 1) := dk_27 (dk_at dksX4_pairs_0 0 rfl rfl)
theorem dX4_pairs_1 : decode cX4_pairs 1 = .ok (.iconst (-1), 1) := dk_2 (dk_at dksX4_pairs_0 1 rfl rfl)
theorem dX4_pairs_2 : decode cX4_pairs 2 = .ok (.if_icmp .eq 13, 3) := dk_159 0 13 (dk_at dksX4_pairs_0 2 rfl rfl)
theorem dX4_pairs_5 : decode cX4_pairs 5 = .ok (.aload_n 0, 1) := dk_42 (dk_at dksX4_pairs_0 5 rfl rfl)
theorem dX4_pairs_6 : decode cX4_pairs 6 = .ok (.iload_n 1, 1) := dk_27 (dk_at dksX4_pairs_0 6 rfl rfl)
theorem dX4_pairs_7 : decode cX4_pairs 7 = .ok (.invokevirtual 121, 3) := dk_182 0 121 (dk_at dksX4_pairs_0 7 rfl rfl)
theorem dX4_pairs_10 : decode cX4_pairs 10 = .ok (.ifCond .ne 5, 3) := dk_154 0 5 (dk_at dksX4_pairs_0 10 rfl rfl)
theorem dX4_pairs_13 : decode cX4_pairs 13 = .ok (.iconst (-1), 1) := dk_2 (dk_at dksX4_pairs_0 13 rfl rfl)
theorem dX4_pairs_14 : decode cX4_pairs 14 = .ok (.ireturn, 1) := dk_172 (dk_at dksX4_pairs_0 14 rfl rfl)
theorem dX4_pairs_15 : decode cX4_pairs 15 = .ok (.iconst 0, 1) := dk_3 (dk_at dksX4_pairs_0 15 rfl rfl)
theorem dX4_pairs_16 : decode cX4_pairs 16 = .ok (.istore_n 2, 1) := dk_61 (dk_at dksX4_pairs_0 16 rfl rfl)
theorem dX4_pairs_17 : decode cX4_pairs 17 = .ok (.iload_n 2, 1) := dk_28 (dk_at dksX4_pairs_0 17 rfl rfl)
theorem dX4_pairs_18 : decode cX4_pairs 18 = .ok (.bipush 8, 2) := dk_16 8 (dk_at dksX4_pairs_0 18 rfl rfl)
theorem dX4_pairs_20 : decode cX4_pairs 20 = .ok (.if_icmp .ge 17, 3) := dk_162 0 17 (dk_at dksX4_pairs_0 20 rfl rfl)
theorem dX4_pairs_23 : decode cX4_pairs 23 = .ok (.aload_n 0, 1) := dk_42 (dk_at dksX4_pairs_0 23 rfl rfl)
theorem dX4_pairs_24 : decode cX4_pairs 24 = .ok (.getfield 25, 3) := dk_180 0 25 (dk_at dksX4_pairs_1 0 rfl rfl)
theorem dX4_pairs_27 : decode cX4_pairs 27 = .ok (.iload_n 2, 1) := dk_28 (dk_at dksX4_pairs_1 3 rfl rfl)
theorem dX4_pairs_28 : decode cX4_pairs 28 = .ok (.bipush 9, 2) := dk_16 9 (dk_at dksX4_pairs_1 4 rfl rfl)
theorem dX4_pairs_30 : decode cX4_pairs 30 = .ok (.iastore, 1) := dk_79 (dk_at dksX4_pairs_1 6 rfl rfl)
theorem dX4_pairs_31 : decode cX4_pairs 31 = .ok (.iinc 2 1, 3) := dk_132 2 1 (dk_at dksX4_pairs_1 7 rfl rfl)
theorem dX4_pairs_34 : decode cX4_pairs 34 = .ok (.goto (-17), 3) := dk_167 255 239 (dk_at dksX4_pairs_1 10 rfl rfl)
theorem dX4_pairs_37 : decode cX4_pairs 37 = .ok (.aload_n 0, 1) := dk_42 (dk_at dksX4_pairs_1 13 rfl rfl)
theorem dX4_pairs_38 : decode cX4_pairs 38 = .ok (.iconst (-1), 1) := dk_2 (dk_at dksX4_pairs_1 14 rfl rfl)
theorem dX4_pairs_39 : decode cX4_pairs 39 = .ok (.putfield 151, 3) := dk_181 0 151 (dk_at dksX4_pairs_1 15 rfl rfl)
theorem dX4_pairs_42 : decode cX4_pairs 42 = .ok (.aload_n 0, 1) := dk_42 (dk_at dksX4_pairs_1 18 rfl rfl)
theorem dX4_pairs_43 : decode cX4_pairs 43 = .ok (.iconst 0, 1) := dk_3 (dk_at dksX4_pairs_1 19 rfl rfl)
theorem dX4_pairs_44 : decode cX4_pairs 44 = .ok (.iconst 0, 1) := dk_3 (dk_at dksX4_pairs_1 20 rfl rfl)
theorem dX4_pairs_45 : decode cX4_pairs 45 = .ok (.aload_n 0, 1) := dk_42 (dk_at dksX4_pairs_1 21 rfl rfl)
theorem dX4_pairs_46 : decode cX4_pairs 46 = .ok (.getfield 9, 3) := dk_180 0 9 (dk_at dksX4_pairs_2 0 rfl rfl)
theorem dX4_pairs_49 : decode cX4_pairs 49 = .ok (.iconst 1, 1) := dk_4 (dk_at dksX4_pairs_2 3 rfl rfl)
theorem dX4_pairs_50 : decode cX4_pairs 50 = .ok (.iaload, 1) := dk_46 (dk_at dksX4_pairs_2 4 rfl rfl)
theorem dX4_pairs_51 : decode cX4_pairs 51 = .ok (.iconst 0, 1) := dk_3 (dk_at dksX4_pairs_2 5 rfl rfl)
theorem dX4_pairs_52 : decode cX4_pairs 52 = .ok (.invokevirtual 154, 3) := dk_182 0 154 (dk_at dksX4_pairs_2 6 rfl rfl)
theorem dX4_pairs_55 : decode cX4_pairs 55 = .ok (.iload_n 1, 1) := dk_27 (dk_at dksX4_pairs_2 9 rfl rfl)
theorem dX4_pairs_56 : decode cX4_pairs 56 = .ok (.ifCond .ge 10, 3) := dk_156 0 10 (dk_at dksX4_pairs_2 10 rfl rfl)
theorem dX4_pairs_59 : decode cX4_pairs 59 = .ok (.aload_n 0, 1) := dk_42 (dk_at dksX4_pairs_2 13 rfl rfl)
theorem dX4_pairs_60 : decode cX4_pairs 60 = .ok (.getfield 151, 3) := dk_180 0 151 (dk_at dksX4_pairs_2 14 rfl rfl)
theorem dX4_pairs_63 : decode cX4_pairs 63 = .ok (.goto 9, 3) := dk_167 0 9 (dk_at dksX4_pairs_2 17 rfl rfl)
theorem dX4_pairs_66 : decode cX4_pairs 66 = .ok (.aload_n 0, 1) := dk_42 (dk_at dksX4_pairs_2 20 rfl rfl)
theorem dX4_pairs_67 : decode cX4_pairs 67 = .ok (.getfield 28, 3) := dk_180 0 28 (dk_at dksX4_pairs_2 21 rfl rfl)
theorem dX4_pairs_70 : decode cX4_pairs 70 = .ok (.iload_n 1, 1) := dk_27 (dk_at dksX4_pairs_3 0 rfl rfl)
theorem dX4_pairs_71 : decode cX4_pairs 71 = .ok (.iaload, 1) := dk_46 (dk_at dksX4_pairs_3 1 rfl rfl)
theorem dX4_pairs_72 : decode cX4_pairs 72 = .ok (.ireturn, 1) := dk_172 (dk_at dksX4_pairs_3 2 rfl rfl)
abbrev cX4_pairsFrom : ByteArray := prog_21_method_38_code
def yX4_pairsFrom : MethodName := ⟨RX4, "pairsFrom", "(IIII)V"⟩
def dkwX4_pairsFrom_10 : List UInt8 := [28, 29, 21, 4, 182, 0, 154, 177]
abbrev dktX4_pairsFrom_10 : List UInt8 := dkwX4_pairsFrom_10 ++ []
def dkwX4_pairsFrom_9 : List UInt8 := [180, 0, 25, 21, 7, 16, 9, 79, 132, 6, 1, 167, 255, 137, 132, 5, 1, 167, 255, 116, 42, 27, 4, 96]
abbrev dktX4_pairsFrom_9 : List UInt8 := dkwX4_pairsFrom_9 ++ dktX4_pairsFrom_10
def dkwX4_pairsFrom_8 : List UInt8 := [120, 128, 29, 4, 100, 21, 4, 42, 180, 0, 9, 21, 7, 21, 8, 184, 0, 88, 96, 182, 0, 154, 42]
abbrev dktX4_pairsFrom_8 : List UInt8 := dkwX4_pairsFrom_8 ++ dktX4_pairsFrom_9
def dkwX4_pairsFrom_7 : List UInt8 := [167, 0, 55, 42, 180, 0, 25, 21, 7, 21, 8, 79, 42, 27, 4, 96, 28, 4, 27, 120, 128, 4, 21, 6]
abbrev dktX4_pairsFrom_7 : List UInt8 := dkwX4_pairsFrom_7 ++ dktX4_pairsFrom_8
def dkwX4_pairsFrom_6 : List UInt8 := [28, 21, 6, 122, 4, 126, 4, 159, 0, 72, 42, 180, 0, 9, 21, 7, 21, 8, 184, 0, 91, 154, 0, 6]
abbrev dktX4_pairsFrom_6 : List UInt8 := dkwX4_pairsFrom_6 ++ dktX4_pairsFrom_7
def dkwX4_pairsFrom_5 : List UInt8 := [154, 0, 7, 27, 167, 0, 5, 21, 6, 54, 7, 21, 5, 154, 0, 8, 21, 6, 167, 0, 4, 27, 54, 8]
abbrev dktX4_pairsFrom_5 : List UInt8 := dkwX4_pairsFrom_5 ++ dktX4_pairsFrom_6
def dkwX4_pairsFrom_4 : List UInt8 := [29, 158, 0, 136, 27, 4, 96, 54, 6, 21, 6, 42, 180, 0, 9, 3, 46, 162, 0, 114, 21, 5]
abbrev dktX4_pairsFrom_4 : List UInt8 := dkwX4_pairsFrom_4 ++ dktX4_pairsFrom_5
def dkwX4_pairsFrom_3 : List UInt8 := [160, 0, 15, 42, 27, 4, 96, 28, 29, 21, 4, 182, 0, 154, 177, 3, 54, 5, 21, 5, 5, 162, 0, 140]
abbrev dktX4_pairsFrom_3 : List UInt8 := dkwX4_pairsFrom_3 ++ dktX4_pairsFrom_4
def dkwX4_pairsFrom_2 : List UInt8 := [167, 255, 232, 42, 42, 180, 0, 151, 21, 4, 184, 0, 78, 181, 0, 151, 177, 28, 27, 122, 4, 126, 4]
abbrev dktX4_pairsFrom_2 : List UInt8 := dkwX4_pairsFrom_2 ++ dktX4_pairsFrom_3
def dkwX4_pairsFrom_1 : List UInt8 := [16, 8, 162, 0, 23, 42, 180, 0, 28, 21, 5, 42, 180, 0, 25, 21, 5, 46, 79, 132, 5, 1]
abbrev dktX4_pairsFrom_1 : List UInt8 := dkwX4_pairsFrom_1 ++ dktX4_pairsFrom_2
def dkwX4_pairsFrom_0 : List UInt8 := [27, 42, 180, 0, 9, 3, 46, 160, 0, 56, 21, 4, 42, 180, 0, 151, 164, 0, 33, 3, 54, 5, 21, 5]
abbrev dktX4_pairsFrom_0 : List UInt8 := dkwX4_pairsFrom_0 ++ dktX4_pairsFrom_1
theorem dksX4_pairsFrom_0 : cX4_pairsFrom.data.toList.drop 0 = dktX4_pairsFrom_0 := by decide +kernel
theorem dksX4_pairsFrom_1 : cX4_pairsFrom.data.toList.drop 24 = dktX4_pairsFrom_1 := dk_seg dksX4_pairsFrom_0 24 rfl rfl
theorem dksX4_pairsFrom_2 : cX4_pairsFrom.data.toList.drop 46 = dktX4_pairsFrom_2 := dk_seg dksX4_pairsFrom_1 22 rfl rfl
theorem dksX4_pairsFrom_3 : cX4_pairsFrom.data.toList.drop 69 = dktX4_pairsFrom_3 := dk_seg dksX4_pairsFrom_2 23 rfl rfl
theorem dksX4_pairsFrom_4 : cX4_pairsFrom.data.toList.drop 93 = dktX4_pairsFrom_4 := dk_seg dksX4_pairsFrom_3 24 rfl rfl
theorem dksX4_pairsFrom_5 : cX4_pairsFrom.data.toList.drop 115 = dktX4_pairsFrom_5 := dk_seg dksX4_pairsFrom_4 22 rfl rfl
theorem dksX4_pairsFrom_6 : cX4_pairsFrom.data.toList.drop 139 = dktX4_pairsFrom_6 := dk_seg dksX4_pairsFrom_5 24 rfl rfl
theorem dksX4_pairsFrom_7 : cX4_pairsFrom.data.toList.drop 163 = dktX4_pairsFrom_7 := dk_seg dksX4_pairsFrom_6 24 rfl rfl
theorem dksX4_pairsFrom_8 : cX4_pairsFrom.data.toList.drop 187 = dktX4_pairsFrom_8 := dk_seg dksX4_pairsFrom_7 24 rfl rfl
theorem dksX4_pairsFrom_9 : cX4_pairsFrom.data.toList.drop 210 = dktX4_pairsFrom_9 := dk_seg dksX4_pairsFrom_8 23 rfl rfl
theorem dksX4_pairsFrom_10 : cX4_pairsFrom.data.toList.drop 234 = dktX4_pairsFrom_10 := dk_seg dksX4_pairsFrom_9 24 rfl rfl
theorem dX4_pairsFrom_0 : decode cX4_pairsFrom 0 = .ok (.iload_n 1, 1) := dk_27 (dk_at dksX4_pairsFrom_0 0 rfl rfl)
theorem dX4_pairsFrom_1 : decode cX4_pairsFrom 1 = .ok (.aload_n 0, 1) := dk_42 (dk_at dksX4_pairsFrom_0 1 rfl rfl)
theorem dX4_pairsFrom_2 : decode cX4_pairsFrom 2 = .ok (.getfield 9, 3) := dk_180 0 9 (dk_at dksX4_pairsFrom_0 2 rfl rfl)
theorem dX4_pairsFrom_5 : decode cX4_pairsFrom 5 = .ok (.iconst 0, 1) := dk_3 (dk_at dksX4_pairsFrom_0 5 rfl rfl)
theorem dX4_pairsFrom_6 : decode cX4_pairsFrom 6 = .ok (.iaload, 1) := dk_46 (dk_at dksX4_pairsFrom_0 6 rfl rfl)
theorem dX4_pairsFrom_7 : decode cX4_pairsFrom 7 = .ok (.if_icmp .ne 56, 3) := dk_160 0 56 (dk_at dksX4_pairsFrom_0 7 rfl rfl)
theorem dX4_pairsFrom_10 : decode cX4_pairsFrom 10 = .ok (.iload 4, 2) := dk_21 4 (dk_at dksX4_pairsFrom_0 10 rfl rfl)
theorem dX4_pairsFrom_12 : decode cX4_pairsFrom 12 = .ok (.aload_n 0, 1) := dk_42 (dk_at dksX4_pairsFrom_0 12 rfl rfl)
theorem dX4_pairsFrom_13 : decode cX4_pairsFrom 13 = .ok (.getfield 151, 3) := dk_180 0 151 (dk_at dksX4_pairsFrom_0 13 rfl rfl)
theorem dX4_pairsFrom_16 : decode cX4_pairsFrom 16 = .ok (.if_icmp .le 33, 3) := dk_164 0 33 (dk_at dksX4_pairsFrom_0 16 rfl rfl)
theorem dX4_pairsFrom_19 : decode cX4_pairsFrom 19 = .ok (.iconst 0, 1) := dk_3 (dk_at dksX4_pairsFrom_0 19 rfl rfl)
theorem dX4_pairsFrom_20 : decode cX4_pairsFrom 20 = .ok (.istore 5, 2) := dk_54 5 (dk_at dksX4_pairsFrom_0 20 rfl rfl)
theorem dX4_pairsFrom_22 : decode cX4_pairsFrom 22 = .ok (.iload 5, 2) := dk_21 5 (dk_at dksX4_pairsFrom_0 22 rfl rfl)
theorem dX4_pairsFrom_24 : decode cX4_pairsFrom 24 = .ok (.bipush 8, 2) := dk_16 8 (dk_at dksX4_pairsFrom_1 0 rfl rfl)
theorem dX4_pairsFrom_26 : decode cX4_pairsFrom 26 = .ok (.if_icmp .ge 23, 3) := dk_162 0 23 (dk_at dksX4_pairsFrom_1 2 rfl rfl)
theorem dX4_pairsFrom_29 : decode cX4_pairsFrom 29 = .ok (.aload_n 0, 1) := dk_42 (dk_at dksX4_pairsFrom_1 5 rfl rfl)
theorem dX4_pairsFrom_30 : decode cX4_pairsFrom 30 = .ok (.getfield 28, 3) := dk_180 0 28 (dk_at dksX4_pairsFrom_1 6 rfl rfl)
theorem dX4_pairsFrom_33 : decode cX4_pairsFrom 33 = .ok (.iload 5, 2) := dk_21 5 (dk_at dksX4_pairsFrom_1 9 rfl rfl)
theorem dX4_pairsFrom_35 : decode cX4_pairsFrom 35 = .ok (.aload_n 0, 1) := dk_42 (dk_at dksX4_pairsFrom_1 11 rfl rfl)
theorem dX4_pairsFrom_36 : decode cX4_pairsFrom 36 = .ok (.getfield 25, 3) := dk_180 0 25 (dk_at dksX4_pairsFrom_1 12 rfl rfl)
theorem dX4_pairsFrom_39 : decode cX4_pairsFrom 39 = .ok (.iload 5, 2) := dk_21 5 (dk_at dksX4_pairsFrom_1 15 rfl rfl)
theorem dX4_pairsFrom_41 : decode cX4_pairsFrom 41 = .ok (.iaload, 1) := dk_46 (dk_at dksX4_pairsFrom_1 17 rfl rfl)
theorem dX4_pairsFrom_42 : decode cX4_pairsFrom 42 = .ok (.iastore, 1) := dk_79 (dk_at dksX4_pairsFrom_1 18 rfl rfl)
theorem dX4_pairsFrom_43 : decode cX4_pairsFrom 43 = .ok (.iinc 5 1, 3) := dk_132 5 1 (dk_at dksX4_pairsFrom_1 19 rfl rfl)
theorem dX4_pairsFrom_46 : decode cX4_pairsFrom 46 = .ok (.goto (-24), 3) := dk_167 255 232 (dk_at dksX4_pairsFrom_2 0 rfl rfl)
theorem dX4_pairsFrom_49 : decode cX4_pairsFrom 49 = .ok (.aload_n 0, 1) := dk_42 (dk_at dksX4_pairsFrom_2 3 rfl rfl)
theorem dX4_pairsFrom_50 : decode cX4_pairsFrom 50 = .ok (.aload_n 0, 1) := dk_42 (dk_at dksX4_pairsFrom_2 4 rfl rfl)
theorem dX4_pairsFrom_51 : decode cX4_pairsFrom 51 = .ok (.getfield 151, 3) := dk_180 0 151 (dk_at dksX4_pairsFrom_2 5 rfl rfl)
theorem dX4_pairsFrom_54 : decode cX4_pairsFrom 54 = .ok (.iload 4, 2) := dk_21 4 (dk_at dksX4_pairsFrom_2 8 rfl rfl)
theorem dX4_pairsFrom_56 : decode cX4_pairsFrom 56 = .ok (.invokestatic 78, 3) := dk_184 0 78 (dk_at dksX4_pairsFrom_2 10 rfl rfl)
theorem dX4_pairsFrom_59 : decode cX4_pairsFrom 59 = .ok (.putfield 151, 3) := dk_181 0 151 (dk_at dksX4_pairsFrom_2 13 rfl rfl)
theorem dX4_pairsFrom_62 : decode cX4_pairsFrom 62 = .ok (.return_, 1) := dk_177 (dk_at dksX4_pairsFrom_2 16 rfl rfl)
theorem dX4_pairsFrom_63 : decode cX4_pairsFrom 63 = .ok (.iload_n 2, 1) := dk_28 (dk_at dksX4_pairsFrom_2 17 rfl rfl)
theorem dX4_pairsFrom_64 : decode cX4_pairsFrom 64 = .ok (.iload_n 1, 1) := dk_27 (dk_at dksX4_pairsFrom_2 18 rfl rfl)
theorem dX4_pairsFrom_65 : decode cX4_pairsFrom 65 = .ok (.ishr, 1) := dk_122 (dk_at dksX4_pairsFrom_2 19 rfl rfl)
theorem dX4_pairsFrom_66 : decode cX4_pairsFrom 66 = .ok (.iconst 1, 1) := dk_4 (dk_at dksX4_pairsFrom_2 20 rfl rfl)
theorem dX4_pairsFrom_67 : decode cX4_pairsFrom 67 = .ok (.iand, 1) := dk_126 (dk_at dksX4_pairsFrom_2 21 rfl rfl)
theorem dX4_pairsFrom_68 : decode cX4_pairsFrom 68 = .ok (.iconst 1, 1) := dk_4 (dk_at dksX4_pairsFrom_2 22 rfl rfl)
theorem dX4_pairsFrom_69 : decode cX4_pairsFrom 69 = .ok (.if_icmp .ne 15, 3) := dk_160 0 15 (dk_at dksX4_pairsFrom_3 0 rfl rfl)
theorem dX4_pairsFrom_72 : decode cX4_pairsFrom 72 = .ok (.aload_n 0, 1) := dk_42 (dk_at dksX4_pairsFrom_3 3 rfl rfl)
theorem dX4_pairsFrom_73 : decode cX4_pairsFrom 73 = .ok (.iload_n 1, 1) := dk_27 (dk_at dksX4_pairsFrom_3 4 rfl rfl)
theorem dX4_pairsFrom_74 : decode cX4_pairsFrom 74 = .ok (.iconst 1, 1) := dk_4 (dk_at dksX4_pairsFrom_3 5 rfl rfl)
theorem dX4_pairsFrom_75 : decode cX4_pairsFrom 75 = .ok (.iadd, 1) := dk_96 (dk_at dksX4_pairsFrom_3 6 rfl rfl)
theorem dX4_pairsFrom_76 : decode cX4_pairsFrom 76 = .ok (.iload_n 2, 1) := dk_28 (dk_at dksX4_pairsFrom_3 7 rfl rfl)
theorem dX4_pairsFrom_77 : decode cX4_pairsFrom 77 = .ok (.iload_n 3, 1) := dk_29 (dk_at dksX4_pairsFrom_3 8 rfl rfl)
theorem dX4_pairsFrom_78 : decode cX4_pairsFrom 78 = .ok (.iload 4, 2) := dk_21 4 (dk_at dksX4_pairsFrom_3 9 rfl rfl)
theorem dX4_pairsFrom_80 : decode cX4_pairsFrom 80 = .ok (.invokevirtual 154, 3) := dk_182 0 154 (dk_at dksX4_pairsFrom_3 11 rfl rfl)
theorem dX4_pairsFrom_83 : decode cX4_pairsFrom 83 = .ok (.return_, 1) := dk_177 (dk_at dksX4_pairsFrom_3 14 rfl rfl)
theorem dX4_pairsFrom_84 : decode cX4_pairsFrom 84 = .ok (.iconst 0, 1) := dk_3 (dk_at dksX4_pairsFrom_3 15 rfl rfl)
theorem dX4_pairsFrom_85 : decode cX4_pairsFrom 85 = .ok (.istore 5, 2) := dk_54 5 (dk_at dksX4_pairsFrom_3 16 rfl rfl)
theorem dX4_pairsFrom_87 : decode cX4_pairsFrom 87 = .ok (.iload 5, 2) := dk_21 5 (dk_at dksX4_pairsFrom_3 18 rfl rfl)
theorem dX4_pairsFrom_89 : decode cX4_pairsFrom 89 = .ok (.iconst 2, 1) := dk_5 (dk_at dksX4_pairsFrom_3 20 rfl rfl)
theorem dX4_pairsFrom_90 : decode cX4_pairsFrom 90 = .ok (.if_icmp .ge 140, 3) := dk_162 0 140 (dk_at dksX4_pairsFrom_3 21 rfl rfl)
theorem dX4_pairsFrom_93 : decode cX4_pairsFrom 93 = .ok (.iload_n 3, 1) := dk_29 (dk_at dksX4_pairsFrom_4 0 rfl rfl)
theorem dX4_pairsFrom_94 : decode cX4_pairsFrom 94 = .ok (.ifCond .le 136, 3) := dk_158 0 136 (dk_at dksX4_pairsFrom_4 1 rfl rfl)
theorem dX4_pairsFrom_97 : decode cX4_pairsFrom 97 = .ok (.iload_n 1, 1) := dk_27 (dk_at dksX4_pairsFrom_4 4 rfl rfl)
theorem dX4_pairsFrom_98 : decode cX4_pairsFrom 98 = .ok (.iconst 1, 1) := dk_4 (dk_at dksX4_pairsFrom_4 5 rfl rfl)
theorem dX4_pairsFrom_99 : decode cX4_pairsFrom 99 = .ok (.iadd, 1) := dk_96 (dk_at dksX4_pairsFrom_4 6 rfl rfl)
theorem dX4_pairsFrom_100 : decode cX4_pairsFrom 100 = .ok (.istore 6, 2) := dk_54 6 (dk_at dksX4_pairsFrom_4 7 rfl rfl)
theorem dX4_pairsFrom_102 : decode cX4_pairsFrom 102 = .ok (.iload 6, 2) := dk_21 6 (dk_at dksX4_pairsFrom_4 9 rfl rfl)
theorem dX4_pairsFrom_104 : decode cX4_pairsFrom 104 = .ok (.aload_n 0, 1) := dk_42 (dk_at dksX4_pairsFrom_4 11 rfl rfl)
theorem dX4_pairsFrom_105 : decode cX4_pairsFrom 105 = .ok (.getfield 9, 3) := dk_180 0 9 (dk_at dksX4_pairsFrom_4 12 rfl rfl)
theorem dX4_pairsFrom_108 : decode cX4_pairsFrom 108 = .ok (.iconst 0, 1) := dk_3 (dk_at dksX4_pairsFrom_4 15 rfl rfl)
theorem dX4_pairsFrom_109 : decode cX4_pairsFrom 109 = .ok (.iaload, 1) := dk_46 (dk_at dksX4_pairsFrom_4 16 rfl rfl)
theorem dX4_pairsFrom_110 : decode cX4_pairsFrom 110 = .ok (.if_icmp .ge 114, 3) := dk_162 0 114 (dk_at dksX4_pairsFrom_4 17 rfl rfl)
theorem dX4_pairsFrom_113 : decode cX4_pairsFrom 113 = .ok (.iload 5, 2) := dk_21 5 (dk_at dksX4_pairsFrom_4 20 rfl rfl)
theorem dX4_pairsFrom_115 : decode cX4_pairsFrom 115 = .ok (.ifCond .ne 7, 3) := dk_154 0 7 (dk_at dksX4_pairsFrom_5 0 rfl rfl)
theorem dX4_pairsFrom_118 : decode cX4_pairsFrom 118 = .ok (.iload_n 1, 1) := dk_27 (dk_at dksX4_pairsFrom_5 3 rfl rfl)
theorem dX4_pairsFrom_119 : decode cX4_pairsFrom 119 = .ok (.goto 5, 3) := dk_167 0 5 (dk_at dksX4_pairsFrom_5 4 rfl rfl)
theorem dX4_pairsFrom_122 : decode cX4_pairsFrom 122 = .ok (.iload 6, 2) := dk_21 6 (dk_at dksX4_pairsFrom_5 7 rfl rfl)
theorem dX4_pairsFrom_124 : decode cX4_pairsFrom 124 = .ok (.istore 7, 2) := dk_54 7 (dk_at dksX4_pairsFrom_5 9 rfl rfl)
theorem dX4_pairsFrom_126 : decode cX4_pairsFrom 126 = .ok (.iload 5, 2) := dk_21 5 (dk_at dksX4_pairsFrom_5 11 rfl rfl)
theorem dX4_pairsFrom_128 : decode cX4_pairsFrom 128 = .ok (.ifCond .ne 8, 3) := dk_154 0 8 (dk_at dksX4_pairsFrom_5 13 rfl rfl)
theorem dX4_pairsFrom_131 : decode cX4_pairsFrom 131 = .ok (.iload 6, 2) := dk_21 6 (dk_at dksX4_pairsFrom_5 16 rfl rfl)
theorem dX4_pairsFrom_133 : decode cX4_pairsFrom 133 = .ok (.goto 4, 3) := dk_167 0 4 (dk_at dksX4_pairsFrom_5 18 rfl rfl)
theorem dX4_pairsFrom_136 : decode cX4_pairsFrom 136 = .ok (.iload_n 1, 1) := dk_27 (dk_at dksX4_pairsFrom_5 21 rfl rfl)
theorem dX4_pairsFrom_137 : decode cX4_pairsFrom 137 = .ok (.istore 8, 2) := dk_54 8 (dk_at dksX4_pairsFrom_5 22 rfl rfl)
theorem dX4_pairsFrom_139 : decode cX4_pairsFrom 139 = .ok (.iload_n 2, 1) := dk_28 (dk_at dksX4_pairsFrom_6 0 rfl rfl)
theorem dX4_pairsFrom_140 : decode cX4_pairsFrom 140 = .ok (.iload 6, 2) := dk_21 6 (dk_at dksX4_pairsFrom_6 1 rfl rfl)
theorem dX4_pairsFrom_142 : decode cX4_pairsFrom 142 = .ok (.ishr, 1) := dk_122 (dk_at dksX4_pairsFrom_6 3 rfl rfl)
theorem dX4_pairsFrom_143 : decode cX4_pairsFrom 143 = .ok (.iconst 1, 1) := dk_4 (dk_at dksX4_pairsFrom_6 4 rfl rfl)
theorem dX4_pairsFrom_144 : decode cX4_pairsFrom 144 = .ok (.iand, 1) := dk_126 (dk_at dksX4_pairsFrom_6 5 rfl rfl)
theorem dX4_pairsFrom_145 : decode cX4_pairsFrom 145 = .ok (.iconst 1, 1) := dk_4 (dk_at dksX4_pairsFrom_6 6 rfl rfl)
theorem dX4_pairsFrom_146 : decode cX4_pairsFrom 146 = .ok (.if_icmp .eq 72, 3) := dk_159 0 72 (dk_at dksX4_pairsFrom_6 7 rfl rfl)
theorem dX4_pairsFrom_149 : decode cX4_pairsFrom 149 = .ok (.aload_n 0, 1) := dk_42 (dk_at dksX4_pairsFrom_6 10 rfl rfl)
theorem dX4_pairsFrom_150 : decode cX4_pairsFrom 150 = .ok (.getfield 9, 3) := dk_180 0 9 (dk_at dksX4_pairsFrom_6 11 rfl rfl)
theorem dX4_pairsFrom_153 : decode cX4_pairsFrom 153 = .ok (.iload 7, 2) := dk_21 7 (dk_at dksX4_pairsFrom_6 14 rfl rfl)
theorem dX4_pairsFrom_155 : decode cX4_pairsFrom 155 = .ok (.iload 8, 2) := dk_21 8 (dk_at dksX4_pairsFrom_6 16 rfl rfl)
theorem dX4_pairsFrom_157 : decode cX4_pairsFrom 157 = .ok (.invokestatic 91, 3) := dk_184 0 91 (dk_at dksX4_pairsFrom_6 18 rfl rfl)
theorem dX4_pairsFrom_160 : decode cX4_pairsFrom 160 = .ok (.ifCond .ne 6, 3) := dk_154 0 6 (dk_at dksX4_pairsFrom_6 21 rfl rfl)
theorem dX4_pairsFrom_163 : decode cX4_pairsFrom 163 = .ok (.goto 55, 3) := dk_167 0 55 (dk_at dksX4_pairsFrom_7 0 rfl rfl)
theorem dX4_pairsFrom_166 : decode cX4_pairsFrom 166 = .ok (.aload_n 0, 1) := dk_42 (dk_at dksX4_pairsFrom_7 3 rfl rfl)
theorem dX4_pairsFrom_167 : decode cX4_pairsFrom 167 = .ok (.getfield 25, 3) := dk_180 0 25 (dk_at dksX4_pairsFrom_7 4 rfl rfl)
theorem dX4_pairsFrom_170 : decode cX4_pairsFrom 170 = .ok (.iload 7, 2) := dk_21 7 (dk_at dksX4_pairsFrom_7 7 rfl rfl)
theorem dX4_pairsFrom_172 : decode cX4_pairsFrom 172 = .ok (.iload 8, 2) := dk_21 8 (dk_at dksX4_pairsFrom_7 9 rfl rfl)
theorem dX4_pairsFrom_174 : decode cX4_pairsFrom 174 = .ok (.iastore, 1) := dk_79 (dk_at dksX4_pairsFrom_7 11 rfl rfl)
theorem dX4_pairsFrom_175 : decode cX4_pairsFrom 175 = .ok (.aload_n 0, 1) := dk_42 (dk_at dksX4_pairsFrom_7 12 rfl rfl)
theorem dX4_pairsFrom_176 : decode cX4_pairsFrom 176 = .ok (.iload_n 1, 1) := dk_27 (dk_at dksX4_pairsFrom_7 13 rfl rfl)
theorem dX4_pairsFrom_177 : decode cX4_pairsFrom 177 = .ok (.iconst 1, 1) := dk_4 (dk_at dksX4_pairsFrom_7 14 rfl rfl)
theorem dX4_pairsFrom_178 : decode cX4_pairsFrom 178 = .ok (.iadd, 1) := dk_96 (dk_at dksX4_pairsFrom_7 15 rfl rfl)
theorem dX4_pairsFrom_179 : decode cX4_pairsFrom 179 = .ok (.iload_n 2, 1) := dk_28 (dk_at dksX4_pairsFrom_7 16 rfl rfl)
theorem dX4_pairsFrom_180 : decode cX4_pairsFrom 180 = .ok (.iconst 1, 1) := dk_4 (dk_at dksX4_pairsFrom_7 17 rfl rfl)
theorem dX4_pairsFrom_181 : decode cX4_pairsFrom 181 = .ok (.iload_n 1, 1) := dk_27 (dk_at dksX4_pairsFrom_7 18 rfl rfl)
theorem dX4_pairsFrom_182 : decode cX4_pairsFrom 182 = .ok (.ishl, 1) := dk_120 (dk_at dksX4_pairsFrom_7 19 rfl rfl)
theorem dX4_pairsFrom_183 : decode cX4_pairsFrom 183 = .ok (.ior, 1) := dk_128 (dk_at dksX4_pairsFrom_7 20 rfl rfl)
theorem dX4_pairsFrom_184 : decode cX4_pairsFrom 184 = .ok (.iconst 1, 1) := dk_4 (dk_at dksX4_pairsFrom_7 21 rfl rfl)
theorem dX4_pairsFrom_185 : decode cX4_pairsFrom 185 = .ok (.iload 6, 2) := dk_21 6 (dk_at dksX4_pairsFrom_7 22 rfl rfl)
theorem dX4_pairsFrom_187 : decode cX4_pairsFrom 187 = .ok (.ishl, 1) := dk_120 (dk_at dksX4_pairsFrom_8 0 rfl rfl)
theorem dX4_pairsFrom_188 : decode cX4_pairsFrom 188 = .ok (.ior, 1) := dk_128 (dk_at dksX4_pairsFrom_8 1 rfl rfl)
theorem dX4_pairsFrom_189 : decode cX4_pairsFrom 189 = .ok (.iload_n 3, 1) := dk_29 (dk_at dksX4_pairsFrom_8 2 rfl rfl)
theorem dX4_pairsFrom_190 : decode cX4_pairsFrom 190 = .ok (.iconst 1, 1) := dk_4 (dk_at dksX4_pairsFrom_8 3 rfl rfl)
theorem dX4_pairsFrom_191 : decode cX4_pairsFrom 191 = .ok (.isub, 1) := dk_100 (dk_at dksX4_pairsFrom_8 4 rfl rfl)
theorem dX4_pairsFrom_192 : decode cX4_pairsFrom 192 = .ok (.iload 4, 2) := dk_21 4 (dk_at dksX4_pairsFrom_8 5 rfl rfl)
theorem dX4_pairsFrom_194 : decode cX4_pairsFrom 194 = .ok (.aload_n 0, 1) := dk_42 (dk_at dksX4_pairsFrom_8 7 rfl rfl)
theorem dX4_pairsFrom_195 : decode cX4_pairsFrom 195 = .ok (.getfield 9, 3) := dk_180 0 9 (dk_at dksX4_pairsFrom_8 8 rfl rfl)
theorem dX4_pairsFrom_198 : decode cX4_pairsFrom 198 = .ok (.iload 7, 2) := dk_21 7 (dk_at dksX4_pairsFrom_8 11 rfl rfl)
theorem dX4_pairsFrom_200 : decode cX4_pairsFrom 200 = .ok (.iload 8, 2) := dk_21 8 (dk_at dksX4_pairsFrom_8 13 rfl rfl)
theorem dX4_pairsFrom_202 : decode cX4_pairsFrom 202 = .ok (.invokestatic 88, 3) := dk_184 0 88 (dk_at dksX4_pairsFrom_8 15 rfl rfl)
theorem dX4_pairsFrom_205 : decode cX4_pairsFrom 205 = .ok (.iadd, 1) := dk_96 (dk_at dksX4_pairsFrom_8 18 rfl rfl)
theorem dX4_pairsFrom_206 : decode cX4_pairsFrom 206 = .ok (.invokevirtual 154, 3) := dk_182 0 154 (dk_at dksX4_pairsFrom_8 19 rfl rfl)
theorem dX4_pairsFrom_209 : decode cX4_pairsFrom 209 = .ok (.aload_n 0, 1) := dk_42 (dk_at dksX4_pairsFrom_8 22 rfl rfl)
theorem dX4_pairsFrom_210 : decode cX4_pairsFrom 210 = .ok (.getfield 25, 3) := dk_180 0 25 (dk_at dksX4_pairsFrom_9 0 rfl rfl)
theorem dX4_pairsFrom_213 : decode cX4_pairsFrom 213 = .ok (.iload 7, 2) := dk_21 7 (dk_at dksX4_pairsFrom_9 3 rfl rfl)
theorem dX4_pairsFrom_215 : decode cX4_pairsFrom 215 = .ok (.bipush 9, 2) := dk_16 9 (dk_at dksX4_pairsFrom_9 5 rfl rfl)
theorem dX4_pairsFrom_217 : decode cX4_pairsFrom 217 = .ok (.iastore, 1) := dk_79 (dk_at dksX4_pairsFrom_9 7 rfl rfl)
theorem dX4_pairsFrom_218 : decode cX4_pairsFrom 218 = .ok (.iinc 6 1, 3) := dk_132 6 1 (dk_at dksX4_pairsFrom_9 8 rfl rfl)
theorem dX4_pairsFrom_221 : decode cX4_pairsFrom 221 = .ok (.goto (-119), 3) := dk_167 255 137 (dk_at dksX4_pairsFrom_9 11 rfl rfl)
theorem dX4_pairsFrom_224 : decode cX4_pairsFrom 224 = .ok (.iinc 5 1, 3) := dk_132 5 1 (dk_at dksX4_pairsFrom_9 14 rfl rfl)
theorem dX4_pairsFrom_227 : decode cX4_pairsFrom 227 = .ok (.goto (-140), 3) := dk_167 255 116 (dk_at dksX4_pairsFrom_9 17 rfl rfl)
theorem dX4_pairsFrom_230 : decode cX4_pairsFrom 230 = .ok (.aload_n 0, 1) := dk_42 (dk_at dksX4_pairsFrom_9 20 rfl rfl)
theorem dX4_pairsFrom_231 : decode cX4_pairsFrom 231 = .ok (.iload_n 1, 1) := dk_27 (dk_at dksX4_pairsFrom_9 21 rfl rfl)
theorem dX4_pairsFrom_232 : decode cX4_pairsFrom 232 = .ok (.iconst 1, 1) := dk_4 (dk_at dksX4_pairsFrom_9 22 rfl rfl)
theorem dX4_pairsFrom_233 : decode cX4_pairsFrom 233 = .ok (.iadd, 1) := dk_96 (dk_at dksX4_pairsFrom_9 23 rfl rfl)
theorem dX4_pairsFrom_234 : decode cX4_pairsFrom 234 = .ok (.iload_n 2, 1) := dk_28 (dk_at dksX4_pairsFrom_10 0 rfl rfl)
theorem dX4_pairsFrom_235 : decode cX4_pairsFrom 235 = .ok (.iload_n 3, 1) := dk_29 (dk_at dksX4_pairsFrom_10 1 rfl rfl)
theorem dX4_pairsFrom_236 : decode cX4_pairsFrom 236 = .ok (.iload 4, 2) := dk_21 4 (dk_at dksX4_pairsFrom_10 2 rfl rfl)
theorem dX4_pairsFrom_238 : decode cX4_pairsFrom 238 = .ok (.invokevirtual 154, 3) := dk_182 0 154 (dk_at dksX4_pairsFrom_10 4 rfl rfl)
theorem dX4_pairsFrom_241 : decode cX4_pairsFrom 241 = .ok (.return_, 1) := dk_177 (dk_at dksX4_pairsFrom_10 7 rfl rfl)
abbrev cX4_greedily : ByteArray := prog_21_method_40_code
def yX4_greedily : MethodName := ⟨RX4, "greedily", "(II)I"⟩
def dkwX4_greedily_4 : List UInt8 := [154, 0, 7, 29, 167, 0, 5, 21, 4, 172]
abbrev dktX4_greedily_4 : List UInt8 := dkwX4_greedily_4 ++ []
def dkwX4_greedily_3 : List UInt8 := [21, 5, 16, 10, 108, 21, 5, 16, 10, 112, 184, 0, 125, 96, 62, 132, 4, 1, 167, 255, 208, 28]
abbrev dktX4_greedily_3 : List UInt8 := dkwX4_greedily_3 ++ dktX4_greedily_4
def dkwX4_greedily_2 : List UInt8 := [180, 0, 13, 184, 0, 95, 155, 0, 38, 42, 180, 0, 13, 184, 0, 95, 54, 5, 29, 42, 180, 0, 13]
abbrev dktX4_greedily_2 : List UInt8 := dkwX4_greedily_2 ++ dktX4_greedily_3
def dkwX4_greedily_1 : List UInt8 := [180, 0, 9, 42, 180, 0, 13, 184, 0, 135, 3, 62, 3, 54, 4, 21, 4, 27, 162, 0, 48, 42]
abbrev dktX4_greedily_1 : List UInt8 := dkwX4_greedily_1 ++ dktX4_greedily_2
def dkwX4_greedily_0 : List UInt8 := [27, 3, 16, 30, 184, 0, 49, 153, 0, 12, 28, 3, 4, 184, 0, 49, 154, 0, 5, 2, 172, 42]
abbrev dktX4_greedily_0 : List UInt8 := dkwX4_greedily_0 ++ dktX4_greedily_1
theorem dksX4_greedily_0 : cX4_greedily.data.toList.drop 0 = dktX4_greedily_0 := by decide +kernel
theorem dksX4_greedily_1 : cX4_greedily.data.toList.drop 22 = dktX4_greedily_1 := dk_seg dksX4_greedily_0 22 rfl rfl
theorem dksX4_greedily_2 : cX4_greedily.data.toList.drop 44 = dktX4_greedily_2 := dk_seg dksX4_greedily_1 22 rfl rfl
theorem dksX4_greedily_3 : cX4_greedily.data.toList.drop 67 = dktX4_greedily_3 := dk_seg dksX4_greedily_2 23 rfl rfl
theorem dksX4_greedily_4 : cX4_greedily.data.toList.drop 89 = dktX4_greedily_4 := dk_seg dksX4_greedily_3 22 rfl rfl
theorem dX4_greedily_0 : decode cX4_greedily 0 = .ok (.iload_n 1, 1) := dk_27 (dk_at dksX4_greedily_0 0 rfl rfl)
theorem dX4_greedily_1 : decode cX4_greedily 1 = .ok (.iconst 0, 1) := dk_3 (dk_at dksX4_greedily_0 1 rfl rfl)
theorem dX4_greedily_2 : decode cX4_greedily 2 = .ok (.bipush 30, 2) := dk_16 30 (dk_at dksX4_greedily_0 2 rfl rfl)
theorem dX4_greedily_4 : decode cX4_greedily 4 = .ok (.invokestatic 49, 3) := dk_184 0 49 (dk_at dksX4_greedily_0 4 rfl rfl)
theorem dX4_greedily_7 : decode cX4_greedily 7 = .ok (.ifCond .eq 12, 3) := dk_153 0 12 (dk_at dksX4_greedily_0 7 rfl rfl)
theorem dX4_greedily_10 : decode cX4_greedily 10 = .ok (.iload_n 2, 1) := dk_28 (dk_at dksX4_greedily_0 10 rfl rfl)
theorem dX4_greedily_11 : decode cX4_greedily 11 = .ok (.iconst 0, 1) := dk_3 (dk_at dksX4_greedily_0 11 rfl rfl)
theorem dX4_greedily_12 : decode cX4_greedily 12 = .ok (.iconst 1, 1) := dk_4 (dk_at dksX4_greedily_0 12 rfl rfl)
theorem dX4_greedily_13 : decode cX4_greedily 13 = .ok (.invokestatic 49, 3) := dk_184 0 49 (dk_at dksX4_greedily_0 13 rfl rfl)
theorem dX4_greedily_16 : decode cX4_greedily 16 = .ok (.ifCond .ne 5, 3) := dk_154 0 5 (dk_at dksX4_greedily_0 16 rfl rfl)
theorem dX4_greedily_19 : decode cX4_greedily 19 = .ok (.iconst (-1), 1) := dk_2 (dk_at dksX4_greedily_0 19 rfl rfl)
theorem dX4_greedily_20 : decode cX4_greedily 20 = .ok (.ireturn, 1) := dk_172 (dk_at dksX4_greedily_0 20 rfl rfl)
theorem dX4_greedily_21 : decode cX4_greedily 21 = .ok (.aload_n 0, 1) := dk_42 (dk_at dksX4_greedily_0 21 rfl rfl)
theorem dX4_greedily_22 : decode cX4_greedily 22 = .ok (.getfield 9, 3) := dk_180 0 9 (dk_at dksX4_greedily_1 0 rfl rfl)
theorem dX4_greedily_25 : decode cX4_greedily 25 = .ok (.aload_n 0, 1) := dk_42 (dk_at dksX4_greedily_1 3 rfl rfl)
theorem dX4_greedily_26 : decode cX4_greedily 26 = .ok (.getfield 13, 3) := dk_180 0 13 (dk_at dksX4_greedily_1 4 rfl rfl)
theorem dX4_greedily_29 : decode cX4_greedily 29 = .ok (.invokestatic 135, 3) := dk_184 0 135 (dk_at dksX4_greedily_1 7 rfl rfl)
theorem dX4_greedily_32 : decode cX4_greedily 32 = .ok (.iconst 0, 1) := dk_3 (dk_at dksX4_greedily_1 10 rfl rfl)
theorem dX4_greedily_33 : decode cX4_greedily 33 = .ok (.istore_n 3, 1) := dk_62 (dk_at dksX4_greedily_1 11 rfl rfl)
theorem dX4_greedily_34 : decode cX4_greedily 34 = .ok (.iconst 0, 1) := dk_3 (dk_at dksX4_greedily_1 12 rfl rfl)
theorem dX4_greedily_35 : decode cX4_greedily 35 = .ok (.istore 4, 2) := dk_54 4 (dk_at dksX4_greedily_1 13 rfl rfl)
theorem dX4_greedily_37 : decode cX4_greedily 37 = .ok (.iload 4, 2) := dk_21 4 (dk_at dksX4_greedily_1 15 rfl rfl)
theorem dX4_greedily_39 : decode cX4_greedily 39 = .ok (.iload_n 1, 1) := dk_27 (dk_at dksX4_greedily_1 17 rfl rfl)
theorem dX4_greedily_40 : decode cX4_greedily 40 = .ok (.if_icmp .ge 48, 3) := dk_162 0 48 (dk_at dksX4_greedily_1 18 rfl rfl)
theorem dX4_greedily_43 : decode cX4_greedily 43 = .ok (.aload_n 0, 1) := dk_42 (dk_at dksX4_greedily_1 21 rfl rfl)
theorem dX4_greedily_44 : decode cX4_greedily 44 = .ok (.getfield 13, 3) := dk_180 0 13 (dk_at dksX4_greedily_2 0 rfl rfl)
theorem dX4_greedily_47 : decode cX4_greedily 47 = .ok (.invokestatic 95, 3) := dk_184 0 95 (dk_at dksX4_greedily_2 3 rfl rfl)
theorem dX4_greedily_50 : decode cX4_greedily 50 = .ok (.ifCond .lt 38, 3) := dk_155 0 38 (dk_at dksX4_greedily_2 6 rfl rfl)
theorem dX4_greedily_53 : decode cX4_greedily 53 = .ok (.aload_n 0, 1) := dk_42 (dk_at dksX4_greedily_2 9 rfl rfl)
theorem dX4_greedily_54 : decode cX4_greedily 54 = .ok (.getfield 13, 3) := dk_180 0 13 (dk_at dksX4_greedily_2 10 rfl rfl)
theorem dX4_greedily_57 : decode cX4_greedily 57 = .ok (.invokestatic 95, 3) := dk_184 0 95 (dk_at dksX4_greedily_2 13 rfl rfl)
theorem dX4_greedily_60 : decode cX4_greedily 60 = .ok (.istore 5, 2) := dk_54 5 (dk_at dksX4_greedily_2 16 rfl rfl)
theorem dX4_greedily_62 : decode cX4_greedily 62 = .ok (.iload_n 3, 1) := dk_29 (dk_at dksX4_greedily_2 18 rfl rfl)
theorem dX4_greedily_63 : decode cX4_greedily 63 = .ok (.aload_n 0, 1) := dk_42 (dk_at dksX4_greedily_2 19 rfl rfl)
theorem dX4_greedily_64 : decode cX4_greedily 64 = .ok (.getfield 13, 3) := dk_180 0 13 (dk_at dksX4_greedily_2 20 rfl rfl)
theorem dX4_greedily_67 : decode cX4_greedily 67 = .ok (.iload 5, 2) := dk_21 5 (dk_at dksX4_greedily_3 0 rfl rfl)
theorem dX4_greedily_69 : decode cX4_greedily 69 = .ok (.bipush 10, 2) := dk_16 10 (dk_at dksX4_greedily_3 2 rfl rfl)
theorem dX4_greedily_71 : decode cX4_greedily 71 = .ok (.idiv, 1) := dk_108 (dk_at dksX4_greedily_3 4 rfl rfl)
theorem dX4_greedily_72 : decode cX4_greedily 72 = .ok (.iload 5, 2) := dk_21 5 (dk_at dksX4_greedily_3 5 rfl rfl)
theorem dX4_greedily_74 : decode cX4_greedily 74 = .ok (.bipush 10, 2) := dk_16 10 (dk_at dksX4_greedily_3 7 rfl rfl)
theorem dX4_greedily_76 : decode cX4_greedily 76 = .ok (.irem, 1) := dk_112 (dk_at dksX4_greedily_3 9 rfl rfl)
theorem dX4_greedily_77 : decode cX4_greedily 77 = .ok (.invokestatic 125, 3) := dk_184 0 125 (dk_at dksX4_greedily_3 10 rfl rfl)
theorem dX4_greedily_80 : decode cX4_greedily 80 = .ok (.iadd, 1) := dk_96 (dk_at dksX4_greedily_3 13 rfl rfl)
theorem dX4_greedily_81 : decode cX4_greedily 81 = .ok (.istore_n 3, 1) := dk_62 (dk_at dksX4_greedily_3 14 rfl rfl)
theorem dX4_greedily_82 : decode cX4_greedily 82 = .ok (.iinc 4 1, 3) := dk_132 4 1 (dk_at dksX4_greedily_3 15 rfl rfl)
theorem dX4_greedily_85 : decode cX4_greedily 85 = .ok (.goto (-48), 3) := dk_167 255 208 (dk_at dksX4_greedily_3 18 rfl rfl)
theorem dX4_greedily_88 : decode cX4_greedily 88 = .ok (.iload_n 2, 1) := dk_28 (dk_at dksX4_greedily_3 21 rfl rfl)
theorem dX4_greedily_89 : decode cX4_greedily 89 = .ok (.ifCond .ne 7, 3) := dk_154 0 7 (dk_at dksX4_greedily_4 0 rfl rfl)
theorem dX4_greedily_92 : decode cX4_greedily 92 = .ok (.iload_n 3, 1) := dk_29 (dk_at dksX4_greedily_4 3 rfl rfl)
theorem dX4_greedily_93 : decode cX4_greedily 93 = .ok (.goto 5, 3) := dk_167 0 5 (dk_at dksX4_greedily_4 4 rfl rfl)
theorem dX4_greedily_96 : decode cX4_greedily 96 = .ok (.iload 4, 2) := dk_21 4 (dk_at dksX4_greedily_4 7 rfl rfl)
theorem dX4_greedily_98 : decode cX4_greedily 98 = .ok (.ireturn, 1) := dk_172 (dk_at dksX4_greedily_4 9 rfl rfl)
abbrev cX4_atAll : ByteArray := prog_21_method_41_code
def yX4_atAll : MethodName := ⟨RX4, "atAll", "(I)I"⟩
def dkwX4_atAll_8 : List UInt8 := [167, 0, 15, 21, 4, 158, 0, 9, 29, 4, 100, 167, 0, 4, 3, 184, 0, 60, 172]
abbrev dktX4_atAll_8 : List UInt8 := dkwX4_atAll_8 ++ []
def dkwX4_atAll_7 : List UInt8 := [167, 255, 118, 27, 4, 160, 0, 5, 28, 172, 42, 180, 0, 9, 4, 46, 21, 5, 158, 0, 7, 29]
abbrev dktX4_atAll_7 : List UInt8 := dkwX4_atAll_7 ++ dktX4_atAll_8
def dkwX4_atAll_6 : List UInt8 := [184, 0, 53, 46, 42, 180, 0, 9, 28, 5, 184, 0, 53, 46, 162, 0, 6, 21, 6, 61, 132, 6, 1]
abbrev dktX4_atAll_6 : List UInt8 := dkwX4_atAll_6 ++ dktX4_atAll_7
def dkwX4_atAll_5 : List UInt8 := [21, 7, 153, 0, 7, 3, 167, 0, 4, 4, 96, 54, 5, 28, 155, 0, 27, 42, 180, 0, 9, 21, 6, 5]
abbrev dktX4_atAll_5 : List UInt8 := dkwX4_atAll_5 ++ dktX4_atAll_6
def dkwX4_atAll_4 : List UInt8 := [154, 0, 6, 167, 0, 64, 21, 4, 21, 7, 153, 0, 7, 4, 167, 0, 4, 3, 96, 54, 4, 21, 5]
abbrev dktX4_atAll_4 : List UInt8 := dkwX4_atAll_4 ++ dktX4_atAll_5
def dkwX4_atAll_3 : List UInt8 := [29, 21, 7, 153, 0, 7, 4, 167, 0, 4, 3, 96, 62, 42, 180, 0, 9, 21, 6, 184, 0, 66]
abbrev dktX4_atAll_3 : List UInt8 := dkwX4_atAll_3 ++ dktX4_atAll_4
def dkwX4_atAll_2 : List UInt8 := [158, 0, 21, 42, 180, 0, 9, 21, 6, 7, 184, 0, 53, 46, 154, 0, 7, 4, 167, 0, 4, 3, 54, 7]
abbrev dktX4_atAll_2 : List UInt8 := dkwX4_atAll_2 ++ dktX4_atAll_3
def dkwX4_atAll_1 : List UInt8 := [54, 6, 21, 6, 42, 180, 0, 9, 3, 46, 162, 0, 133, 42, 180, 0, 9, 21, 6, 5, 184, 0, 53, 46]
abbrev dktX4_atAll_1 : List UInt8 := dkwX4_atAll_1 ++ dktX4_atAll_2
def dkwX4_atAll_0 : List UInt8 := [27, 3, 4, 184, 0, 49, 154, 0, 5, 2, 172, 16, 252, 61, 3, 62, 3, 54, 4, 3, 54, 5, 3]
abbrev dktX4_atAll_0 : List UInt8 := dkwX4_atAll_0 ++ dktX4_atAll_1
theorem dksX4_atAll_0 : cX4_atAll.data.toList.drop 0 = dktX4_atAll_0 := by decide +kernel
theorem dksX4_atAll_1 : cX4_atAll.data.toList.drop 23 = dktX4_atAll_1 := dk_seg dksX4_atAll_0 23 rfl rfl
theorem dksX4_atAll_2 : cX4_atAll.data.toList.drop 47 = dktX4_atAll_2 := dk_seg dksX4_atAll_1 24 rfl rfl
theorem dksX4_atAll_3 : cX4_atAll.data.toList.drop 71 = dktX4_atAll_3 := dk_seg dksX4_atAll_2 24 rfl rfl
theorem dksX4_atAll_4 : cX4_atAll.data.toList.drop 93 = dktX4_atAll_4 := dk_seg dksX4_atAll_3 22 rfl rfl
theorem dksX4_atAll_5 : cX4_atAll.data.toList.drop 116 = dktX4_atAll_5 := dk_seg dksX4_atAll_4 23 rfl rfl
theorem dksX4_atAll_6 : cX4_atAll.data.toList.drop 140 = dktX4_atAll_6 := dk_seg dksX4_atAll_5 24 rfl rfl
theorem dksX4_atAll_7 : cX4_atAll.data.toList.drop 163 = dktX4_atAll_7 := dk_seg dksX4_atAll_6 23 rfl rfl
theorem dksX4_atAll_8 : cX4_atAll.data.toList.drop 185 = dktX4_atAll_8 := dk_seg dksX4_atAll_7 22 rfl rfl
theorem dX4_atAll_0 : decode cX4_atAll 0 = .ok (.iload_n 1, 1) := dk_27 (dk_at dksX4_atAll_0 0 rfl rfl)
theorem dX4_atAll_1 : decode cX4_atAll 1 = .ok (.iconst 0, 1) := dk_3 (dk_at dksX4_atAll_0 1 rfl rfl)
theorem dX4_atAll_2 : decode cX4_atAll 2 = .ok (.iconst 1, 1) := dk_4 (dk_at dksX4_atAll_0 2 rfl rfl)
theorem dX4_atAll_3 : decode cX4_atAll 3 = .ok (.invokestatic 49, 3) := dk_184 0 49 (dk_at dksX4_atAll_0 3 rfl rfl)
theorem dX4_atAll_6 : decode cX4_atAll 6 = .ok (.ifCond .ne 5, 3) := dk_154 0 5 (dk_at dksX4_atAll_0 6 rfl rfl)
theorem dX4_atAll_9 : decode cX4_atAll 9 = .ok (.iconst (-1), 1) := dk_2 (dk_at dksX4_atAll_0 9 rfl rfl)
theorem dX4_atAll_10 : decode cX4_atAll 10 = .ok (.ireturn, 1) := dk_172 (dk_at dksX4_atAll_0 10 rfl rfl)
theorem dX4_atAll_11 : decode cX4_atAll 11 = .ok (.bipush (-4), 2) := dk_16 252 (dk_at dksX4_atAll_0 11 rfl rfl)
theorem dX4_atAll_13 : decode cX4_atAll 13 = .ok (.istore_n 2, 1) := dk_61 (dk_at dksX4_atAll_0 13 rfl rfl)
theorem dX4_atAll_14 : decode cX4_atAll 14 = .ok (.iconst 0, 1) := dk_3 (dk_at dksX4_atAll_0 14 rfl rfl)
theorem dX4_atAll_15 : decode cX4_atAll 15 = .ok (.istore_n 3, 1) := dk_62 (dk_at dksX4_atAll_0 15 rfl rfl)
theorem dX4_atAll_16 : decode cX4_atAll 16 = .ok (.iconst 0, 1) := dk_3 (dk_at dksX4_atAll_0 16 rfl rfl)
theorem dX4_atAll_17 : decode cX4_atAll 17 = .ok (.istore 4, 2) := dk_54 4 (dk_at dksX4_atAll_0 17 rfl rfl)
theorem dX4_atAll_19 : decode cX4_atAll 19 = .ok (.iconst 0, 1) := dk_3 (dk_at dksX4_atAll_0 19 rfl rfl)
theorem dX4_atAll_20 : decode cX4_atAll 20 = .ok (.istore 5, 2) := dk_54 5 (dk_at dksX4_atAll_0 20 rfl rfl)
theorem dX4_atAll_22 : decode cX4_atAll 22 = .ok (.iconst 0, 1) := dk_3 (dk_at dksX4_atAll_0 22 rfl rfl)
theorem dX4_atAll_23 : decode cX4_atAll 23 = .ok (.istore 6, 2) := dk_54 6 (dk_at dksX4_atAll_1 0 rfl rfl)
theorem dX4_atAll_25 : decode cX4_atAll 25 = .ok (.iload 6, 2) := dk_21 6 (dk_at dksX4_atAll_1 2 rfl rfl)
theorem dX4_atAll_27 : decode cX4_atAll 27 = .ok (.aload_n 0, 1) := dk_42 (dk_at dksX4_atAll_1 4 rfl rfl)
theorem dX4_atAll_28 : decode cX4_atAll 28 = .ok (.getfield 9, 3) := dk_180 0 9 (dk_at dksX4_atAll_1 5 rfl rfl)
theorem dX4_atAll_31 : decode cX4_atAll 31 = .ok (.iconst 0, 1) := dk_3 (dk_at dksX4_atAll_1 8 rfl rfl)
theorem dX4_atAll_32 : decode cX4_atAll 32 = .ok (.iaload, 1) := dk_46 (dk_at dksX4_atAll_1 9 rfl rfl)
theorem dX4_atAll_33 : decode cX4_atAll 33 = .ok (.if_icmp .ge 133, 3) := dk_162 0 133 (dk_at dksX4_atAll_1 10 rfl rfl)
theorem dX4_atAll_36 : decode cX4_atAll 36 = .ok (.aload_n 0, 1) := dk_42 (dk_at dksX4_atAll_1 13 rfl rfl)
theorem dX4_atAll_37 : decode cX4_atAll 37 = .ok (.getfield 9, 3) := dk_180 0 9 (dk_at dksX4_atAll_1 14 rfl rfl)
theorem dX4_atAll_40 : decode cX4_atAll 40 = .ok (.iload 6, 2) := dk_21 6 (dk_at dksX4_atAll_1 17 rfl rfl)
theorem dX4_atAll_42 : decode cX4_atAll 42 = .ok (.iconst 2, 1) := dk_5 (dk_at dksX4_atAll_1 19 rfl rfl)
theorem dX4_atAll_43 : decode cX4_atAll 43 = .ok (.invokestatic 53, 3) := dk_184 0 53 (dk_at dksX4_atAll_1 20 rfl rfl)
theorem dX4_atAll_46 : decode cX4_atAll 46 = .ok (.iaload, 1) := dk_46 (dk_at dksX4_atAll_1 23 rfl rfl)
theorem dX4_atAll_47 : decode cX4_atAll 47 = .ok (.ifCond .le 21, 3) := dk_158 0 21 (dk_at dksX4_atAll_2 0 rfl rfl)
theorem dX4_atAll_50 : decode cX4_atAll 50 = .ok (.aload_n 0, 1) := dk_42 (dk_at dksX4_atAll_2 3 rfl rfl)
theorem dX4_atAll_51 : decode cX4_atAll 51 = .ok (.getfield 9, 3) := dk_180 0 9 (dk_at dksX4_atAll_2 4 rfl rfl)
theorem dX4_atAll_54 : decode cX4_atAll 54 = .ok (.iload 6, 2) := dk_21 6 (dk_at dksX4_atAll_2 7 rfl rfl)
theorem dX4_atAll_56 : decode cX4_atAll 56 = .ok (.iconst 4, 1) := dk_7 (dk_at dksX4_atAll_2 9 rfl rfl)
theorem dX4_atAll_57 : decode cX4_atAll 57 = .ok (.invokestatic 53, 3) := dk_184 0 53 (dk_at dksX4_atAll_2 10 rfl rfl)
theorem dX4_atAll_60 : decode cX4_atAll 60 = .ok (.iaload, 1) := dk_46 (dk_at dksX4_atAll_2 13 rfl rfl)
theorem dX4_atAll_61 : decode cX4_atAll 61 = .ok (.ifCond .ne 7, 3) := dk_154 0 7 (dk_at dksX4_atAll_2 14 rfl rfl)
theorem dX4_atAll_64 : decode cX4_atAll 64 = .ok (.iconst 1, 1) := dk_4 (dk_at dksX4_atAll_2 17 rfl rfl)
theorem dX4_atAll_65 : decode cX4_atAll 65 = .ok (.goto 4, 3) := dk_167 0 4 (dk_at dksX4_atAll_2 18 rfl rfl)
theorem dX4_atAll_68 : decode cX4_atAll 68 = .ok (.iconst 0, 1) := dk_3 (dk_at dksX4_atAll_2 21 rfl rfl)
theorem dX4_atAll_69 : decode cX4_atAll 69 = .ok (.istore 7, 2) := dk_54 7 (dk_at dksX4_atAll_2 22 rfl rfl)
theorem dX4_atAll_71 : decode cX4_atAll 71 = .ok (.iload_n 3, 1) := dk_29 (dk_at dksX4_atAll_3 0 rfl rfl)
theorem dX4_atAll_72 : decode cX4_atAll 72 = .ok (.iload 7, 2) := dk_21 7 (dk_at dksX4_atAll_3 1 rfl rfl)
theorem dX4_atAll_74 : decode cX4_atAll 74 = .ok (.ifCond .eq 7, 3) := dk_153 0 7 (dk_at dksX4_atAll_3 3 rfl rfl)
theorem dX4_atAll_77 : decode cX4_atAll 77 = .ok (.iconst 1, 1) := dk_4 (dk_at dksX4_atAll_3 6 rfl rfl)
theorem dX4_atAll_78 : decode cX4_atAll 78 = .ok (.goto 4, 3) := dk_167 0 4 (dk_at dksX4_atAll_3 7 rfl rfl)
theorem dX4_atAll_81 : decode cX4_atAll 81 = .ok (.iconst 0, 1) := dk_3 (dk_at dksX4_atAll_3 10 rfl rfl)
theorem dX4_atAll_82 : decode cX4_atAll 82 = .ok (.iadd, 1) := dk_96 (dk_at dksX4_atAll_3 11 rfl rfl)
theorem dX4_atAll_83 : decode cX4_atAll 83 = .ok (.istore_n 3, 1) := dk_62 (dk_at dksX4_atAll_3 12 rfl rfl)
theorem dX4_atAll_84 : decode cX4_atAll 84 = .ok (.aload_n 0, 1) := dk_42 (dk_at dksX4_atAll_3 13 rfl rfl)
theorem dX4_atAll_85 : decode cX4_atAll 85 = .ok (.getfield 9, 3) := dk_180 0 9 (dk_at dksX4_atAll_3 14 rfl rfl)
theorem dX4_atAll_88 : decode cX4_atAll 88 = .ok (.iload 6, 2) := dk_21 6 (dk_at dksX4_atAll_3 17 rfl rfl)
theorem dX4_atAll_90 : decode cX4_atAll 90 = .ok (.invokestatic 66, 3) := dk_184 0 66 (dk_at dksX4_atAll_3 19 rfl rfl)
theorem dX4_atAll_93 : decode cX4_atAll 93 = .ok (.ifCond .ne 6, 3) := dk_154 0 6 (dk_at dksX4_atAll_4 0 rfl rfl)
theorem dX4_atAll_96 : decode cX4_atAll 96 = .ok (.goto 64, 3) := dk_167 0 64 (dk_at dksX4_atAll_4 3 rfl rfl)
theorem dX4_atAll_99 : decode cX4_atAll 99 = .ok (.iload 4, 2) := dk_21 4 (dk_at dksX4_atAll_4 6 rfl rfl)
theorem dX4_atAll_101 : decode cX4_atAll 101 = .ok (.iload 7, 2) := dk_21 7 (dk_at dksX4_atAll_4 8 rfl rfl)
theorem dX4_atAll_103 : decode cX4_atAll 103 = .ok (.ifCond .eq 7, 3) := dk_153 0 7 (dk_at dksX4_atAll_4 10 rfl rfl)
theorem dX4_atAll_106 : decode cX4_atAll 106 = .ok (.iconst 1, 1) := dk_4 (dk_at dksX4_atAll_4 13 rfl rfl)
theorem dX4_atAll_107 : decode cX4_atAll 107 = .ok (.goto 4, 3) := dk_167 0 4 (dk_at dksX4_atAll_4 14 rfl rfl)
theorem dX4_atAll_110 : decode cX4_atAll 110 = .ok (.iconst 0, 1) := dk_3 (dk_at dksX4_atAll_4 17 rfl rfl)
theorem dX4_atAll_111 : decode cX4_atAll 111 = .ok (.iadd, 1) := dk_96 (dk_at dksX4_atAll_4 18 rfl rfl)
theorem dX4_atAll_112 : decode cX4_atAll 112 = .ok (.istore 4, 2) := dk_54 4 (dk_at dksX4_atAll_4 19 rfl rfl)
theorem dX4_atAll_114 : decode cX4_atAll 114 = .ok (.iload 5, 2) := dk_21 5 (dk_at dksX4_atAll_4 21 rfl rfl)
theorem dX4_atAll_116 : decode cX4_atAll 116 = .ok (.iload 7, 2) := dk_21 7 (dk_at dksX4_atAll_5 0 rfl rfl)
theorem dX4_atAll_118 : decode cX4_atAll 118 = .ok (.ifCond .eq 7, 3) := dk_153 0 7 (dk_at dksX4_atAll_5 2 rfl rfl)
theorem dX4_atAll_121 : decode cX4_atAll 121 = .ok (.iconst 0, 1) := dk_3 (dk_at dksX4_atAll_5 5 rfl rfl)
theorem dX4_atAll_122 : decode cX4_atAll 122 = .ok (.goto 4, 3) := dk_167 0 4 (dk_at dksX4_atAll_5 6 rfl rfl)
theorem dX4_atAll_125 : decode cX4_atAll 125 = .ok (.iconst 1, 1) := dk_4 (dk_at dksX4_atAll_5 9 rfl rfl)
theorem dX4_atAll_126 : decode cX4_atAll 126 = .ok (.iadd, 1) := dk_96 (dk_at dksX4_atAll_5 10 rfl rfl)
theorem dX4_atAll_127 : decode cX4_atAll 127 = .ok (.istore 5, 2) := dk_54 5 (dk_at dksX4_atAll_5 11 rfl rfl)
theorem dX4_atAll_129 : decode cX4_atAll 129 = .ok (.iload_n 2, 1) := dk_28 (dk_at dksX4_atAll_5 13 rfl rfl)
theorem dX4_atAll_130 : decode cX4_atAll 130 = .ok (.ifCond .lt 27, 3) := dk_155 0 27 (dk_at dksX4_atAll_5 14 rfl rfl)
theorem dX4_atAll_133 : decode cX4_atAll 133 = .ok (.aload_n 0, 1) := dk_42 (dk_at dksX4_atAll_5 17 rfl rfl)
theorem dX4_atAll_134 : decode cX4_atAll 134 = .ok (.getfield 9, 3) := dk_180 0 9 (dk_at dksX4_atAll_5 18 rfl rfl)
theorem dX4_atAll_137 : decode cX4_atAll 137 = .ok (.iload 6, 2) := dk_21 6 (dk_at dksX4_atAll_5 21 rfl rfl)
theorem dX4_atAll_139 : decode cX4_atAll 139 = .ok (.iconst 2, 1) := dk_5 (dk_at dksX4_atAll_5 23 rfl rfl)
theorem dX4_atAll_140 : decode cX4_atAll 140 = .ok (.invokestatic 53, 3) := dk_184 0 53 (dk_at dksX4_atAll_6 0 rfl rfl)
theorem dX4_atAll_143 : decode cX4_atAll 143 = .ok (.iaload, 1) := dk_46 (dk_at dksX4_atAll_6 3 rfl rfl)
theorem dX4_atAll_144 : decode cX4_atAll 144 = .ok (.aload_n 0, 1) := dk_42 (dk_at dksX4_atAll_6 4 rfl rfl)
theorem dX4_atAll_145 : decode cX4_atAll 145 = .ok (.getfield 9, 3) := dk_180 0 9 (dk_at dksX4_atAll_6 5 rfl rfl)
theorem dX4_atAll_148 : decode cX4_atAll 148 = .ok (.iload_n 2, 1) := dk_28 (dk_at dksX4_atAll_6 8 rfl rfl)
theorem dX4_atAll_149 : decode cX4_atAll 149 = .ok (.iconst 2, 1) := dk_5 (dk_at dksX4_atAll_6 9 rfl rfl)
theorem dX4_atAll_150 : decode cX4_atAll 150 = .ok (.invokestatic 53, 3) := dk_184 0 53 (dk_at dksX4_atAll_6 10 rfl rfl)
theorem dX4_atAll_153 : decode cX4_atAll 153 = .ok (.iaload, 1) := dk_46 (dk_at dksX4_atAll_6 13 rfl rfl)
theorem dX4_atAll_154 : decode cX4_atAll 154 = .ok (.if_icmp .ge 6, 3) := dk_162 0 6 (dk_at dksX4_atAll_6 14 rfl rfl)
theorem dX4_atAll_157 : decode cX4_atAll 157 = .ok (.iload 6, 2) := dk_21 6 (dk_at dksX4_atAll_6 17 rfl rfl)
theorem dX4_atAll_159 : decode cX4_atAll 159 = .ok (.istore_n 2, 1) := dk_61 (dk_at dksX4_atAll_6 19 rfl rfl)
theorem dX4_atAll_160 : decode cX4_atAll 160 = .ok (.iinc 6 1, 3) := dk_132 6 1 (dk_at dksX4_atAll_6 20 rfl rfl)
theorem dX4_atAll_163 : decode cX4_atAll 163 = .ok (.goto (-138), 3) := dk_167 255 118 (dk_at dksX4_atAll_7 0 rfl rfl)
theorem dX4_atAll_166 : decode cX4_atAll 166 = .ok (.iload_n 1, 1) := dk_27 (dk_at dksX4_atAll_7 3 rfl rfl)
theorem dX4_atAll_167 : decode cX4_atAll 167 = .ok (.iconst 1, 1) := dk_4 (dk_at dksX4_atAll_7 4 rfl rfl)
theorem dX4_atAll_168 : decode cX4_atAll 168 = .ok (.if_icmp .ne 5, 3) := dk_160 0 5 (dk_at dksX4_atAll_7 5 rfl rfl)
theorem dX4_atAll_171 : decode cX4_atAll 171 = .ok (.iload_n 2, 1) := dk_28 (dk_at dksX4_atAll_7 8 rfl rfl)
theorem dX4_atAll_172 : decode cX4_atAll 172 = .ok (.ireturn, 1) := dk_172 (dk_at dksX4_atAll_7 9 rfl rfl)
theorem dX4_atAll_173 : decode cX4_atAll 173 = .ok (.aload_n 0, 1) := dk_42 (dk_at dksX4_atAll_7 10 rfl rfl)
theorem dX4_atAll_174 : decode cX4_atAll 174 = .ok (.getfield 9, 3) := dk_180 0 9 (dk_at dksX4_atAll_7 11 rfl rfl)
theorem dX4_atAll_177 : decode cX4_atAll 177 = .ok (.iconst 1, 1) := dk_4 (dk_at dksX4_atAll_7 14 rfl rfl)
theorem dX4_atAll_178 : decode cX4_atAll 178 = .ok (.iaload, 1) := dk_46 (dk_at dksX4_atAll_7 15 rfl rfl)
theorem dX4_atAll_179 : decode cX4_atAll 179 = .ok (.iload 5, 2) := dk_21 5 (dk_at dksX4_atAll_7 16 rfl rfl)
theorem dX4_atAll_181 : decode cX4_atAll 181 = .ok (.ifCond .le 7, 3) := dk_158 0 7 (dk_at dksX4_atAll_7 18 rfl rfl)
theorem dX4_atAll_184 : decode cX4_atAll 184 = .ok (.iload_n 3, 1) := dk_29 (dk_at dksX4_atAll_7 21 rfl rfl)
theorem dX4_atAll_185 : decode cX4_atAll 185 = .ok (.goto 15, 3) := dk_167 0 15 (dk_at dksX4_atAll_8 0 rfl rfl)
theorem dX4_atAll_188 : decode cX4_atAll 188 = .ok (.iload 4, 2) := dk_21 4 (dk_at dksX4_atAll_8 3 rfl rfl)
theorem dX4_atAll_190 : decode cX4_atAll 190 = .ok (.ifCond .le 9, 3) := dk_158 0 9 (dk_at dksX4_atAll_8 5 rfl rfl)
theorem dX4_atAll_193 : decode cX4_atAll 193 = .ok (.iload_n 3, 1) := dk_29 (dk_at dksX4_atAll_8 8 rfl rfl)
theorem dX4_atAll_194 : decode cX4_atAll 194 = .ok (.iconst 1, 1) := dk_4 (dk_at dksX4_atAll_8 9 rfl rfl)
theorem dX4_atAll_195 : decode cX4_atAll 195 = .ok (.isub, 1) := dk_100 (dk_at dksX4_atAll_8 10 rfl rfl)
theorem dX4_atAll_196 : decode cX4_atAll 196 = .ok (.goto 4, 3) := dk_167 0 4 (dk_at dksX4_atAll_8 11 rfl rfl)
theorem dX4_atAll_199 : decode cX4_atAll 199 = .ok (.iconst 0, 1) := dk_3 (dk_at dksX4_atAll_8 14 rfl rfl)
theorem dX4_atAll_200 : decode cX4_atAll 200 = .ok (.invokestatic 60, 3) := dk_184 0 60 (dk_at dksX4_atAll_8 15 rfl rfl)
theorem dX4_atAll_203 : decode cX4_atAll 203 = .ok (.ireturn, 1) := dk_172 (dk_at dksX4_atAll_8 18 rfl rfl)
abbrev cX4_stuck : ByteArray := prog_21_method_42_code
def yX4_stuck : MethodName := ⟨RX4, "stuck", "()I"⟩
def dkwX4_stuck_2 : List UInt8 := [180, 0, 9, 184, 0, 95, 156, 0, 7, 4, 167, 0, 4, 3, 172]
abbrev dktX4_stuck_2 : List UInt8 := dkwX4_stuck_2 ++ []
def dkwX4_stuck_1 : List UInt8 := [46, 96, 60, 132, 2, 1, 167, 255, 230, 42, 180, 0, 9, 4, 46, 158, 0, 21, 27, 158, 0, 17, 42]
abbrev dktX4_stuck_1 : List UInt8 := dkwX4_stuck_1 ++ dktX4_stuck_2
def dkwX4_stuck_0 : List UInt8 := [3, 60, 3, 61, 28, 42, 180, 0, 9, 3, 46, 162, 0, 22, 27, 42, 180, 0, 9, 28, 5, 184, 0, 53]
abbrev dktX4_stuck_0 : List UInt8 := dkwX4_stuck_0 ++ dktX4_stuck_1
theorem dksX4_stuck_0 : cX4_stuck.data.toList.drop 0 = dktX4_stuck_0 := by decide +kernel
theorem dksX4_stuck_1 : cX4_stuck.data.toList.drop 24 = dktX4_stuck_1 := dk_seg dksX4_stuck_0 24 rfl rfl
theorem dksX4_stuck_2 : cX4_stuck.data.toList.drop 47 = dktX4_stuck_2 := dk_seg dksX4_stuck_1 23 rfl rfl
theorem dX4_stuck_0 : decode cX4_stuck 0 = .ok (.iconst 0, 1) := dk_3 (dk_at dksX4_stuck_0 0 rfl rfl)
theorem dX4_stuck_1 : decode cX4_stuck 1 = .ok (.istore_n 1, 1) := dk_60 (dk_at dksX4_stuck_0 1 rfl rfl)
theorem dX4_stuck_2 : decode cX4_stuck 2 = .ok (.iconst 0, 1) := dk_3 (dk_at dksX4_stuck_0 2 rfl rfl)
theorem dX4_stuck_3 : decode cX4_stuck 3 = .ok (.istore_n 2, 1) := dk_61 (dk_at dksX4_stuck_0 3 rfl rfl)
theorem dX4_stuck_4 : decode cX4_stuck 4 = .ok (.iload_n 2, 1) := dk_28 (dk_at dksX4_stuck_0 4 rfl rfl)
theorem dX4_stuck_5 : decode cX4_stuck 5 = .ok (.aload_n 0, 1) := dk_42 (dk_at dksX4_stuck_0 5 rfl rfl)
theorem dX4_stuck_6 : decode cX4_stuck 6 = .ok (.getfield 9, 3) := dk_180 0 9 (dk_at dksX4_stuck_0 6 rfl rfl)
theorem dX4_stuck_9 : decode cX4_stuck 9 = .ok (.iconst 0, 1) := dk_3 (dk_at dksX4_stuck_0 9 rfl rfl)
theorem dX4_stuck_10 : decode cX4_stuck 10 = .ok (.iaload, 1) := dk_46 (dk_at dksX4_stuck_0 10 rfl rfl)
theorem dX4_stuck_11 : decode cX4_stuck 11 = .ok (.if_icmp .ge 22, 3) := dk_162 0 22 (dk_at dksX4_stuck_0 11 rfl rfl)
theorem dX4_stuck_14 : decode cX4_stuck 14 = .ok (.iload_n 1, 1) := dk_27 (dk_at dksX4_stuck_0 14 rfl rfl)
theorem dX4_stuck_15 : decode cX4_stuck 15 = .ok (.aload_n 0, 1) := dk_42 (dk_at dksX4_stuck_0 15 rfl rfl)
theorem dX4_stuck_16 : decode cX4_stuck 16 = .ok (.getfield 9, 3) := dk_180 0 9 (dk_at dksX4_stuck_0 16 rfl rfl)
theorem dX4_stuck_19 : decode cX4_stuck 19 = .ok (.iload_n 2, 1) := dk_28 (dk_at dksX4_stuck_0 19 rfl rfl)
theorem dX4_stuck_20 : decode cX4_stuck 20 = .ok (.iconst 2, 1) := dk_5 (dk_at dksX4_stuck_0 20 rfl rfl)
theorem dX4_stuck_21 : decode cX4_stuck 21 = .ok (.invokestatic 53, 3) := dk_184 0 53 (dk_at dksX4_stuck_0 21 rfl rfl)
theorem dX4_stuck_24 : decode cX4_stuck 24 = .ok (.iaload, 1) := dk_46 (dk_at dksX4_stuck_1 0 rfl rfl)
theorem dX4_stuck_25 : decode cX4_stuck 25 = .ok (.iadd, 1) := dk_96 (dk_at dksX4_stuck_1 1 rfl rfl)
theorem dX4_stuck_26 : decode cX4_stuck 26 = .ok (.istore_n 1, 1) := dk_60 (dk_at dksX4_stuck_1 2 rfl rfl)
theorem dX4_stuck_27 : decode cX4_stuck 27 = .ok (.iinc 2 1, 3) := dk_132 2 1 (dk_at dksX4_stuck_1 3 rfl rfl)
theorem dX4_stuck_30 : decode cX4_stuck 30 = .ok (.goto (-26), 3) := dk_167 255 230 (dk_at dksX4_stuck_1 6 rfl rfl)
theorem dX4_stuck_33 : decode cX4_stuck 33 = .ok (.aload_n 0, 1) := dk_42 (dk_at dksX4_stuck_1 9 rfl rfl)
theorem dX4_stuck_34 : decode cX4_stuck 34 = .ok (.getfield 9, 3) := dk_180 0 9 (dk_at dksX4_stuck_1 10 rfl rfl)
theorem dX4_stuck_37 : decode cX4_stuck 37 = .ok (.iconst 1, 1) := dk_4 (dk_at dksX4_stuck_1 13 rfl rfl)
theorem dX4_stuck_38 : decode cX4_stuck 38 = .ok (.iaload, 1) := dk_46 (dk_at dksX4_stuck_1 14 rfl rfl)
theorem dX4_stuck_39 : decode cX4_stuck 39 = .ok (.ifCond .le 21, 3) := dk_158 0 21 (dk_at dksX4_stuck_1 15 rfl rfl)
theorem dX4_stuck_42 : decode cX4_stuck 42 = .ok (.iload_n 1, 1) := dk_27 (dk_at dksX4_stuck_1 18 rfl rfl)
theorem dX4_stuck_43 : decode cX4_stuck 43 = .ok (.ifCond .le 17, 3) := dk_158 0 17 (dk_at dksX4_stuck_1 19 rfl rfl)
theorem dX4_stuck_46 : decode cX4_stuck 46 = .ok (.aload_n 0, 1) := dk_42 (dk_at dksX4_stuck_1 22 rfl rfl)
theorem dX4_stuck_47 : decode cX4_stuck 47 = .ok (.getfield 9, 3) := dk_180 0 9 (dk_at dksX4_stuck_2 0 rfl rfl)
theorem dX4_stuck_50 : decode cX4_stuck 50 = .ok (.invokestatic 95, 3) := dk_184 0 95 (dk_at dksX4_stuck_2 3 rfl rfl)
theorem dX4_stuck_53 : decode cX4_stuck 53 = .ok (.ifCond .ge 7, 3) := dk_156 0 7 (dk_at dksX4_stuck_2 6 rfl rfl)
theorem dX4_stuck_56 : decode cX4_stuck 56 = .ok (.iconst 1, 1) := dk_4 (dk_at dksX4_stuck_2 9 rfl rfl)
theorem dX4_stuck_57 : decode cX4_stuck 57 = .ok (.goto 4, 3) := dk_167 0 4 (dk_at dksX4_stuck_2 10 rfl rfl)
theorem dX4_stuck_60 : decode cX4_stuck 60 = .ok (.iconst 0, 1) := dk_3 (dk_at dksX4_stuck_2 13 rfl rfl)
theorem dX4_stuck_61 : decode cX4_stuck 61 = .ok (.ireturn, 1) := dk_172 (dk_at dksX4_stuck_2 14 rfl rfl)
abbrev cX4_bring : ByteArray := prog_21_method_43_code
def yX4_bring : MethodName := ⟨RX4, "bring", "(I)I"⟩
def dkwX4_bring_3 : List UInt8 := [167, 0, 9, 21, 4, 61, 21, 5, 62, 132, 4, 1, 167, 255, 198, 28, 172]
abbrev dktX4_bring_3 : List UInt8 := dkwX4_bring_3 ++ []
def dkwX4_bring_2 : List UInt8 := [21, 4, 27, 3, 16, 9, 184, 0, 117, 42, 180, 0, 13, 184, 0, 148, 54, 5, 21, 5, 29, 163, 0, 6]
abbrev dktX4_bring_2 : List UInt8 := dkwX4_bring_2 ++ dktX4_bring_3
def dkwX4_bring_1 : List UInt8 := [54, 4, 21, 4, 16, 8, 162, 0, 57, 42, 180, 0, 9, 42, 180, 0, 13, 184, 0, 135, 42, 180, 0, 13]
abbrev dktX4_bring_1 : List UInt8 := dkwX4_bring_1 ++ dktX4_bring_2
def dkwX4_bring_0 : List UInt8 := [27, 3, 16, 9, 184, 0, 49, 154, 0, 5, 2, 172, 16, 252, 61, 42, 180, 0, 9, 184, 0, 148, 62, 3]
abbrev dktX4_bring_0 : List UInt8 := dkwX4_bring_0 ++ dktX4_bring_1
theorem dksX4_bring_0 : cX4_bring.data.toList.drop 0 = dktX4_bring_0 := by decide +kernel
theorem dksX4_bring_1 : cX4_bring.data.toList.drop 24 = dktX4_bring_1 := dk_seg dksX4_bring_0 24 rfl rfl
theorem dksX4_bring_2 : cX4_bring.data.toList.drop 48 = dktX4_bring_2 := dk_seg dksX4_bring_1 24 rfl rfl
theorem dksX4_bring_3 : cX4_bring.data.toList.drop 72 = dktX4_bring_3 := dk_seg dksX4_bring_2 24 rfl rfl
theorem dX4_bring_0 : decode cX4_bring 0 = .ok (.iload_n 1, 1) := dk_27 (dk_at dksX4_bring_0 0 rfl rfl)
theorem dX4_bring_1 : decode cX4_bring 1 = .ok (.iconst 0, 1) := dk_3 (dk_at dksX4_bring_0 1 rfl rfl)
theorem dX4_bring_2 : decode cX4_bring 2 = .ok (.bipush 9, 2) := dk_16 9 (dk_at dksX4_bring_0 2 rfl rfl)
theorem dX4_bring_4 : decode cX4_bring 4 = .ok (.invokestatic 49, 3) := dk_184 0 49 (dk_at dksX4_bring_0 4 rfl rfl)
theorem dX4_bring_7 : decode cX4_bring 7 = .ok (.ifCond .ne 5, 3) := dk_154 0 5 (dk_at dksX4_bring_0 7 rfl rfl)
theorem dX4_bring_10 : decode cX4_bring 10 = .ok (.iconst (-1), 1) := dk_2 (dk_at dksX4_bring_0 10 rfl rfl)
theorem dX4_bring_11 : decode cX4_bring 11 = .ok (.ireturn, 1) := dk_172 (dk_at dksX4_bring_0 11 rfl rfl)
theorem dX4_bring_12 : decode cX4_bring 12 = .ok (.bipush (-4), 2) := dk_16 252 (dk_at dksX4_bring_0 12 rfl rfl)
theorem dX4_bring_14 : decode cX4_bring 14 = .ok (.istore_n 2, 1) := dk_61 (dk_at dksX4_bring_0 14 rfl rfl)
theorem dX4_bring_15 : decode cX4_bring 15 = .ok (.aload_n 0, 1) := dk_42 (dk_at dksX4_bring_0 15 rfl rfl)
theorem dX4_bring_16 : decode cX4_bring 16 = .ok (.getfield 9, 3) := dk_180 0 9 (dk_at dksX4_bring_0 16 rfl rfl)
theorem dX4_bring_19 : decode cX4_bring 19 = .ok (.invokestatic 148, 3) := dk_184 0 148 (dk_at dksX4_bring_0 19 rfl rfl)
theorem dX4_bring_22 : decode cX4_bring 22 = .ok (.istore_n 3, 1) := dk_62 (dk_at dksX4_bring_0 22 rfl rfl)
theorem dX4_bring_23 : decode cX4_bring 23 = .ok (.iconst 0, 1) := dk_3 (dk_at dksX4_bring_0 23 rfl rfl)
theorem dX4_bring_24 : decode cX4_bring 24 = .ok (.istore 4, 2) := dk_54 4 (dk_at dksX4_bring_1 0 rfl rfl)
theorem dX4_bring_26 : decode cX4_bring 26 = .ok (.iload 4, 2) := dk_21 4 (dk_at dksX4_bring_1 2 rfl rfl)
theorem dX4_bring_28 : decode cX4_bring 28 = .ok (.bipush 8, 2) := dk_16 8 (dk_at dksX4_bring_1 4 rfl rfl)
theorem dX4_bring_30 : decode cX4_bring 30 = .ok (.if_icmp .ge 57, 3) := dk_162 0 57 (dk_at dksX4_bring_1 6 rfl rfl)
theorem dX4_bring_33 : decode cX4_bring 33 = .ok (.aload_n 0, 1) := dk_42 (dk_at dksX4_bring_1 9 rfl rfl)
theorem dX4_bring_34 : decode cX4_bring 34 = .ok (.getfield 9, 3) := dk_180 0 9 (dk_at dksX4_bring_1 10 rfl rfl)
theorem dX4_bring_37 : decode cX4_bring 37 = .ok (.aload_n 0, 1) := dk_42 (dk_at dksX4_bring_1 13 rfl rfl)
theorem dX4_bring_38 : decode cX4_bring 38 = .ok (.getfield 13, 3) := dk_180 0 13 (dk_at dksX4_bring_1 14 rfl rfl)
theorem dX4_bring_41 : decode cX4_bring 41 = .ok (.invokestatic 135, 3) := dk_184 0 135 (dk_at dksX4_bring_1 17 rfl rfl)
theorem dX4_bring_44 : decode cX4_bring 44 = .ok (.aload_n 0, 1) := dk_42 (dk_at dksX4_bring_1 20 rfl rfl)
theorem dX4_bring_45 : decode cX4_bring 45 = .ok (.getfield 13, 3) := dk_180 0 13 (dk_at dksX4_bring_1 21 rfl rfl)
theorem dX4_bring_48 : decode cX4_bring 48 = .ok (.iload 4, 2) := dk_21 4 (dk_at dksX4_bring_2 0 rfl rfl)
theorem dX4_bring_50 : decode cX4_bring 50 = .ok (.iload_n 1, 1) := dk_27 (dk_at dksX4_bring_2 2 rfl rfl)
theorem dX4_bring_51 : decode cX4_bring 51 = .ok (.iconst 0, 1) := dk_3 (dk_at dksX4_bring_2 3 rfl rfl)
theorem dX4_bring_52 : decode cX4_bring 52 = .ok (.bipush 9, 2) := dk_16 9 (dk_at dksX4_bring_2 4 rfl rfl)
theorem dX4_bring_54 : decode cX4_bring 54 = .ok (.invokestatic 117, 3) := dk_184 0 117 (dk_at dksX4_bring_2 6 rfl rfl)
theorem dX4_bring_57 : decode cX4_bring 57 = .ok (.aload_n 0, 1) := dk_42 (dk_at dksX4_bring_2 9 rfl rfl)
theorem dX4_bring_58 : decode cX4_bring 58 = .ok (.getfield 13, 3) := dk_180 0 13 (dk_at dksX4_bring_2 10 rfl rfl)
theorem dX4_bring_61 : decode cX4_bring 61 = .ok (.invokestatic 148, 3) := dk_184 0 148 (dk_at dksX4_bring_2 13 rfl rfl)
theorem dX4_bring_64 : decode cX4_bring 64 = .ok (.istore 5, 2) := dk_54 5 (dk_at dksX4_bring_2 16 rfl rfl)
theorem dX4_bring_66 : decode cX4_bring 66 = .ok (.iload 5, 2) := dk_21 5 (dk_at dksX4_bring_2 18 rfl rfl)
theorem dX4_bring_68 : decode cX4_bring 68 = .ok (.iload_n 3, 1) := dk_29 (dk_at dksX4_bring_2 20 rfl rfl)
theorem dX4_bring_69 : decode cX4_bring 69 = .ok (.if_icmp .gt 6, 3) := dk_163 0 6 (dk_at dksX4_bring_2 21 rfl rfl)
theorem dX4_bring_72 : decode cX4_bring 72 = .ok (.goto 9, 3) := dk_167 0 9 (dk_at dksX4_bring_3 0 rfl rfl)
theorem dX4_bring_75 : decode cX4_bring 75 = .ok (.iload 4, 2) := dk_21 4 (dk_at dksX4_bring_3 3 rfl rfl)
theorem dX4_bring_77 : decode cX4_bring 77 = .ok (.istore_n 2, 1) := dk_61 (dk_at dksX4_bring_3 5 rfl rfl)
theorem dX4_bring_78 : decode cX4_bring 78 = .ok (.iload 5, 2) := dk_21 5 (dk_at dksX4_bring_3 6 rfl rfl)
theorem dX4_bring_80 : decode cX4_bring 80 = .ok (.istore_n 3, 1) := dk_62 (dk_at dksX4_bring_3 8 rfl rfl)
theorem dX4_bring_81 : decode cX4_bring 81 = .ok (.iinc 4 1, 3) := dk_132 4 1 (dk_at dksX4_bring_3 9 rfl rfl)
theorem dX4_bring_84 : decode cX4_bring 84 = .ok (.goto (-58), 3) := dk_167 255 198 (dk_at dksX4_bring_3 12 rfl rfl)
theorem dX4_bring_87 : decode cX4_bring 87 = .ok (.iload_n 2, 1) := dk_28 (dk_at dksX4_bring_3 15 rfl rfl)
theorem dX4_bring_88 : decode cX4_bring 88 = .ok (.ireturn, 1) := dk_172 (dk_at dksX4_bring_3 16 rfl rfl)
abbrev cX4_feeds : ByteArray := prog_21_method_44_code
def yX4_feeds : MethodName := ⟨RX4, "feeds", "(I)I"⟩
def dkwX4_feeds_2 : List UInt8 := [28, 108, 172]
abbrev dktX4_feeds_2 : List UInt8 := dkwX4_feeds_2 ++ []
def dkwX4_feeds_1 : List UInt8 := [27, 4, 184, 0, 53, 46, 184, 0, 57, 61, 42, 180, 0, 9, 27, 5, 184, 0, 53, 46, 28, 96, 4, 100]
abbrev dktX4_feeds_1 : List UInt8 := dkwX4_feeds_1 ++ dktX4_feeds_2
def dkwX4_feeds_0 : List UInt8 := [42, 27, 182, 0, 121, 154, 0, 5, 2, 172, 42, 180, 0, 9, 27, 3, 184, 0, 53, 46, 42, 180, 0, 9]
abbrev dktX4_feeds_0 : List UInt8 := dkwX4_feeds_0 ++ dktX4_feeds_1
theorem dksX4_feeds_0 : cX4_feeds.data.toList.drop 0 = dktX4_feeds_0 := by decide +kernel
theorem dksX4_feeds_1 : cX4_feeds.data.toList.drop 24 = dktX4_feeds_1 := dk_seg dksX4_feeds_0 24 rfl rfl
theorem dksX4_feeds_2 : cX4_feeds.data.toList.drop 48 = dktX4_feeds_2 := dk_seg dksX4_feeds_1 24 rfl rfl
theorem dX4_feeds_0 : decode cX4_feeds 0 = .ok (.aload_n 0, 1) := dk_42 (dk_at dksX4_feeds_0 0 rfl rfl)
theorem dX4_feeds_1 : decode cX4_feeds 1 = .ok (.iload_n 1, 1) := dk_27 (dk_at dksX4_feeds_0 1 rfl rfl)
theorem dX4_feeds_2 : decode cX4_feeds 2 = .ok (.invokevirtual 121, 3) := dk_182 0 121 (dk_at dksX4_feeds_0 2 rfl rfl)
theorem dX4_feeds_5 : decode cX4_feeds 5 = .ok (.ifCond .ne 5, 3) := dk_154 0 5 (dk_at dksX4_feeds_0 5 rfl rfl)
theorem dX4_feeds_8 : decode cX4_feeds 8 = .ok (.iconst (-1), 1) := dk_2 (dk_at dksX4_feeds_0 8 rfl rfl)
theorem dX4_feeds_9 : decode cX4_feeds 9 = .ok (.ireturn, 1) := dk_172 (dk_at dksX4_feeds_0 9 rfl rfl)
theorem dX4_feeds_10 : decode cX4_feeds 10 = .ok (.aload_n 0, 1) := dk_42 (dk_at dksX4_feeds_0 10 rfl rfl)
theorem dX4_feeds_11 : decode cX4_feeds 11 = .ok (.getfield 9, 3) := dk_180 0 9 (dk_at dksX4_feeds_0 11 rfl rfl)
theorem dX4_feeds_14 : decode cX4_feeds 14 = .ok (.iload_n 1, 1) := dk_27 (dk_at dksX4_feeds_0 14 rfl rfl)
theorem dX4_feeds_15 : decode cX4_feeds 15 = .ok (.iconst 0, 1) := dk_3 (dk_at dksX4_feeds_0 15 rfl rfl)
theorem dX4_feeds_16 : decode cX4_feeds 16 = .ok (.invokestatic 53, 3) := dk_184 0 53 (dk_at dksX4_feeds_0 16 rfl rfl)
theorem dX4_feeds_19 : decode cX4_feeds 19 = .ok (.iaload, 1) := dk_46 (dk_at dksX4_feeds_0 19 rfl rfl)
theorem dX4_feeds_20 : decode cX4_feeds 20 = .ok (.aload_n 0, 1) := dk_42 (dk_at dksX4_feeds_0 20 rfl rfl)
theorem dX4_feeds_21 : decode cX4_feeds 21 = .ok (.getfield 9, 3) := dk_180 0 9 (dk_at dksX4_feeds_0 21 rfl rfl)
theorem dX4_feeds_24 : decode cX4_feeds 24 = .ok (.iload_n 1, 1) := dk_27 (dk_at dksX4_feeds_1 0 rfl rfl)
theorem dX4_feeds_25 : decode cX4_feeds 25 = .ok (.iconst 1, 1) := dk_4 (dk_at dksX4_feeds_1 1 rfl rfl)
theorem dX4_feeds_26 : decode cX4_feeds 26 = .ok (.invokestatic 53, 3) := dk_184 0 53 (dk_at dksX4_feeds_1 2 rfl rfl)
theorem dX4_feeds_29 : decode cX4_feeds 29 = .ok (.iaload, 1) := dk_46 (dk_at dksX4_feeds_1 5 rfl rfl)
theorem dX4_feeds_30 : decode cX4_feeds 30 = .ok (.invokestatic 57, 3) := dk_184 0 57 (dk_at dksX4_feeds_1 6 rfl rfl)
theorem dX4_feeds_33 : decode cX4_feeds 33 = .ok (.istore_n 2, 1) := dk_61 (dk_at dksX4_feeds_1 9 rfl rfl)
theorem dX4_feeds_34 : decode cX4_feeds 34 = .ok (.aload_n 0, 1) := dk_42 (dk_at dksX4_feeds_1 10 rfl rfl)
theorem dX4_feeds_35 : decode cX4_feeds 35 = .ok (.getfield 9, 3) := dk_180 0 9 (dk_at dksX4_feeds_1 11 rfl rfl)
theorem dX4_feeds_38 : decode cX4_feeds 38 = .ok (.iload_n 1, 1) := dk_27 (dk_at dksX4_feeds_1 14 rfl rfl)
theorem dX4_feeds_39 : decode cX4_feeds 39 = .ok (.iconst 2, 1) := dk_5 (dk_at dksX4_feeds_1 15 rfl rfl)
theorem dX4_feeds_40 : decode cX4_feeds 40 = .ok (.invokestatic 53, 3) := dk_184 0 53 (dk_at dksX4_feeds_1 16 rfl rfl)
theorem dX4_feeds_43 : decode cX4_feeds 43 = .ok (.iaload, 1) := dk_46 (dk_at dksX4_feeds_1 19 rfl rfl)
theorem dX4_feeds_44 : decode cX4_feeds 44 = .ok (.iload_n 2, 1) := dk_28 (dk_at dksX4_feeds_1 20 rfl rfl)
theorem dX4_feeds_45 : decode cX4_feeds 45 = .ok (.iadd, 1) := dk_96 (dk_at dksX4_feeds_1 21 rfl rfl)
theorem dX4_feeds_46 : decode cX4_feeds 46 = .ok (.iconst 1, 1) := dk_4 (dk_at dksX4_feeds_1 22 rfl rfl)
theorem dX4_feeds_47 : decode cX4_feeds 47 = .ok (.isub, 1) := dk_100 (dk_at dksX4_feeds_1 23 rfl rfl)
theorem dX4_feeds_48 : decode cX4_feeds 48 = .ok (.iload_n 2, 1) := dk_28 (dk_at dksX4_feeds_2 0 rfl rfl)
theorem dX4_feeds_49 : decode cX4_feeds 49 = .ok (.idiv, 1) := dk_108 (dk_at dksX4_feeds_2 1 rfl rfl)
theorem dX4_feeds_50 : decode cX4_feeds 50 = .ok (.ireturn, 1) := dk_172 (dk_at dksX4_feeds_2 2 rfl rfl)
abbrev cX4_prices : ByteArray := prog_21_method_47_code
def yX4_prices : MethodName := ⟨RX4, "prices", "(II)I"⟩
def dkwX4_prices_1 : List UInt8 := [154, 0, 11, 42, 27, 182, 0, 158, 167, 0, 8, 42, 27, 182, 0, 161, 172]
abbrev dktX4_prices_1 : List UInt8 := dkwX4_prices_1 ++ []
def dkwX4_prices_0 : List UInt8 := [27, 3, 16, 31, 184, 0, 49, 153, 0, 12, 28, 3, 4, 184, 0, 49, 154, 0, 5, 2, 172, 28]
abbrev dktX4_prices_0 : List UInt8 := dkwX4_prices_0 ++ dktX4_prices_1
theorem dksX4_prices_0 : cX4_prices.data.toList.drop 0 = dktX4_prices_0 := by decide +kernel
theorem dksX4_prices_1 : cX4_prices.data.toList.drop 22 = dktX4_prices_1 := dk_seg dksX4_prices_0 22 rfl rfl
theorem dX4_prices_0 : decode cX4_prices 0 = .ok (.iload_n 1, 1) := dk_27 (dk_at dksX4_prices_0 0 rfl rfl)
theorem dX4_prices_1 : decode cX4_prices 1 = .ok (.iconst 0, 1) := dk_3 (dk_at dksX4_prices_0 1 rfl rfl)
theorem dX4_prices_2 : decode cX4_prices 2 = .ok (.bipush 31, 2) := dk_16 31 (dk_at dksX4_prices_0 2 rfl rfl)
theorem dX4_prices_4 : decode cX4_prices 4 = .ok (.invokestatic 49, 3) := dk_184 0 49 (dk_at dksX4_prices_0 4 rfl rfl)
theorem dX4_prices_7 : decode cX4_prices 7 = .ok (.ifCond .eq 12, 3) := dk_153 0 12 (dk_at dksX4_prices_0 7 rfl rfl)
theorem dX4_prices_10 : decode cX4_prices 10 = .ok (.iload_n 2, 1) := dk_28 (dk_at dksX4_prices_0 10 rfl rfl)
theorem dX4_prices_11 : decode cX4_prices 11 = .ok (.iconst 0, 1) := dk_3 (dk_at dksX4_prices_0 11 rfl rfl)
theorem dX4_prices_12 : decode cX4_prices 12 = .ok (.iconst 1, 1) := dk_4 (dk_at dksX4_prices_0 12 rfl rfl)
theorem dX4_prices_13 : decode cX4_prices 13 = .ok (.invokestatic 49, 3) := dk_184 0 49 (dk_at dksX4_prices_0 13 rfl rfl)
theorem dX4_prices_16 : decode cX4_prices 16 = .ok (.ifCond .ne 5, 3) := dk_154 0 5 (dk_at dksX4_prices_0 16 rfl rfl)
theorem dX4_prices_19 : decode cX4_prices 19 = .ok (.iconst (-1), 1) := dk_2 (dk_at dksX4_prices_0 19 rfl rfl)
theorem dX4_prices_20 : decode cX4_prices 20 = .ok (.ireturn, 1) := dk_172 (dk_at dksX4_prices_0 20 rfl rfl)
theorem dX4_prices_21 : decode cX4_prices 21 = .ok (.iload_n 2, 1) := dk_28 (dk_at dksX4_prices_0 21 rfl rfl)
theorem dX4_prices_22 : decode cX4_prices 22 = .ok (.ifCond .ne 11, 3) := dk_154 0 11 (dk_at dksX4_prices_1 0 rfl rfl)
theorem dX4_prices_25 : decode cX4_prices 25 = .ok (.aload_n 0, 1) := dk_42 (dk_at dksX4_prices_1 3 rfl rfl)
theorem dX4_prices_26 : decode cX4_prices 26 = .ok (.iload_n 1, 1) := dk_27 (dk_at dksX4_prices_1 4 rfl rfl)
theorem dX4_prices_27 : decode cX4_prices 27 = .ok (.invokevirtual 158, 3) := dk_182 0 158 (dk_at dksX4_prices_1 5 rfl rfl)
theorem dX4_prices_30 : decode cX4_prices 30 = .ok (.goto 8, 3) := dk_167 0 8 (dk_at dksX4_prices_1 8 rfl rfl)
theorem dX4_prices_33 : decode cX4_prices 33 = .ok (.aload_n 0, 1) := dk_42 (dk_at dksX4_prices_1 11 rfl rfl)
theorem dX4_prices_34 : decode cX4_prices 34 = .ok (.iload_n 1, 1) := dk_27 (dk_at dksX4_prices_1 12 rfl rfl)
theorem dX4_prices_35 : decode cX4_prices 35 = .ok (.invokevirtual 161, 3) := dk_182 0 161 (dk_at dksX4_prices_1 13 rfl rfl)
theorem dX4_prices_38 : decode cX4_prices 38 = .ok (.ireturn, 1) := dk_172 (dk_at dksX4_prices_1 16 rfl rfl)
abbrev cX4_buyers : ByteArray := prog_21_method_45_code
def yX4_buyers : MethodName := ⟨RX4, "buyers", "(I)I"⟩
def dkwX4_buyers_2 : List UInt8 := [132, 3, 1, 167, 255, 210, 28, 172]
abbrev dktX4_buyers_2 : List UInt8 := dkwX4_buyers_2 ++ []
def dkwX4_buyers_1 : List UInt8 := [46, 158, 0, 19, 42, 180, 0, 9, 29, 184, 0, 70, 27, 161, 0, 7, 4, 167, 0, 4, 3, 96, 61]
abbrev dktX4_buyers_1 : List UInt8 := dkwX4_buyers_1 ++ dktX4_buyers_2
def dkwX4_buyers_0 : List UInt8 := [3, 61, 3, 62, 29, 42, 180, 0, 9, 3, 46, 162, 0, 42, 28, 42, 180, 0, 9, 29, 5, 184, 0, 53]
abbrev dktX4_buyers_0 : List UInt8 := dkwX4_buyers_0 ++ dktX4_buyers_1
theorem dksX4_buyers_0 : cX4_buyers.data.toList.drop 0 = dktX4_buyers_0 := by decide +kernel
theorem dksX4_buyers_1 : cX4_buyers.data.toList.drop 24 = dktX4_buyers_1 := dk_seg dksX4_buyers_0 24 rfl rfl
theorem dksX4_buyers_2 : cX4_buyers.data.toList.drop 47 = dktX4_buyers_2 := dk_seg dksX4_buyers_1 23 rfl rfl
theorem dX4_buyers_0 : decode cX4_buyers 0 = .ok (.iconst 0, 1) := dk_3 (dk_at dksX4_buyers_0 0 rfl rfl)
theorem dX4_buyers_1 : decode cX4_buyers 1 = .ok (.istore_n 2, 1) := dk_61 (dk_at dksX4_buyers_0 1 rfl rfl)
theorem dX4_buyers_2 : decode cX4_buyers 2 = .ok (.iconst 0, 1) := dk_3 (dk_at dksX4_buyers_0 2 rfl rfl)
theorem dX4_buyers_3 : decode cX4_buyers 3 = .ok (.istore_n 3, 1) := dk_62 (dk_at dksX4_buyers_0 3 rfl rfl)
theorem dX4_buyers_4 : decode cX4_buyers 4 = .ok (.iload_n 3, 1) := dk_29 (dk_at dksX4_buyers_0 4 rfl rfl)
theorem dX4_buyers_5 : decode cX4_buyers 5 = .ok (.aload_n 0, 1) := dk_42 (dk_at dksX4_buyers_0 5 rfl rfl)
theorem dX4_buyers_6 : decode cX4_buyers 6 = .ok (.getfield 9, 3) := dk_180 0 9 (dk_at dksX4_buyers_0 6 rfl rfl)
theorem dX4_buyers_9 : decode cX4_buyers 9 = .ok (.iconst 0, 1) := dk_3 (dk_at dksX4_buyers_0 9 rfl rfl)
theorem dX4_buyers_10 : decode cX4_buyers 10 = .ok (.iaload, 1) := dk_46 (dk_at dksX4_buyers_0 10 rfl rfl)
theorem dX4_buyers_11 : decode cX4_buyers 11 = .ok (.if_icmp .ge 42, 3) := dk_162 0 42 (dk_at dksX4_buyers_0 11 rfl rfl)
theorem dX4_buyers_14 : decode cX4_buyers 14 = .ok (.iload_n 2, 1) := dk_28 (dk_at dksX4_buyers_0 14 rfl rfl)
theorem dX4_buyers_15 : decode cX4_buyers 15 = .ok (.aload_n 0, 1) := dk_42 (dk_at dksX4_buyers_0 15 rfl rfl)
theorem dX4_buyers_16 : decode cX4_buyers 16 = .ok (.getfield 9, 3) := dk_180 0 9 (dk_at dksX4_buyers_0 16 rfl rfl)
theorem dX4_buyers_19 : decode cX4_buyers 19 = .ok (.iload_n 3, 1) := dk_29 (dk_at dksX4_buyers_0 19 rfl rfl)
theorem dX4_buyers_20 : decode cX4_buyers 20 = .ok (.iconst 2, 1) := dk_5 (dk_at dksX4_buyers_0 20 rfl rfl)
theorem dX4_buyers_21 : decode cX4_buyers 21 = .ok (.invokestatic 53, 3) := dk_184 0 53 (dk_at dksX4_buyers_0 21 rfl rfl)
theorem dX4_buyers_24 : decode cX4_buyers 24 = .ok (.iaload, 1) := dk_46 (dk_at dksX4_buyers_1 0 rfl rfl)
theorem dX4_buyers_25 : decode cX4_buyers 25 = .ok (.ifCond .le 19, 3) := dk_158 0 19 (dk_at dksX4_buyers_1 1 rfl rfl)
theorem dX4_buyers_28 : decode cX4_buyers 28 = .ok (.aload_n 0, 1) := dk_42 (dk_at dksX4_buyers_1 4 rfl rfl)
theorem dX4_buyers_29 : decode cX4_buyers 29 = .ok (.getfield 9, 3) := dk_180 0 9 (dk_at dksX4_buyers_1 5 rfl rfl)
theorem dX4_buyers_32 : decode cX4_buyers 32 = .ok (.iload_n 3, 1) := dk_29 (dk_at dksX4_buyers_1 8 rfl rfl)
theorem dX4_buyers_33 : decode cX4_buyers 33 = .ok (.invokestatic 70, 3) := dk_184 0 70 (dk_at dksX4_buyers_1 9 rfl rfl)
theorem dX4_buyers_36 : decode cX4_buyers 36 = .ok (.iload_n 1, 1) := dk_27 (dk_at dksX4_buyers_1 12 rfl rfl)
theorem dX4_buyers_37 : decode cX4_buyers 37 = .ok (.if_icmp .lt 7, 3) := dk_161 0 7 (dk_at dksX4_buyers_1 13 rfl rfl)
theorem dX4_buyers_40 : decode cX4_buyers 40 = .ok (.iconst 1, 1) := dk_4 (dk_at dksX4_buyers_1 16 rfl rfl)
theorem dX4_buyers_41 : decode cX4_buyers 41 = .ok (.goto 4, 3) := dk_167 0 4 (dk_at dksX4_buyers_1 17 rfl rfl)
theorem dX4_buyers_44 : decode cX4_buyers 44 = .ok (.iconst 0, 1) := dk_3 (dk_at dksX4_buyers_1 20 rfl rfl)
theorem dX4_buyers_45 : decode cX4_buyers 45 = .ok (.iadd, 1) := dk_96 (dk_at dksX4_buyers_1 21 rfl rfl)
theorem dX4_buyers_46 : decode cX4_buyers 46 = .ok (.istore_n 2, 1) := dk_61 (dk_at dksX4_buyers_1 22 rfl rfl)
theorem dX4_buyers_47 : decode cX4_buyers 47 = .ok (.iinc 3 1, 3) := dk_132 3 1 (dk_at dksX4_buyers_2 0 rfl rfl)
theorem dX4_buyers_50 : decode cX4_buyers 50 = .ok (.goto (-46), 3) := dk_167 255 210 (dk_at dksX4_buyers_2 3 rfl rfl)
theorem dX4_buyers_53 : decode cX4_buyers 53 = .ok (.iload_n 2, 1) := dk_28 (dk_at dksX4_buyers_2 6 rfl rfl)
theorem dX4_buyers_54 : decode cX4_buyers 54 = .ok (.ireturn, 1) := dk_172 (dk_at dksX4_buyers_2 7 rfl rfl)
abbrev cX4_sellers : ByteArray := prog_21_method_46_code
def yX4_sellers : MethodName := ⟨RX4, "sellers", "(I)I"⟩
def dkwX4_sellers_2 : List UInt8 := [132, 3, 1, 167, 255, 212, 28, 172]
abbrev dktX4_sellers_2 : List UInt8 := dkwX4_sellers_2 ++ []
def dkwX4_sellers_1 : List UInt8 := [153, 0, 19, 42, 180, 0, 9, 29, 184, 0, 85, 27, 162, 0, 7, 4, 167, 0, 4, 3, 96, 61]
abbrev dktX4_sellers_1 : List UInt8 := dkwX4_sellers_1 ++ dktX4_sellers_2
def dkwX4_sellers_0 : List UInt8 := [3, 61, 3, 62, 29, 42, 180, 0, 9, 3, 46, 162, 0, 40, 28, 42, 180, 0, 9, 29, 184, 0, 66]
abbrev dktX4_sellers_0 : List UInt8 := dkwX4_sellers_0 ++ dktX4_sellers_1
theorem dksX4_sellers_0 : cX4_sellers.data.toList.drop 0 = dktX4_sellers_0 := by decide +kernel
theorem dksX4_sellers_1 : cX4_sellers.data.toList.drop 23 = dktX4_sellers_1 := dk_seg dksX4_sellers_0 23 rfl rfl
theorem dksX4_sellers_2 : cX4_sellers.data.toList.drop 45 = dktX4_sellers_2 := dk_seg dksX4_sellers_1 22 rfl rfl
theorem dX4_sellers_0 : decode cX4_sellers 0 = .ok (.iconst 0, 1) := dk_3 (dk_at dksX4_sellers_0 0 rfl rfl)
theorem dX4_sellers_1 : decode cX4_sellers 1 = .ok (.istore_n 2, 1) := dk_61 (dk_at dksX4_sellers_0 1 rfl rfl)
theorem dX4_sellers_2 : decode cX4_sellers 2 = .ok (.iconst 0, 1) := dk_3 (dk_at dksX4_sellers_0 2 rfl rfl)
theorem dX4_sellers_3 : decode cX4_sellers 3 = .ok (.istore_n 3, 1) := dk_62 (dk_at dksX4_sellers_0 3 rfl rfl)
theorem dX4_sellers_4 : decode cX4_sellers 4 = .ok (.iload_n 3, 1) := dk_29 (dk_at dksX4_sellers_0 4 rfl rfl)
theorem dX4_sellers_5 : decode cX4_sellers 5 = .ok (.aload_n 0, 1) := dk_42 (dk_at dksX4_sellers_0 5 rfl rfl)
theorem dX4_sellers_6 : decode cX4_sellers 6 = .ok (.getfield 9, 3) := dk_180 0 9 (dk_at dksX4_sellers_0 6 rfl rfl)
theorem dX4_sellers_9 : decode cX4_sellers 9 = .ok (.iconst 0, 1) := dk_3 (dk_at dksX4_sellers_0 9 rfl rfl)
theorem dX4_sellers_10 : decode cX4_sellers 10 = .ok (.iaload, 1) := dk_46 (dk_at dksX4_sellers_0 10 rfl rfl)
theorem dX4_sellers_11 : decode cX4_sellers 11 = .ok (.if_icmp .ge 40, 3) := dk_162 0 40 (dk_at dksX4_sellers_0 11 rfl rfl)
theorem dX4_sellers_14 : decode cX4_sellers 14 = .ok (.iload_n 2, 1) := dk_28 (dk_at dksX4_sellers_0 14 rfl rfl)
theorem dX4_sellers_15 : decode cX4_sellers 15 = .ok (.aload_n 0, 1) := dk_42 (dk_at dksX4_sellers_0 15 rfl rfl)
theorem dX4_sellers_16 : decode cX4_sellers 16 = .ok (.getfield 9, 3) := dk_180 0 9 (dk_at dksX4_sellers_0 16 rfl rfl)
theorem dX4_sellers_19 : decode cX4_sellers 19 = .ok (.iload_n 3, 1) := dk_29 (dk_at dksX4_sellers_0 19 rfl rfl)
theorem dX4_sellers_20 : decode cX4_sellers 20 = .ok (.invokestatic 66, 3) := dk_184 0 66 (dk_at dksX4_sellers_0 20 rfl rfl)
theorem dX4_sellers_23 : decode cX4_sellers 23 = .ok (.ifCond .eq 19, 3) := dk_153 0 19 (dk_at dksX4_sellers_1 0 rfl rfl)
theorem dX4_sellers_26 : decode cX4_sellers 26 = .ok (.aload_n 0, 1) := dk_42 (dk_at dksX4_sellers_1 3 rfl rfl)
theorem dX4_sellers_27 : decode cX4_sellers 27 = .ok (.getfield 9, 3) := dk_180 0 9 (dk_at dksX4_sellers_1 4 rfl rfl)
theorem dX4_sellers_30 : decode cX4_sellers 30 = .ok (.iload_n 3, 1) := dk_29 (dk_at dksX4_sellers_1 7 rfl rfl)
theorem dX4_sellers_31 : decode cX4_sellers 31 = .ok (.invokestatic 85, 3) := dk_184 0 85 (dk_at dksX4_sellers_1 8 rfl rfl)
theorem dX4_sellers_34 : decode cX4_sellers 34 = .ok (.iload_n 1, 1) := dk_27 (dk_at dksX4_sellers_1 11 rfl rfl)
theorem dX4_sellers_35 : decode cX4_sellers 35 = .ok (.if_icmp .ge 7, 3) := dk_162 0 7 (dk_at dksX4_sellers_1 12 rfl rfl)
theorem dX4_sellers_38 : decode cX4_sellers 38 = .ok (.iconst 1, 1) := dk_4 (dk_at dksX4_sellers_1 15 rfl rfl)
theorem dX4_sellers_39 : decode cX4_sellers 39 = .ok (.goto 4, 3) := dk_167 0 4 (dk_at dksX4_sellers_1 16 rfl rfl)
theorem dX4_sellers_42 : decode cX4_sellers 42 = .ok (.iconst 0, 1) := dk_3 (dk_at dksX4_sellers_1 19 rfl rfl)
theorem dX4_sellers_43 : decode cX4_sellers 43 = .ok (.iadd, 1) := dk_96 (dk_at dksX4_sellers_1 20 rfl rfl)
theorem dX4_sellers_44 : decode cX4_sellers 44 = .ok (.istore_n 2, 1) := dk_61 (dk_at dksX4_sellers_1 21 rfl rfl)
theorem dX4_sellers_45 : decode cX4_sellers 45 = .ok (.iinc 3 1, 3) := dk_132 3 1 (dk_at dksX4_sellers_2 0 rfl rfl)
theorem dX4_sellers_48 : decode cX4_sellers 48 = .ok (.goto (-44), 3) := dk_167 255 212 (dk_at dksX4_sellers_2 3 rfl rfl)
theorem dX4_sellers_51 : decode cX4_sellers 51 = .ok (.iload_n 2, 1) := dk_28 (dk_at dksX4_sellers_2 6 rfl rfl)
theorem dX4_sellers_52 : decode cX4_sellers 52 = .ok (.ireturn, 1) := dk_172 (dk_at dksX4_sellers_2 7 rfl rfl)
abbrev cX4_clears : ByteArray := prog_21_method_48_code
def yX4_clears : MethodName := ⟨RX4, "clears", "(I)I"⟩
def dkwX4_clears_2 : List UInt8 := [163, 0, 5, 28, 172, 132, 2, 1, 167, 255, 218, 16, 252, 172]
abbrev dktX4_clears_2 : List UInt8 := dkwX4_clears_2 ++ []
def dkwX4_clears_1 : List UInt8 := [182, 0, 158, 42, 180, 0, 9, 4, 46, 163, 0, 18, 42, 28, 182, 0, 158, 42, 27, 182, 0, 161]
abbrev dktX4_clears_1 : List UInt8 := dkwX4_clears_1 ++ dktX4_clears_2
def dkwX4_clears_0 : List UInt8 := [27, 3, 16, 31, 184, 0, 49, 154, 0, 5, 2, 172, 3, 61, 28, 16, 31, 163, 0, 38, 42, 28]
abbrev dktX4_clears_0 : List UInt8 := dkwX4_clears_0 ++ dktX4_clears_1
theorem dksX4_clears_0 : cX4_clears.data.toList.drop 0 = dktX4_clears_0 := by decide +kernel
theorem dksX4_clears_1 : cX4_clears.data.toList.drop 22 = dktX4_clears_1 := dk_seg dksX4_clears_0 22 rfl rfl
theorem dksX4_clears_2 : cX4_clears.data.toList.drop 44 = dktX4_clears_2 := dk_seg dksX4_clears_1 22 rfl rfl
theorem dX4_clears_0 : decode cX4_clears 0 = .ok (.iload_n 1, 1) := dk_27 (dk_at dksX4_clears_0 0 rfl rfl)
theorem dX4_clears_1 : decode cX4_clears 1 = .ok (.iconst 0, 1) := dk_3 (dk_at dksX4_clears_0 1 rfl rfl)
theorem dX4_clears_2 : decode cX4_clears 2 = .ok (.bipush 31, 2) := dk_16 31 (dk_at dksX4_clears_0 2 rfl rfl)
theorem dX4_clears_4 : decode cX4_clears 4 = .ok (.invokestatic 49, 3) := dk_184 0 49 (dk_at dksX4_clears_0 4 rfl rfl)
theorem dX4_clears_7 : decode cX4_clears 7 = .ok (.ifCond .ne 5, 3) := dk_154 0 5 (dk_at dksX4_clears_0 7 rfl rfl)
theorem dX4_clears_10 : decode cX4_clears 10 = .ok (.iconst (-1), 1) := dk_2 (dk_at dksX4_clears_0 10 rfl rfl)
theorem dX4_clears_11 : decode cX4_clears 11 = .ok (.ireturn, 1) := dk_172 (dk_at dksX4_clears_0 11 rfl rfl)
theorem dX4_clears_12 : decode cX4_clears 12 = .ok (.iconst 0, 1) := dk_3 (dk_at dksX4_clears_0 12 rfl rfl)
theorem dX4_clears_13 : decode cX4_clears 13 = .ok (.istore_n 2, 1) := dk_61 (dk_at dksX4_clears_0 13 rfl rfl)
theorem dX4_clears_14 : decode cX4_clears 14 = .ok (.iload_n 2, 1) := dk_28 (dk_at dksX4_clears_0 14 rfl rfl)
theorem dX4_clears_15 : decode cX4_clears 15 = .ok (.bipush 31, 2) := dk_16 31 (dk_at dksX4_clears_0 15 rfl rfl)
theorem dX4_clears_17 : decode cX4_clears 17 = .ok (.if_icmp .gt 38, 3) := dk_163 0 38 (dk_at dksX4_clears_0 17 rfl rfl)
theorem dX4_clears_20 : decode cX4_clears 20 = .ok (.aload_n 0, 1) := dk_42 (dk_at dksX4_clears_0 20 rfl rfl)
theorem dX4_clears_21 : decode cX4_clears 21 = .ok (.iload_n 2, 1) := dk_28 (dk_at dksX4_clears_0 21 rfl rfl)
theorem dX4_clears_22 : decode cX4_clears 22 = .ok (.invokevirtual 158, 3) := dk_182 0 158 (dk_at dksX4_clears_1 0 rfl rfl)
theorem dX4_clears_25 : decode cX4_clears 25 = .ok (.aload_n 0, 1) := dk_42 (dk_at dksX4_clears_1 3 rfl rfl)
theorem dX4_clears_26 : decode cX4_clears 26 = .ok (.getfield 9, 3) := dk_180 0 9 (dk_at dksX4_clears_1 4 rfl rfl)
theorem dX4_clears_29 : decode cX4_clears 29 = .ok (.iconst 1, 1) := dk_4 (dk_at dksX4_clears_1 7 rfl rfl)
theorem dX4_clears_30 : decode cX4_clears 30 = .ok (.iaload, 1) := dk_46 (dk_at dksX4_clears_1 8 rfl rfl)
theorem dX4_clears_31 : decode cX4_clears 31 = .ok (.if_icmp .gt 18, 3) := dk_163 0 18 (dk_at dksX4_clears_1 9 rfl rfl)
theorem dX4_clears_34 : decode cX4_clears 34 = .ok (.aload_n 0, 1) := dk_42 (dk_at dksX4_clears_1 12 rfl rfl)
theorem dX4_clears_35 : decode cX4_clears 35 = .ok (.iload_n 2, 1) := dk_28 (dk_at dksX4_clears_1 13 rfl rfl)
theorem dX4_clears_36 : decode cX4_clears 36 = .ok (.invokevirtual 158, 3) := dk_182 0 158 (dk_at dksX4_clears_1 14 rfl rfl)
theorem dX4_clears_39 : decode cX4_clears 39 = .ok (.aload_n 0, 1) := dk_42 (dk_at dksX4_clears_1 17 rfl rfl)
theorem dX4_clears_40 : decode cX4_clears 40 = .ok (.iload_n 1, 1) := dk_27 (dk_at dksX4_clears_1 18 rfl rfl)
theorem dX4_clears_41 : decode cX4_clears 41 = .ok (.invokevirtual 161, 3) := dk_182 0 161 (dk_at dksX4_clears_1 19 rfl rfl)
theorem dX4_clears_44 : decode cX4_clears 44 = .ok (.if_icmp .gt 5, 3) := dk_163 0 5 (dk_at dksX4_clears_2 0 rfl rfl)
theorem dX4_clears_47 : decode cX4_clears 47 = .ok (.iload_n 2, 1) := dk_28 (dk_at dksX4_clears_2 3 rfl rfl)
theorem dX4_clears_48 : decode cX4_clears 48 = .ok (.ireturn, 1) := dk_172 (dk_at dksX4_clears_2 4 rfl rfl)
theorem dX4_clears_49 : decode cX4_clears 49 = .ok (.iinc 2 1, 3) := dk_132 2 1 (dk_at dksX4_clears_2 5 rfl rfl)
theorem dX4_clears_52 : decode cX4_clears 52 = .ok (.goto (-38), 3) := dk_167 255 218 (dk_at dksX4_clears_2 8 rfl rfl)
theorem dX4_clears_55 : decode cX4_clears 55 = .ok (.bipush (-4), 2) := dk_16 252 (dk_at dksX4_clears_2 11 rfl rfl)
theorem dX4_clears_57 : decode cX4_clears 57 = .ok (.ireturn, 1) := dk_172 (dk_at dksX4_clears_2 13 rfl rfl)
abbrev cX4_swap : ByteArray := prog_21_method_50_code
def yX4_swap : MethodName := ⟨RX4, "swap", "(I)I"⟩
def dkwX4_swap_8 : List UInt8 := [54, 4, 132, 8, 1, 167, 255, 114, 132, 7, 1, 167, 255, 95, 29, 172]
abbrev dktX4_swap_8 : List UInt8 := dkwX4_swap_8 ++ []
def dkwX4_swap_7 : List UInt8 := [54, 13, 21, 13, 21, 4, 163, 0, 6, 167, 0, 16, 16, 10, 21, 7, 104, 21, 8, 96, 62, 21, 13]
abbrev dktX4_swap_7 : List UInt8 := dkwX4_swap_7 ++ dktX4_swap_8
def dkwX4_swap_6 : List UInt8 := [180, 0, 9, 21, 9, 21, 10, 184, 0, 88, 100, 42, 180, 0, 9, 21, 11, 21, 12, 184, 0, 88, 100]
abbrev dktX4_swap_6 : List UInt8 := dkwX4_swap_6 ++ dktX4_swap_7
def dkwX4_swap_5 : List UInt8 := [180, 0, 9, 21, 9, 21, 12, 184, 0, 88, 42, 180, 0, 9, 21, 11, 21, 10, 184, 0, 88, 96, 42]
abbrev dktX4_swap_5 : List UInt8 := dkwX4_swap_5 ++ dktX4_swap_6
def dkwX4_swap_4 : List UInt8 := [104, 96, 46, 54, 11, 42, 180, 0, 46, 21, 6, 5, 21, 8, 104, 96, 4, 96, 46, 54, 12, 42]
abbrev dktX4_swap_4 : List UInt8 := dkwX4_swap_4 ++ dktX4_swap_5
def dkwX4_swap_3 : List UInt8 := [180, 0, 46, 21, 6, 5, 21, 7, 104, 96, 4, 96, 46, 54, 10, 42, 180, 0, 46, 21, 6, 5, 21, 8]
abbrev dktX4_swap_3 : List UInt8 := dkwX4_swap_3 ++ dktX4_swap_4
def dkwX4_swap_2 : List UInt8 := [54, 8, 21, 8, 21, 5, 162, 0, 141, 42, 180, 0, 46, 21, 6, 5, 21, 7, 104, 96, 46, 54, 9, 42]
abbrev dktX4_swap_2 : List UInt8 := dkwX4_swap_2 ++ dktX4_swap_3
def dkwX4_swap_1 : List UInt8 := [5, 108, 54, 5, 16, 100, 27, 104, 54, 6, 3, 54, 7, 21, 7, 21, 5, 162, 0, 160, 21, 7, 4, 96]
abbrev dktX4_swap_1 : List UInt8 := dkwX4_swap_1 ++ dktX4_swap_2
def dkwX4_swap_0 : List UInt8 := [42, 27, 182, 0, 164, 61, 28, 153, 0, 5, 28, 172, 16, 252, 62, 3, 54, 4, 42, 180, 0, 43, 27, 46]
abbrev dktX4_swap_0 : List UInt8 := dkwX4_swap_0 ++ dktX4_swap_1
theorem dksX4_swap_0 : cX4_swap.data.toList.drop 0 = dktX4_swap_0 := by decide +kernel
theorem dksX4_swap_1 : cX4_swap.data.toList.drop 24 = dktX4_swap_1 := dk_seg dksX4_swap_0 24 rfl rfl
theorem dksX4_swap_2 : cX4_swap.data.toList.drop 48 = dktX4_swap_2 := dk_seg dksX4_swap_1 24 rfl rfl
theorem dksX4_swap_3 : cX4_swap.data.toList.drop 72 = dktX4_swap_3 := dk_seg dksX4_swap_2 24 rfl rfl
theorem dksX4_swap_4 : cX4_swap.data.toList.drop 96 = dktX4_swap_4 := dk_seg dksX4_swap_3 24 rfl rfl
theorem dksX4_swap_5 : cX4_swap.data.toList.drop 118 = dktX4_swap_5 := dk_seg dksX4_swap_4 22 rfl rfl
theorem dksX4_swap_6 : cX4_swap.data.toList.drop 141 = dktX4_swap_6 := dk_seg dksX4_swap_5 23 rfl rfl
theorem dksX4_swap_7 : cX4_swap.data.toList.drop 164 = dktX4_swap_7 := dk_seg dksX4_swap_6 23 rfl rfl
theorem dksX4_swap_8 : cX4_swap.data.toList.drop 187 = dktX4_swap_8 := dk_seg dksX4_swap_7 23 rfl rfl
theorem dX4_swap_0 : decode cX4_swap 0 = .ok (.aload_n 0, 1) := dk_42 (dk_at dksX4_swap_0 0 rfl rfl)
theorem dX4_swap_1 : decode cX4_swap 1 = .ok (.iload_n 1, 1) := dk_27 (dk_at dksX4_swap_0 1 rfl rfl)
theorem dX4_swap_2 : decode cX4_swap 2 = .ok (.invokevirtual 164, 3) := dk_182 0 164 (dk_at dksX4_swap_0 2 rfl rfl)
theorem dX4_swap_5 : decode cX4_swap 5 = .ok (.istore_n 2, 1) := dk_61 (dk_at dksX4_swap_0 5 rfl rfl)
theorem dX4_swap_6 : decode cX4_swap 6 = .ok (.iload_n 2, 1) := dk_28 (dk_at dksX4_swap_0 6 rfl rfl)
theorem dX4_swap_7 : decode cX4_swap 7 = .ok (.ifCond .eq 5, 3) := dk_153 0 5 (dk_at dksX4_swap_0 7 rfl rfl)
theorem dX4_swap_10 : decode cX4_swap 10 = .ok (.iload_n 2, 1) := dk_28 (dk_at dksX4_swap_0 10 rfl rfl)
theorem dX4_swap_11 : decode cX4_swap 11 = .ok (.ireturn, 1) := dk_172 (dk_at dksX4_swap_0 11 rfl rfl)
theorem dX4_swap_12 : decode cX4_swap 12 = .ok (.bipush (-4), 2) := dk_16 252 (dk_at dksX4_swap_0 12 rfl rfl)
theorem dX4_swap_14 : decode cX4_swap 14 = .ok (.istore_n 3, 1) := dk_62 (dk_at dksX4_swap_0 14 rfl rfl)
theorem dX4_swap_15 : decode cX4_swap 15 = .ok (.iconst 0, 1) := dk_3 (dk_at dksX4_swap_0 15 rfl rfl)
theorem dX4_swap_16 : decode cX4_swap 16 = .ok (.istore 4, 2) := dk_54 4 (dk_at dksX4_swap_0 16 rfl rfl)
theorem dX4_swap_18 : decode cX4_swap 18 = .ok (.aload_n 0, 1) := dk_42 (dk_at dksX4_swap_0 18 rfl rfl)
theorem dX4_swap_19 : decode cX4_swap 19 = .ok (.getfield 43, 3) := dk_180 0 43 (dk_at dksX4_swap_0 19 rfl rfl)
theorem dX4_swap_22 : decode cX4_swap 22 = .ok (.iload_n 1, 1) := dk_27 (dk_at dksX4_swap_0 22 rfl rfl)
theorem dX4_swap_23 : decode cX4_swap 23 = .ok (.iaload, 1) := dk_46 (dk_at dksX4_swap_0 23 rfl rfl)
theorem dX4_swap_24 : decode cX4_swap 24 = .ok (.iconst 2, 1) := dk_5 (dk_at dksX4_swap_1 0 rfl rfl)
theorem dX4_swap_25 : decode cX4_swap 25 = .ok (.idiv, 1) := dk_108 (dk_at dksX4_swap_1 1 rfl rfl)
theorem dX4_swap_26 : decode cX4_swap 26 = .ok (.istore 5, 2) := dk_54 5 (dk_at dksX4_swap_1 2 rfl rfl)
theorem dX4_swap_28 : decode cX4_swap 28 = .ok (.bipush 100, 2) := dk_16 100 (dk_at dksX4_swap_1 4 rfl rfl)
theorem dX4_swap_30 : decode cX4_swap 30 = .ok (.iload_n 1, 1) := dk_27 (dk_at dksX4_swap_1 6 rfl rfl)
theorem dX4_swap_31 : decode cX4_swap 31 = .ok (.imul, 1) := dk_104 (dk_at dksX4_swap_1 7 rfl rfl)
theorem dX4_swap_32 : decode cX4_swap 32 = .ok (.istore 6, 2) := dk_54 6 (dk_at dksX4_swap_1 8 rfl rfl)
theorem dX4_swap_34 : decode cX4_swap 34 = .ok (.iconst 0, 1) := dk_3 (dk_at dksX4_swap_1 10 rfl rfl)
theorem dX4_swap_35 : decode cX4_swap 35 = .ok (.istore 7, 2) := dk_54 7 (dk_at dksX4_swap_1 11 rfl rfl)
theorem dX4_swap_37 : decode cX4_swap 37 = .ok (.iload 7, 2) := dk_21 7 (dk_at dksX4_swap_1 13 rfl rfl)
theorem dX4_swap_39 : decode cX4_swap 39 = .ok (.iload 5, 2) := dk_21 5 (dk_at dksX4_swap_1 15 rfl rfl)
theorem dX4_swap_41 : decode cX4_swap 41 = .ok (.if_icmp .ge 160, 3) := dk_162 0 160 (dk_at dksX4_swap_1 17 rfl rfl)
theorem dX4_swap_44 : decode cX4_swap 44 = .ok (.iload 7, 2) := dk_21 7 (dk_at dksX4_swap_1 20 rfl rfl)
theorem dX4_swap_46 : decode cX4_swap 46 = .ok (.iconst 1, 1) := dk_4 (dk_at dksX4_swap_1 22 rfl rfl)
theorem dX4_swap_47 : decode cX4_swap 47 = .ok (.iadd, 1) := dk_96 (dk_at dksX4_swap_1 23 rfl rfl)
theorem dX4_swap_48 : decode cX4_swap 48 = .ok (.istore 8, 2) := dk_54 8 (dk_at dksX4_swap_2 0 rfl rfl)
theorem dX4_swap_50 : decode cX4_swap 50 = .ok (.iload 8, 2) := dk_21 8 (dk_at dksX4_swap_2 2 rfl rfl)
theorem dX4_swap_52 : decode cX4_swap 52 = .ok (.iload 5, 2) := dk_21 5 (dk_at dksX4_swap_2 4 rfl rfl)
theorem dX4_swap_54 : decode cX4_swap 54 = .ok (.if_icmp .ge 141, 3) := dk_162 0 141 (dk_at dksX4_swap_2 6 rfl rfl)
theorem dX4_swap_57 : decode cX4_swap 57 = .ok (.aload_n 0, 1) := dk_42 (dk_at dksX4_swap_2 9 rfl rfl)
theorem dX4_swap_58 : decode cX4_swap 58 = .ok (.getfield 46, 3) := dk_180 0 46 (dk_at dksX4_swap_2 10 rfl rfl)
theorem dX4_swap_61 : decode cX4_swap 61 = .ok (.iload 6, 2) := dk_21 6 (dk_at dksX4_swap_2 13 rfl rfl)
theorem dX4_swap_63 : decode cX4_swap 63 = .ok (.iconst 2, 1) := dk_5 (dk_at dksX4_swap_2 15 rfl rfl)
theorem dX4_swap_64 : decode cX4_swap 64 = .ok (.iload 7, 2) := dk_21 7 (dk_at dksX4_swap_2 16 rfl rfl)
theorem dX4_swap_66 : decode cX4_swap 66 = .ok (.imul, 1) := dk_104 (dk_at dksX4_swap_2 18 rfl rfl)
theorem dX4_swap_67 : decode cX4_swap 67 = .ok (.iadd, 1) := dk_96 (dk_at dksX4_swap_2 19 rfl rfl)
theorem dX4_swap_68 : decode cX4_swap 68 = .ok (.iaload, 1) := dk_46 (dk_at dksX4_swap_2 20 rfl rfl)
theorem dX4_swap_69 : decode cX4_swap 69 = .ok (.istore 9, 2) := dk_54 9 (dk_at dksX4_swap_2 21 rfl rfl)
theorem dX4_swap_71 : decode cX4_swap 71 = .ok (.aload_n 0, 1) := dk_42 (dk_at dksX4_swap_2 23 rfl rfl)
theorem dX4_swap_72 : decode cX4_swap 72 = .ok (.getfield 46, 3) := dk_180 0 46 (dk_at dksX4_swap_3 0 rfl rfl)
theorem dX4_swap_75 : decode cX4_swap 75 = .ok (.iload 6, 2) := dk_21 6 (dk_at dksX4_swap_3 3 rfl rfl)
theorem dX4_swap_77 : decode cX4_swap 77 = .ok (.iconst 2, 1) := dk_5 (dk_at dksX4_swap_3 5 rfl rfl)
theorem dX4_swap_78 : decode cX4_swap 78 = .ok (.iload 7, 2) := dk_21 7 (dk_at dksX4_swap_3 6 rfl rfl)
theorem dX4_swap_80 : decode cX4_swap 80 = .ok (.imul, 1) := dk_104 (dk_at dksX4_swap_3 8 rfl rfl)
theorem dX4_swap_81 : decode cX4_swap 81 = .ok (.iadd, 1) := dk_96 (dk_at dksX4_swap_3 9 rfl rfl)
theorem dX4_swap_82 : decode cX4_swap 82 = .ok (.iconst 1, 1) := dk_4 (dk_at dksX4_swap_3 10 rfl rfl)
theorem dX4_swap_83 : decode cX4_swap 83 = .ok (.iadd, 1) := dk_96 (dk_at dksX4_swap_3 11 rfl rfl)
theorem dX4_swap_84 : decode cX4_swap 84 = .ok (.iaload, 1) := dk_46 (dk_at dksX4_swap_3 12 rfl rfl)
theorem dX4_swap_85 : decode cX4_swap 85 = .ok (.istore 10, 2) := dk_54 10 (dk_at dksX4_swap_3 13 rfl rfl)
theorem dX4_swap_87 : decode cX4_swap 87 = .ok (.aload_n 0, 1) := dk_42 (dk_at dksX4_swap_3 15 rfl rfl)
theorem dX4_swap_88 : decode cX4_swap 88 = .ok (.getfield 46, 3) := dk_180 0 46 (dk_at dksX4_swap_3 16 rfl rfl)
theorem dX4_swap_91 : decode cX4_swap 91 = .ok (.iload 6, 2) := dk_21 6 (dk_at dksX4_swap_3 19 rfl rfl)
theorem dX4_swap_93 : decode cX4_swap 93 = .ok (.iconst 2, 1) := dk_5 (dk_at dksX4_swap_3 21 rfl rfl)
theorem dX4_swap_94 : decode cX4_swap 94 = .ok (.iload 8, 2) := dk_21 8 (dk_at dksX4_swap_3 22 rfl rfl)
theorem dX4_swap_96 : decode cX4_swap 96 = .ok (.imul, 1) := dk_104 (dk_at dksX4_swap_4 0 rfl rfl)
theorem dX4_swap_97 : decode cX4_swap 97 = .ok (.iadd, 1) := dk_96 (dk_at dksX4_swap_4 1 rfl rfl)
theorem dX4_swap_98 : decode cX4_swap 98 = .ok (.iaload, 1) := dk_46 (dk_at dksX4_swap_4 2 rfl rfl)
theorem dX4_swap_99 : decode cX4_swap 99 = .ok (.istore 11, 2) := dk_54 11 (dk_at dksX4_swap_4 3 rfl rfl)
theorem dX4_swap_101 : decode cX4_swap 101 = .ok (.aload_n 0, 1) := dk_42 (dk_at dksX4_swap_4 5 rfl rfl)
theorem dX4_swap_102 : decode cX4_swap 102 = .ok (.getfield 46, 3) := dk_180 0 46 (dk_at dksX4_swap_4 6 rfl rfl)
theorem dX4_swap_105 : decode cX4_swap 105 = .ok (.iload 6, 2) := dk_21 6 (dk_at dksX4_swap_4 9 rfl rfl)
theorem dX4_swap_107 : decode cX4_swap 107 = .ok (.iconst 2, 1) := dk_5 (dk_at dksX4_swap_4 11 rfl rfl)
theorem dX4_swap_108 : decode cX4_swap 108 = .ok (.iload 8, 2) := dk_21 8 (dk_at dksX4_swap_4 12 rfl rfl)
theorem dX4_swap_110 : decode cX4_swap 110 = .ok (.imul, 1) := dk_104 (dk_at dksX4_swap_4 14 rfl rfl)
theorem dX4_swap_111 : decode cX4_swap 111 = .ok (.iadd, 1) := dk_96 (dk_at dksX4_swap_4 15 rfl rfl)
theorem dX4_swap_112 : decode cX4_swap 112 = .ok (.iconst 1, 1) := dk_4 (dk_at dksX4_swap_4 16 rfl rfl)
theorem dX4_swap_113 : decode cX4_swap 113 = .ok (.iadd, 1) := dk_96 (dk_at dksX4_swap_4 17 rfl rfl)
theorem dX4_swap_114 : decode cX4_swap 114 = .ok (.iaload, 1) := dk_46 (dk_at dksX4_swap_4 18 rfl rfl)
theorem dX4_swap_115 : decode cX4_swap 115 = .ok (.istore 12, 2) := dk_54 12 (dk_at dksX4_swap_4 19 rfl rfl)
theorem dX4_swap_117 : decode cX4_swap 117 = .ok (.aload_n 0, 1) := dk_42 (dk_at dksX4_swap_4 21 rfl rfl)
theorem dX4_swap_118 : decode cX4_swap 118 = .ok (.getfield 9, 3) := dk_180 0 9 (dk_at dksX4_swap_5 0 rfl rfl)
theorem dX4_swap_121 : decode cX4_swap 121 = .ok (.iload 9, 2) := dk_21 9 (dk_at dksX4_swap_5 3 rfl rfl)
theorem dX4_swap_123 : decode cX4_swap 123 = .ok (.iload 12, 2) := dk_21 12 (dk_at dksX4_swap_5 5 rfl rfl)
theorem dX4_swap_125 : decode cX4_swap 125 = .ok (.invokestatic 88, 3) := dk_184 0 88 (dk_at dksX4_swap_5 7 rfl rfl)
theorem dX4_swap_128 : decode cX4_swap 128 = .ok (.aload_n 0, 1) := dk_42 (dk_at dksX4_swap_5 10 rfl rfl)
theorem dX4_swap_129 : decode cX4_swap 129 = .ok (.getfield 9, 3) := dk_180 0 9 (dk_at dksX4_swap_5 11 rfl rfl)
theorem dX4_swap_132 : decode cX4_swap 132 = .ok (.iload 11, 2) := dk_21 11 (dk_at dksX4_swap_5 14 rfl rfl)
theorem dX4_swap_134 : decode cX4_swap 134 = .ok (.iload 10, 2) := dk_21 10 (dk_at dksX4_swap_5 16 rfl rfl)
theorem dX4_swap_136 : decode cX4_swap 136 = .ok (.invokestatic 88, 3) := dk_184 0 88 (dk_at dksX4_swap_5 18 rfl rfl)
theorem dX4_swap_139 : decode cX4_swap 139 = .ok (.iadd, 1) := dk_96 (dk_at dksX4_swap_5 21 rfl rfl)
theorem dX4_swap_140 : decode cX4_swap 140 = .ok (.aload_n 0, 1) := dk_42 (dk_at dksX4_swap_5 22 rfl rfl)
theorem dX4_swap_141 : decode cX4_swap 141 = .ok (.getfield 9, 3) := dk_180 0 9 (dk_at dksX4_swap_6 0 rfl rfl)
theorem dX4_swap_144 : decode cX4_swap 144 = .ok (.iload 9, 2) := dk_21 9 (dk_at dksX4_swap_6 3 rfl rfl)
theorem dX4_swap_146 : decode cX4_swap 146 = .ok (.iload 10, 2) := dk_21 10 (dk_at dksX4_swap_6 5 rfl rfl)
theorem dX4_swap_148 : decode cX4_swap 148 = .ok (.invokestatic 88, 3) := dk_184 0 88 (dk_at dksX4_swap_6 7 rfl rfl)
theorem dX4_swap_151 : decode cX4_swap 151 = .ok (.isub, 1) := dk_100 (dk_at dksX4_swap_6 10 rfl rfl)
theorem dX4_swap_152 : decode cX4_swap 152 = .ok (.aload_n 0, 1) := dk_42 (dk_at dksX4_swap_6 11 rfl rfl)
theorem dX4_swap_153 : decode cX4_swap 153 = .ok (.getfield 9, 3) := dk_180 0 9 (dk_at dksX4_swap_6 12 rfl rfl)
theorem dX4_swap_156 : decode cX4_swap 156 = .ok (.iload 11, 2) := dk_21 11 (dk_at dksX4_swap_6 15 rfl rfl)
theorem dX4_swap_158 : decode cX4_swap 158 = .ok (.iload 12, 2) := dk_21 12 (dk_at dksX4_swap_6 17 rfl rfl)
theorem dX4_swap_160 : decode cX4_swap 160 = .ok (.invokestatic 88, 3) := dk_184 0 88 (dk_at dksX4_swap_6 19 rfl rfl)
theorem dX4_swap_163 : decode cX4_swap 163 = .ok (.isub, 1) := dk_100 (dk_at dksX4_swap_6 22 rfl rfl)
theorem dX4_swap_164 : decode cX4_swap 164 = .ok (.istore 13, 2) := dk_54 13 (dk_at dksX4_swap_7 0 rfl rfl)
theorem dX4_swap_166 : decode cX4_swap 166 = .ok (.iload 13, 2) := dk_21 13 (dk_at dksX4_swap_7 2 rfl rfl)
theorem dX4_swap_168 : decode cX4_swap 168 = .ok (.iload 4, 2) := dk_21 4 (dk_at dksX4_swap_7 4 rfl rfl)
theorem dX4_swap_170 : decode cX4_swap 170 = .ok (.if_icmp .gt 6, 3) := dk_163 0 6 (dk_at dksX4_swap_7 6 rfl rfl)
theorem dX4_swap_173 : decode cX4_swap 173 = .ok (.goto 16, 3) := dk_167 0 16 (dk_at dksX4_swap_7 9 rfl rfl)
theorem dX4_swap_176 : decode cX4_swap 176 = .ok (.bipush 10, 2) := dk_16 10 (dk_at dksX4_swap_7 12 rfl rfl)
theorem dX4_swap_178 : decode cX4_swap 178 = .ok (.iload 7, 2) := dk_21 7 (dk_at dksX4_swap_7 14 rfl rfl)
theorem dX4_swap_180 : decode cX4_swap 180 = .ok (.imul, 1) := dk_104 (dk_at dksX4_swap_7 16 rfl rfl)
theorem dX4_swap_181 : decode cX4_swap 181 = .ok (.iload 8, 2) := dk_21 8 (dk_at dksX4_swap_7 17 rfl rfl)
theorem dX4_swap_183 : decode cX4_swap 183 = .ok (.iadd, 1) := dk_96 (dk_at dksX4_swap_7 19 rfl rfl)
theorem dX4_swap_184 : decode cX4_swap 184 = .ok (.istore_n 3, 1) := dk_62 (dk_at dksX4_swap_7 20 rfl rfl)
theorem dX4_swap_185 : decode cX4_swap 185 = .ok (.iload 13, 2) := dk_21 13 (dk_at dksX4_swap_7 21 rfl rfl)
theorem dX4_swap_187 : decode cX4_swap 187 = .ok (.istore 4, 2) := dk_54 4 (dk_at dksX4_swap_8 0 rfl rfl)
theorem dX4_swap_189 : decode cX4_swap 189 = .ok (.iinc 8 1, 3) := dk_132 8 1 (dk_at dksX4_swap_8 2 rfl rfl)
theorem dX4_swap_192 : decode cX4_swap 192 = .ok (.goto (-142), 3) := dk_167 255 114 (dk_at dksX4_swap_8 5 rfl rfl)
theorem dX4_swap_195 : decode cX4_swap 195 = .ok (.iinc 7 1, 3) := dk_132 7 1 (dk_at dksX4_swap_8 8 rfl rfl)
theorem dX4_swap_198 : decode cX4_swap 198 = .ok (.goto (-161), 3) := dk_167 255 95 (dk_at dksX4_swap_8 11 rfl rfl)
theorem dX4_swap_201 : decode cX4_swap 201 = .ok (.iload_n 3, 1) := dk_29 (dk_at dksX4_swap_8 14 rfl rfl)
theorem dX4_swap_202 : decode cX4_swap 202 = .ok (.ireturn, 1) := dk_172 (dk_at dksX4_swap_8 15 rfl rfl)
abbrev cX4_wrongPairs : ByteArray := prog_21_method_49_code
def yX4_wrongPairs : MethodName := ⟨RX4, "wrongPairs", "(I)I"⟩
def dkwX4_wrongPairs_6 : List UInt8 := [184, 0, 91, 154, 0, 6, 16, 243, 172, 132, 5, 2, 167, 255, 208, 3, 172]
abbrev dktX4_wrongPairs_6 : List UInt8 := dkwX4_wrongPairs_6 ++ []
def dkwX4_wrongPairs_5 : List UInt8 := [16, 100, 27, 104, 21, 5, 96, 46, 42, 180, 0, 46, 16, 100, 27, 104, 21, 5, 96, 4, 96, 46]
abbrev dktX4_wrongPairs_5 : List UInt8 := dkwX4_wrongPairs_5 ++ dktX4_wrongPairs_6
def dkwX4_wrongPairs_4 : List UInt8 := [132, 5, 1, 167, 255, 201, 3, 54, 5, 21, 5, 29, 162, 0, 48, 42, 180, 0, 9, 42, 180, 0, 46]
abbrev dktX4_wrongPairs_4 : List UInt8 := dkwX4_wrongPairs_4 ++ dktX4_wrongPairs_5
def dkwX4_wrongPairs_3 : List UInt8 := [21, 4, 21, 6, 122, 4, 126, 4, 160, 0, 6, 16, 243, 172, 21, 4, 4, 21, 6, 120, 128, 54, 4]
abbrev dktX4_wrongPairs_3 : List UInt8 := dkwX4_wrongPairs_3 ++ dktX4_wrongPairs_4
def dkwX4_wrongPairs_2 : List UInt8 := [42, 180, 0, 46, 16, 100, 27, 104, 21, 5, 96, 46, 54, 6, 42, 21, 6, 182, 0, 121, 153, 0, 14]
abbrev dktX4_wrongPairs_2 : List UInt8 := dkwX4_wrongPairs_2 ++ dktX4_wrongPairs_3
def dkwX4_wrongPairs_1 : List UInt8 := [159, 0, 9, 29, 16, 8, 164, 0, 6, 16, 243, 172, 3, 54, 4, 3, 54, 5, 21, 5, 29, 162, 0, 55]
abbrev dktX4_wrongPairs_1 : List UInt8 := dkwX4_wrongPairs_1 ++ dktX4_wrongPairs_2
def dkwX4_wrongPairs_0 : List UInt8 := [42, 27, 2, 182, 0, 128, 61, 28, 153, 0, 5, 28, 172, 42, 180, 0, 43, 27, 46, 62, 29, 5, 112, 4]
abbrev dktX4_wrongPairs_0 : List UInt8 := dkwX4_wrongPairs_0 ++ dktX4_wrongPairs_1
theorem dksX4_wrongPairs_0 : cX4_wrongPairs.data.toList.drop 0 = dktX4_wrongPairs_0 := by decide +kernel
theorem dksX4_wrongPairs_1 : cX4_wrongPairs.data.toList.drop 24 = dktX4_wrongPairs_1 := dk_seg dksX4_wrongPairs_0 24 rfl rfl
theorem dksX4_wrongPairs_2 : cX4_wrongPairs.data.toList.drop 48 = dktX4_wrongPairs_2 := dk_seg dksX4_wrongPairs_1 24 rfl rfl
theorem dksX4_wrongPairs_3 : cX4_wrongPairs.data.toList.drop 71 = dktX4_wrongPairs_3 := dk_seg dksX4_wrongPairs_2 23 rfl rfl
theorem dksX4_wrongPairs_4 : cX4_wrongPairs.data.toList.drop 94 = dktX4_wrongPairs_4 := dk_seg dksX4_wrongPairs_3 23 rfl rfl
theorem dksX4_wrongPairs_5 : cX4_wrongPairs.data.toList.drop 117 = dktX4_wrongPairs_5 := dk_seg dksX4_wrongPairs_4 23 rfl rfl
theorem dksX4_wrongPairs_6 : cX4_wrongPairs.data.toList.drop 139 = dktX4_wrongPairs_6 := dk_seg dksX4_wrongPairs_5 22 rfl rfl
theorem dX4_wrongPairs_0 : decode cX4_wrongPairs 0 = .ok (.aload_n 0, 1) := dk_42 (dk_at dksX4_wrongPairs_0 0 rfl rfl)
theorem dX4_wrongPairs_1 : decode cX4_wrongPairs 1 = .ok (.iload_n 1, 1) := dk_27 (dk_at dksX4_wrongPairs_0 1 rfl rfl)
theorem dX4_wrongPairs_2 : decode cX4_wrongPairs 2 = .ok (.iconst (-1), 1) := dk_2 (dk_at dksX4_wrongPairs_0 2 rfl rfl)
theorem dX4_wrongPairs_3 : decode cX4_wrongPairs 3 = .ok (.invokevirtual 128, 3) := dk_182 0 128 (dk_at dksX4_wrongPairs_0 3 rfl rfl)
theorem dX4_wrongPairs_6 : decode cX4_wrongPairs 6 = .ok (.istore_n 2, 1) := dk_61 (dk_at dksX4_wrongPairs_0 6 rfl rfl)
theorem dX4_wrongPairs_7 : decode cX4_wrongPairs 7 = .ok (.iload_n 2, 1) := dk_28 (dk_at dksX4_wrongPairs_0 7 rfl rfl)
theorem dX4_wrongPairs_8 : decode cX4_wrongPairs 8 = .ok (.ifCond .eq 5, 3) := dk_153 0 5 (dk_at dksX4_wrongPairs_0 8 rfl rfl)
theorem dX4_wrongPairs_11 : decode cX4_wrongPairs 11 = .ok (.iload_n 2, 1) := dk_28 (dk_at dksX4_wrongPairs_0 11 rfl rfl)
theorem dX4_wrongPairs_12 : decode cX4_wrongPairs 12 = .ok (.ireturn, 1) := dk_172 (dk_at dksX4_wrongPairs_0 12 rfl rfl)
theorem dX4_wrongPairs_13 : decode cX4_wrongPairs 13 = .ok (.aload_n 0, 1) := dk_42 (dk_at dksX4_wrongPairs_0 13 rfl rfl)
theorem dX4_wrongPairs_14 : decode cX4_wrongPairs 14 = .ok (.getfield 43, 3) := dk_180 0 43 (dk_at dksX4_wrongPairs_0 14 rfl rfl)
theorem dX4_wrongPairs_17 : decode cX4_wrongPairs 17 = .ok (.iload_n 1, 1) := dk_27 (dk_at dksX4_wrongPairs_0 17 rfl rfl)
theorem dX4_wrongPairs_18 : decode cX4_wrongPairs 18 = .ok (.iaload, 1) := dk_46 (dk_at dksX4_wrongPairs_0 18 rfl rfl)
theorem dX4_wrongPairs_19 : decode cX4_wrongPairs 19 = .ok (.istore_n 3, 1) := dk_62 (dk_at dksX4_wrongPairs_0 19 rfl rfl)
theorem dX4_wrongPairs_20 : decode cX4_wrongPairs 20 = .ok (.iload_n 3, 1) := dk_29 (dk_at dksX4_wrongPairs_0 20 rfl rfl)
theorem dX4_wrongPairs_21 : decode cX4_wrongPairs 21 = .ok (.iconst 2, 1) := dk_5 (dk_at dksX4_wrongPairs_0 21 rfl rfl)
theorem dX4_wrongPairs_22 : decode cX4_wrongPairs 22 = .ok (.irem, 1) := dk_112 (dk_at dksX4_wrongPairs_0 22 rfl rfl)
theorem dX4_wrongPairs_23 : decode cX4_wrongPairs 23 = .ok (.iconst 1, 1) := dk_4 (dk_at dksX4_wrongPairs_0 23 rfl rfl)
theorem dX4_wrongPairs_24 : decode cX4_wrongPairs 24 = .ok (.if_icmp .eq 9, 3) := dk_159 0 9 (dk_at dksX4_wrongPairs_1 0 rfl rfl)
theorem dX4_wrongPairs_27 : decode cX4_wrongPairs 27 = .ok (.iload_n 3, 1) := dk_29 (dk_at dksX4_wrongPairs_1 3 rfl rfl)
theorem dX4_wrongPairs_28 : decode cX4_wrongPairs 28 = .ok (.bipush 8, 2) := dk_16 8 (dk_at dksX4_wrongPairs_1 4 rfl rfl)
theorem dX4_wrongPairs_30 : decode cX4_wrongPairs 30 = .ok (.if_icmp .le 6, 3) := dk_164 0 6 (dk_at dksX4_wrongPairs_1 6 rfl rfl)
theorem dX4_wrongPairs_33 : decode cX4_wrongPairs 33 = .ok (.bipush (-13), 2) := dk_16 243 (dk_at dksX4_wrongPairs_1 9 rfl rfl)
theorem dX4_wrongPairs_35 : decode cX4_wrongPairs 35 = .ok (.ireturn, 1) := dk_172 (dk_at dksX4_wrongPairs_1 11 rfl rfl)
theorem dX4_wrongPairs_36 : decode cX4_wrongPairs 36 = .ok (.iconst 0, 1) := dk_3 (dk_at dksX4_wrongPairs_1 12 rfl rfl)
theorem dX4_wrongPairs_37 : decode cX4_wrongPairs 37 = .ok (.istore 4, 2) := dk_54 4 (dk_at dksX4_wrongPairs_1 13 rfl rfl)
theorem dX4_wrongPairs_39 : decode cX4_wrongPairs 39 = .ok (.iconst 0, 1) := dk_3 (dk_at dksX4_wrongPairs_1 15 rfl rfl)
theorem dX4_wrongPairs_40 : decode cX4_wrongPairs 40 = .ok (.istore 5, 2) := dk_54 5 (dk_at dksX4_wrongPairs_1 16 rfl rfl)
theorem dX4_wrongPairs_42 : decode cX4_wrongPairs 42 = .ok (.iload 5, 2) := dk_21 5 (dk_at dksX4_wrongPairs_1 18 rfl rfl)
theorem dX4_wrongPairs_44 : decode cX4_wrongPairs 44 = .ok (.iload_n 3, 1) := dk_29 (dk_at dksX4_wrongPairs_1 20 rfl rfl)
theorem dX4_wrongPairs_45 : decode cX4_wrongPairs 45 = .ok (.if_icmp .ge 55, 3) := dk_162 0 55 (dk_at dksX4_wrongPairs_1 21 rfl rfl)
theorem dX4_wrongPairs_48 : decode cX4_wrongPairs 48 = .ok (.aload_n 0, 1) := dk_42 (dk_at dksX4_wrongPairs_2 0 rfl rfl)
theorem dX4_wrongPairs_49 : decode cX4_wrongPairs 49 = .ok (.getfield 46, 3) := dk_180 0 46 (dk_at dksX4_wrongPairs_2 1 rfl rfl)
theorem dX4_wrongPairs_52 : decode cX4_wrongPairs 52 = .ok (.bipush 100, 2) := dk_16 100 (dk_at dksX4_wrongPairs_2 4 rfl rfl)
theorem dX4_wrongPairs_54 : decode cX4_wrongPairs 54 = .ok (.iload_n 1, 1) := dk_27 (dk_at dksX4_wrongPairs_2 6 rfl rfl)
theorem dX4_wrongPairs_55 : decode cX4_wrongPairs 55 = .ok (.imul, 1) := dk_104 (dk_at dksX4_wrongPairs_2 7 rfl rfl)
theorem dX4_wrongPairs_56 : decode cX4_wrongPairs 56 = .ok (.iload 5, 2) := dk_21 5 (dk_at dksX4_wrongPairs_2 8 rfl rfl)
theorem dX4_wrongPairs_58 : decode cX4_wrongPairs 58 = .ok (.iadd, 1) := dk_96 (dk_at dksX4_wrongPairs_2 10 rfl rfl)
theorem dX4_wrongPairs_59 : decode cX4_wrongPairs 59 = .ok (.iaload, 1) := dk_46 (dk_at dksX4_wrongPairs_2 11 rfl rfl)
theorem dX4_wrongPairs_60 : decode cX4_wrongPairs 60 = .ok (.istore 6, 2) := dk_54 6 (dk_at dksX4_wrongPairs_2 12 rfl rfl)
theorem dX4_wrongPairs_62 : decode cX4_wrongPairs 62 = .ok (.aload_n 0, 1) := dk_42 (dk_at dksX4_wrongPairs_2 14 rfl rfl)
theorem dX4_wrongPairs_63 : decode cX4_wrongPairs 63 = .ok (.iload 6, 2) := dk_21 6 (dk_at dksX4_wrongPairs_2 15 rfl rfl)
theorem dX4_wrongPairs_65 : decode cX4_wrongPairs 65 = .ok (.invokevirtual 121, 3) := dk_182 0 121 (dk_at dksX4_wrongPairs_2 17 rfl rfl)
theorem dX4_wrongPairs_68 : decode cX4_wrongPairs 68 = .ok (.ifCond .eq 14, 3) := dk_153 0 14 (dk_at dksX4_wrongPairs_2 20 rfl rfl)
theorem dX4_wrongPairs_71 : decode cX4_wrongPairs 71 = .ok (.iload 4, 2) := dk_21 4 (dk_at dksX4_wrongPairs_3 0 rfl rfl)
theorem dX4_wrongPairs_73 : decode cX4_wrongPairs 73 = .ok (.iload 6, 2) := dk_21 6 (dk_at dksX4_wrongPairs_3 2 rfl rfl)
theorem dX4_wrongPairs_75 : decode cX4_wrongPairs 75 = .ok (.ishr, 1) := dk_122 (dk_at dksX4_wrongPairs_3 4 rfl rfl)
theorem dX4_wrongPairs_76 : decode cX4_wrongPairs 76 = .ok (.iconst 1, 1) := dk_4 (dk_at dksX4_wrongPairs_3 5 rfl rfl)
theorem dX4_wrongPairs_77 : decode cX4_wrongPairs 77 = .ok (.iand, 1) := dk_126 (dk_at dksX4_wrongPairs_3 6 rfl rfl)
theorem dX4_wrongPairs_78 : decode cX4_wrongPairs 78 = .ok (.iconst 1, 1) := dk_4 (dk_at dksX4_wrongPairs_3 7 rfl rfl)
theorem dX4_wrongPairs_79 : decode cX4_wrongPairs 79 = .ok (.if_icmp .ne 6, 3) := dk_160 0 6 (dk_at dksX4_wrongPairs_3 8 rfl rfl)
theorem dX4_wrongPairs_82 : decode cX4_wrongPairs 82 = .ok (.bipush (-13), 2) := dk_16 243 (dk_at dksX4_wrongPairs_3 11 rfl rfl)
theorem dX4_wrongPairs_84 : decode cX4_wrongPairs 84 = .ok (.ireturn, 1) := dk_172 (dk_at dksX4_wrongPairs_3 13 rfl rfl)
theorem dX4_wrongPairs_85 : decode cX4_wrongPairs 85 = .ok (.iload 4, 2) := dk_21 4 (dk_at dksX4_wrongPairs_3 14 rfl rfl)
theorem dX4_wrongPairs_87 : decode cX4_wrongPairs 87 = .ok (.iconst 1, 1) := dk_4 (dk_at dksX4_wrongPairs_3 16 rfl rfl)
theorem dX4_wrongPairs_88 : decode cX4_wrongPairs 88 = .ok (.iload 6, 2) := dk_21 6 (dk_at dksX4_wrongPairs_3 17 rfl rfl)
theorem dX4_wrongPairs_90 : decode cX4_wrongPairs 90 = .ok (.ishl, 1) := dk_120 (dk_at dksX4_wrongPairs_3 19 rfl rfl)
theorem dX4_wrongPairs_91 : decode cX4_wrongPairs 91 = .ok (.ior, 1) := dk_128 (dk_at dksX4_wrongPairs_3 20 rfl rfl)
theorem dX4_wrongPairs_92 : decode cX4_wrongPairs 92 = .ok (.istore 4, 2) := dk_54 4 (dk_at dksX4_wrongPairs_3 21 rfl rfl)
theorem dX4_wrongPairs_94 : decode cX4_wrongPairs 94 = .ok (.iinc 5 1, 3) := dk_132 5 1 (dk_at dksX4_wrongPairs_4 0 rfl rfl)
theorem dX4_wrongPairs_97 : decode cX4_wrongPairs 97 = .ok (.goto (-55), 3) := dk_167 255 201 (dk_at dksX4_wrongPairs_4 3 rfl rfl)
theorem dX4_wrongPairs_100 : decode cX4_wrongPairs 100 = .ok (.iconst 0, 1) := dk_3 (dk_at dksX4_wrongPairs_4 6 rfl rfl)
theorem dX4_wrongPairs_101 : decode cX4_wrongPairs 101 = .ok (.istore 5, 2) := dk_54 5 (dk_at dksX4_wrongPairs_4 7 rfl rfl)
theorem dX4_wrongPairs_103 : decode cX4_wrongPairs 103 = .ok (.iload 5, 2) := dk_21 5 (dk_at dksX4_wrongPairs_4 9 rfl rfl)
theorem dX4_wrongPairs_105 : decode cX4_wrongPairs 105 = .ok (.iload_n 3, 1) := dk_29 (dk_at dksX4_wrongPairs_4 11 rfl rfl)
theorem dX4_wrongPairs_106 : decode cX4_wrongPairs 106 = .ok (.if_icmp .ge 48, 3) := dk_162 0 48 (dk_at dksX4_wrongPairs_4 12 rfl rfl)
theorem dX4_wrongPairs_109 : decode cX4_wrongPairs 109 = .ok (.aload_n 0, 1) := dk_42 (dk_at dksX4_wrongPairs_4 15 rfl rfl)
theorem dX4_wrongPairs_110 : decode cX4_wrongPairs 110 = .ok (.getfield 9, 3) := dk_180 0 9 (dk_at dksX4_wrongPairs_4 16 rfl rfl)
theorem dX4_wrongPairs_113 : decode cX4_wrongPairs 113 = .ok (.aload_n 0, 1) := dk_42 (dk_at dksX4_wrongPairs_4 19 rfl rfl)
theorem dX4_wrongPairs_114 : decode cX4_wrongPairs 114 = .ok (.getfield 46, 3) := dk_180 0 46 (dk_at dksX4_wrongPairs_4 20 rfl rfl)
theorem dX4_wrongPairs_117 : decode cX4_wrongPairs 117 = .ok (.bipush 100, 2) := dk_16 100 (dk_at dksX4_wrongPairs_5 0 rfl rfl)
theorem dX4_wrongPairs_119 : decode cX4_wrongPairs 119 = .ok (.iload_n 1, 1) := dk_27 (dk_at dksX4_wrongPairs_5 2 rfl rfl)
theorem dX4_wrongPairs_120 : decode cX4_wrongPairs 120 = .ok (.imul, 1) := dk_104 (dk_at dksX4_wrongPairs_5 3 rfl rfl)
theorem dX4_wrongPairs_121 : decode cX4_wrongPairs 121 = .ok (.iload 5, 2) := dk_21 5 (dk_at dksX4_wrongPairs_5 4 rfl rfl)
theorem dX4_wrongPairs_123 : decode cX4_wrongPairs 123 = .ok (.iadd, 1) := dk_96 (dk_at dksX4_wrongPairs_5 6 rfl rfl)
theorem dX4_wrongPairs_124 : decode cX4_wrongPairs 124 = .ok (.iaload, 1) := dk_46 (dk_at dksX4_wrongPairs_5 7 rfl rfl)
theorem dX4_wrongPairs_125 : decode cX4_wrongPairs 125 = .ok (.aload_n 0, 1) := dk_42 (dk_at dksX4_wrongPairs_5 8 rfl rfl)
theorem dX4_wrongPairs_126 : decode cX4_wrongPairs 126 = .ok (.getfield 46, 3) := dk_180 0 46 (dk_at dksX4_wrongPairs_5 9 rfl rfl)
theorem dX4_wrongPairs_129 : decode cX4_wrongPairs 129 = .ok (.bipush 100, 2) := dk_16 100 (dk_at dksX4_wrongPairs_5 12 rfl rfl)
theorem dX4_wrongPairs_131 : decode cX4_wrongPairs 131 = .ok (.iload_n 1, 1) := dk_27 (dk_at dksX4_wrongPairs_5 14 rfl rfl)
theorem dX4_wrongPairs_132 : decode cX4_wrongPairs 132 = .ok (.imul, 1) := dk_104 (dk_at dksX4_wrongPairs_5 15 rfl rfl)
theorem dX4_wrongPairs_133 : decode cX4_wrongPairs 133 = .ok (.iload 5, 2) := dk_21 5 (dk_at dksX4_wrongPairs_5 16 rfl rfl)
theorem dX4_wrongPairs_135 : decode cX4_wrongPairs 135 = .ok (.iadd, 1) := dk_96 (dk_at dksX4_wrongPairs_5 18 rfl rfl)
theorem dX4_wrongPairs_136 : decode cX4_wrongPairs 136 = .ok (.iconst 1, 1) := dk_4 (dk_at dksX4_wrongPairs_5 19 rfl rfl)
theorem dX4_wrongPairs_137 : decode cX4_wrongPairs 137 = .ok (.iadd, 1) := dk_96 (dk_at dksX4_wrongPairs_5 20 rfl rfl)
theorem dX4_wrongPairs_138 : decode cX4_wrongPairs 138 = .ok (.iaload, 1) := dk_46 (dk_at dksX4_wrongPairs_5 21 rfl rfl)
theorem dX4_wrongPairs_139 : decode cX4_wrongPairs 139 = .ok (.invokestatic 91, 3) := dk_184 0 91 (dk_at dksX4_wrongPairs_6 0 rfl rfl)
theorem dX4_wrongPairs_142 : decode cX4_wrongPairs 142 = .ok (.ifCond .ne 6, 3) := dk_154 0 6 (dk_at dksX4_wrongPairs_6 3 rfl rfl)
theorem dX4_wrongPairs_145 : decode cX4_wrongPairs 145 = .ok (.bipush (-13), 2) := dk_16 243 (dk_at dksX4_wrongPairs_6 6 rfl rfl)
theorem dX4_wrongPairs_147 : decode cX4_wrongPairs 147 = .ok (.ireturn, 1) := dk_172 (dk_at dksX4_wrongPairs_6 8 rfl rfl)
theorem dX4_wrongPairs_148 : decode cX4_wrongPairs 148 = .ok (.iinc 5 2, 3) := dk_132 5 2 (dk_at dksX4_wrongPairs_6 9 rfl rfl)
theorem dX4_wrongPairs_151 : decode cX4_wrongPairs 151 = .ok (.goto (-48), 3) := dk_167 255 208 (dk_at dksX4_wrongPairs_6 12 rfl rfl)
theorem dX4_wrongPairs_154 : decode cX4_wrongPairs 154 = .ok (.iconst 0, 1) := dk_3 (dk_at dksX4_wrongPairs_6 15 rfl rfl)
theorem dX4_wrongPairs_155 : decode cX4_wrongPairs 155 = .ok (.ireturn, 1) := dk_172 (dk_at dksX4_wrongPairs_6 16 rfl rfl)
abbrev cX4_throat : ByteArray := prog_21_method_51_code
def yX4_throat : MethodName := ⟨RX4, "throat", "(IIII)I"⟩
def dkwX4_throat_7 : List UInt8 := [167, 0, 8, 21, 6, 184, 0, 167, 172]
abbrev dktX4_throat_7 : List UInt8 := dkwX4_throat_7 ++ []
def dkwX4_throat_6 : List UInt8 := [21, 7, 120, 167, 0, 4, 3, 128, 54, 6, 132, 7, 1, 167, 255, 155, 21, 4, 154, 0, 8, 21, 6]
abbrev dktX4_throat_6 : List UInt8 := dkwX4_throat_6 ++ dktX4_throat_7
def dkwX4_throat_5 : List UInt8 := [54, 9, 21, 8, 21, 11, 100, 54, 8, 132, 10, 1, 167, 255, 195, 21, 6, 21, 9, 153, 0, 10, 4]
abbrev dktX4_throat_5 : List UInt8 := dkwX4_throat_5 ++ dktX4_throat_6
def dkwX4_throat_4 : List UInt8 := [42, 180, 0, 46, 16, 100, 27, 104, 21, 10, 96, 46, 21, 11, 160, 0, 7, 4, 167, 0, 4, 3, 126]
abbrev dktX4_throat_4 : List UInt8 := dkwX4_throat_4 ++ dktX4_throat_5
def dkwX4_throat_3 : List UInt8 := [42, 180, 0, 43, 27, 46, 162, 0, 56, 21, 8, 21, 7, 29, 184, 0, 57, 184, 0, 60, 54, 11, 21, 9]
abbrev dktX4_throat_3 : List UInt8 := dkwX4_throat_3 ++ dktX4_throat_4
def dkwX4_throat_2 : List UInt8 := [3, 54, 6, 3, 54, 7, 21, 7, 16, 8, 162, 0, 100, 28, 54, 8, 4, 54, 9, 3, 54, 10, 21, 10]
abbrev dktX4_throat_2 : List UInt8 := dkwX4_throat_2 ++ dktX4_throat_3
def dkwX4_throat_1 : List UInt8 := [184, 0, 49, 154, 0, 5, 2, 172, 42, 27, 2, 182, 0, 128, 54, 5, 21, 5, 153, 0, 6, 21, 5, 172]
abbrev dktX4_throat_1 : List UInt8 := dkwX4_throat_1 ++ dktX4_throat_2
def dkwX4_throat_0 : List UInt8 := [28, 3, 16, 30, 184, 0, 49, 153, 0, 23, 29, 3, 16, 9, 184, 0, 49, 153, 0, 13, 21, 4, 3, 4]
abbrev dktX4_throat_0 : List UInt8 := dkwX4_throat_0 ++ dktX4_throat_1
theorem dksX4_throat_0 : cX4_throat.data.toList.drop 0 = dktX4_throat_0 := by decide +kernel
theorem dksX4_throat_1 : cX4_throat.data.toList.drop 24 = dktX4_throat_1 := dk_seg dksX4_throat_0 24 rfl rfl
theorem dksX4_throat_2 : cX4_throat.data.toList.drop 48 = dktX4_throat_2 := dk_seg dksX4_throat_1 24 rfl rfl
theorem dksX4_throat_3 : cX4_throat.data.toList.drop 72 = dktX4_throat_3 := dk_seg dksX4_throat_2 24 rfl rfl
theorem dksX4_throat_4 : cX4_throat.data.toList.drop 96 = dktX4_throat_4 := dk_seg dksX4_throat_3 24 rfl rfl
theorem dksX4_throat_5 : cX4_throat.data.toList.drop 119 = dktX4_throat_5 := dk_seg dksX4_throat_4 23 rfl rfl
theorem dksX4_throat_6 : cX4_throat.data.toList.drop 142 = dktX4_throat_6 := dk_seg dksX4_throat_5 23 rfl rfl
theorem dksX4_throat_7 : cX4_throat.data.toList.drop 165 = dktX4_throat_7 := dk_seg dksX4_throat_6 23 rfl rfl
theorem dX4_throat_0 : decode cX4_throat 0 = .ok (.iload_n 2, 1) := dk_28 (dk_at dksX4_throat_0 0 rfl rfl)
theorem dX4_throat_1 : decode cX4_throat 1 = .ok (.iconst 0, 1) := dk_3 (dk_at dksX4_throat_0 1 rfl rfl)
theorem dX4_throat_2 : decode cX4_throat 2 = .ok (.bipush 30, 2) := dk_16 30 (dk_at dksX4_throat_0 2 rfl rfl)
theorem dX4_throat_4 : decode cX4_throat 4 = .ok (.invokestatic 49, 3) := dk_184 0 49 (dk_at dksX4_throat_0 4 rfl rfl)
theorem dX4_throat_7 : decode cX4_throat 7 = .ok (.ifCond .eq 23, 3) := dk_153 0 23 (dk_at dksX4_throat_0 7 rfl rfl)
theorem dX4_throat_10 : decode cX4_throat 10 = .ok (.iload_n 3, 1) := dk_29 (dk_at dksX4_throat_0 10 rfl rfl)
theorem dX4_throat_11 : decode cX4_throat 11 = .ok (.iconst 0, 1) := dk_3 (dk_at dksX4_throat_0 11 rfl rfl)
theorem dX4_throat_12 : decode cX4_throat 12 = .ok (.bipush 9, 2) := dk_16 9 (dk_at dksX4_throat_0 12 rfl rfl)
theorem dX4_throat_14 : decode cX4_throat 14 = .ok (.invokestatic 49, 3) := dk_184 0 49 (dk_at dksX4_throat_0 14 rfl rfl)
theorem dX4_throat_17 : decode cX4_throat 17 = .ok (.ifCond .eq 13, 3) := dk_153 0 13 (dk_at dksX4_throat_0 17 rfl rfl)
theorem dX4_throat_20 : decode cX4_throat 20 = .ok (.iload 4, 2) := dk_21 4 (dk_at dksX4_throat_0 20 rfl rfl)
theorem dX4_throat_22 : decode cX4_throat 22 = .ok (.iconst 0, 1) := dk_3 (dk_at dksX4_throat_0 22 rfl rfl)
theorem dX4_throat_23 : decode cX4_throat 23 = .ok (.iconst 1, 1) := dk_4 (dk_at dksX4_throat_0 23 rfl rfl)
theorem dX4_throat_24 : decode cX4_throat 24 = .ok (.invokestatic 49, 3) := dk_184 0 49 (dk_at dksX4_throat_1 0 rfl rfl)
theorem dX4_throat_27 : decode cX4_throat 27 = .ok (.ifCond .ne 5, 3) := dk_154 0 5 (dk_at dksX4_throat_1 3 rfl rfl)
theorem dX4_throat_30 : decode cX4_throat 30 = .ok (.iconst (-1), 1) := dk_2 (dk_at dksX4_throat_1 6 rfl rfl)
theorem dX4_throat_31 : decode cX4_throat 31 = .ok (.ireturn, 1) := dk_172 (dk_at dksX4_throat_1 7 rfl rfl)
theorem dX4_throat_32 : decode cX4_throat 32 = .ok (.aload_n 0, 1) := dk_42 (dk_at dksX4_throat_1 8 rfl rfl)
theorem dX4_throat_33 : decode cX4_throat 33 = .ok (.iload_n 1, 1) := dk_27 (dk_at dksX4_throat_1 9 rfl rfl)
theorem dX4_throat_34 : decode cX4_throat 34 = .ok (.iconst (-1), 1) := dk_2 (dk_at dksX4_throat_1 10 rfl rfl)
theorem dX4_throat_35 : decode cX4_throat 35 = .ok (.invokevirtual 128, 3) := dk_182 0 128 (dk_at dksX4_throat_1 11 rfl rfl)
theorem dX4_throat_38 : decode cX4_throat 38 = .ok (.istore 5, 2) := dk_54 5 (dk_at dksX4_throat_1 14 rfl rfl)
theorem dX4_throat_40 : decode cX4_throat 40 = .ok (.iload 5, 2) := dk_21 5 (dk_at dksX4_throat_1 16 rfl rfl)
theorem dX4_throat_42 : decode cX4_throat 42 = .ok (.ifCond .eq 6, 3) := dk_153 0 6 (dk_at dksX4_throat_1 18 rfl rfl)
theorem dX4_throat_45 : decode cX4_throat 45 = .ok (.iload 5, 2) := dk_21 5 (dk_at dksX4_throat_1 21 rfl rfl)
theorem dX4_throat_47 : decode cX4_throat 47 = .ok (.ireturn, 1) := dk_172 (dk_at dksX4_throat_1 23 rfl rfl)
theorem dX4_throat_48 : decode cX4_throat 48 = .ok (.iconst 0, 1) := dk_3 (dk_at dksX4_throat_2 0 rfl rfl)
theorem dX4_throat_49 : decode cX4_throat 49 = .ok (.istore 6, 2) := dk_54 6 (dk_at dksX4_throat_2 1 rfl rfl)
theorem dX4_throat_51 : decode cX4_throat 51 = .ok (.iconst 0, 1) := dk_3 (dk_at dksX4_throat_2 3 rfl rfl)
theorem dX4_throat_52 : decode cX4_throat 52 = .ok (.istore 7, 2) := dk_54 7 (dk_at dksX4_throat_2 4 rfl rfl)
theorem dX4_throat_54 : decode cX4_throat 54 = .ok (.iload 7, 2) := dk_21 7 (dk_at dksX4_throat_2 6 rfl rfl)
theorem dX4_throat_56 : decode cX4_throat 56 = .ok (.bipush 8, 2) := dk_16 8 (dk_at dksX4_throat_2 8 rfl rfl)
theorem dX4_throat_58 : decode cX4_throat 58 = .ok (.if_icmp .ge 100, 3) := dk_162 0 100 (dk_at dksX4_throat_2 10 rfl rfl)
theorem dX4_throat_61 : decode cX4_throat 61 = .ok (.iload_n 2, 1) := dk_28 (dk_at dksX4_throat_2 13 rfl rfl)
theorem dX4_throat_62 : decode cX4_throat 62 = .ok (.istore 8, 2) := dk_54 8 (dk_at dksX4_throat_2 14 rfl rfl)
theorem dX4_throat_64 : decode cX4_throat 64 = .ok (.iconst 1, 1) := dk_4 (dk_at dksX4_throat_2 16 rfl rfl)
theorem dX4_throat_65 : decode cX4_throat 65 = .ok (.istore 9, 2) := dk_54 9 (dk_at dksX4_throat_2 17 rfl rfl)
theorem dX4_throat_67 : decode cX4_throat 67 = .ok (.iconst 0, 1) := dk_3 (dk_at dksX4_throat_2 19 rfl rfl)
theorem dX4_throat_68 : decode cX4_throat 68 = .ok (.istore 10, 2) := dk_54 10 (dk_at dksX4_throat_2 20 rfl rfl)
theorem dX4_throat_70 : decode cX4_throat 70 = .ok (.iload 10, 2) := dk_21 10 (dk_at dksX4_throat_2 22 rfl rfl)
theorem dX4_throat_72 : decode cX4_throat 72 = .ok (.aload_n 0, 1) := dk_42 (dk_at dksX4_throat_3 0 rfl rfl)
theorem dX4_throat_73 : decode cX4_throat 73 = .ok (.getfield 43, 3) := dk_180 0 43 (dk_at dksX4_throat_3 1 rfl rfl)
theorem dX4_throat_76 : decode cX4_throat 76 = .ok (.iload_n 1, 1) := dk_27 (dk_at dksX4_throat_3 4 rfl rfl)
theorem dX4_throat_77 : decode cX4_throat 77 = .ok (.iaload, 1) := dk_46 (dk_at dksX4_throat_3 5 rfl rfl)
theorem dX4_throat_78 : decode cX4_throat 78 = .ok (.if_icmp .ge 56, 3) := dk_162 0 56 (dk_at dksX4_throat_3 6 rfl rfl)
theorem dX4_throat_81 : decode cX4_throat 81 = .ok (.iload 8, 2) := dk_21 8 (dk_at dksX4_throat_3 9 rfl rfl)
theorem dX4_throat_83 : decode cX4_throat 83 = .ok (.iload 7, 2) := dk_21 7 (dk_at dksX4_throat_3 11 rfl rfl)
theorem dX4_throat_85 : decode cX4_throat 85 = .ok (.iload_n 3, 1) := dk_29 (dk_at dksX4_throat_3 13 rfl rfl)
theorem dX4_throat_86 : decode cX4_throat 86 = .ok (.invokestatic 57, 3) := dk_184 0 57 (dk_at dksX4_throat_3 14 rfl rfl)
theorem dX4_throat_89 : decode cX4_throat 89 = .ok (.invokestatic 60, 3) := dk_184 0 60 (dk_at dksX4_throat_3 17 rfl rfl)
theorem dX4_throat_92 : decode cX4_throat 92 = .ok (.istore 11, 2) := dk_54 11 (dk_at dksX4_throat_3 20 rfl rfl)
theorem dX4_throat_94 : decode cX4_throat 94 = .ok (.iload 9, 2) := dk_21 9 (dk_at dksX4_throat_3 22 rfl rfl)
theorem dX4_throat_96 : decode cX4_throat 96 = .ok (.aload_n 0, 1) := dk_42 (dk_at dksX4_throat_4 0 rfl rfl)
theorem dX4_throat_97 : decode cX4_throat 97 = .ok (.getfield 46, 3) := dk_180 0 46 (dk_at dksX4_throat_4 1 rfl rfl)
theorem dX4_throat_100 : decode cX4_throat 100 = .ok (.bipush 100, 2) := dk_16 100 (dk_at dksX4_throat_4 4 rfl rfl)
theorem dX4_throat_102 : decode cX4_throat 102 = .ok (.iload_n 1, 1) := dk_27 (dk_at dksX4_throat_4 6 rfl rfl)
theorem dX4_throat_103 : decode cX4_throat 103 = .ok (.imul, 1) := dk_104 (dk_at dksX4_throat_4 7 rfl rfl)
theorem dX4_throat_104 : decode cX4_throat 104 = .ok (.iload 10, 2) := dk_21 10 (dk_at dksX4_throat_4 8 rfl rfl)
theorem dX4_throat_106 : decode cX4_throat 106 = .ok (.iadd, 1) := dk_96 (dk_at dksX4_throat_4 10 rfl rfl)
theorem dX4_throat_107 : decode cX4_throat 107 = .ok (.iaload, 1) := dk_46 (dk_at dksX4_throat_4 11 rfl rfl)
theorem dX4_throat_108 : decode cX4_throat 108 = .ok (.iload 11, 2) := dk_21 11 (dk_at dksX4_throat_4 12 rfl rfl)
theorem dX4_throat_110 : decode cX4_throat 110 = .ok (.if_icmp .ne 7, 3) := dk_160 0 7 (dk_at dksX4_throat_4 14 rfl rfl)
theorem dX4_throat_113 : decode cX4_throat 113 = .ok (.iconst 1, 1) := dk_4 (dk_at dksX4_throat_4 17 rfl rfl)
theorem dX4_throat_114 : decode cX4_throat 114 = .ok (.goto 4, 3) := dk_167 0 4 (dk_at dksX4_throat_4 18 rfl rfl)
theorem dX4_throat_117 : decode cX4_throat 117 = .ok (.iconst 0, 1) := dk_3 (dk_at dksX4_throat_4 21 rfl rfl)
theorem dX4_throat_118 : decode cX4_throat 118 = .ok (.iand, 1) := dk_126 (dk_at dksX4_throat_4 22 rfl rfl)
theorem dX4_throat_119 : decode cX4_throat 119 = .ok (.istore 9, 2) := dk_54 9 (dk_at dksX4_throat_5 0 rfl rfl)
theorem dX4_throat_121 : decode cX4_throat 121 = .ok (.iload 8, 2) := dk_21 8 (dk_at dksX4_throat_5 2 rfl rfl)
theorem dX4_throat_123 : decode cX4_throat 123 = .ok (.iload 11, 2) := dk_21 11 (dk_at dksX4_throat_5 4 rfl rfl)
theorem dX4_throat_125 : decode cX4_throat 125 = .ok (.isub, 1) := dk_100 (dk_at dksX4_throat_5 6 rfl rfl)
theorem dX4_throat_126 : decode cX4_throat 126 = .ok (.istore 8, 2) := dk_54 8 (dk_at dksX4_throat_5 7 rfl rfl)
theorem dX4_throat_128 : decode cX4_throat 128 = .ok (.iinc 10 1, 3) := dk_132 10 1 (dk_at dksX4_throat_5 9 rfl rfl)
theorem dX4_throat_131 : decode cX4_throat 131 = .ok (.goto (-61), 3) := dk_167 255 195 (dk_at dksX4_throat_5 12 rfl rfl)
theorem dX4_throat_134 : decode cX4_throat 134 = .ok (.iload 6, 2) := dk_21 6 (dk_at dksX4_throat_5 15 rfl rfl)
theorem dX4_throat_136 : decode cX4_throat 136 = .ok (.iload 9, 2) := dk_21 9 (dk_at dksX4_throat_5 17 rfl rfl)
theorem dX4_throat_138 : decode cX4_throat 138 = .ok (.ifCond .eq 10, 3) := dk_153 0 10 (dk_at dksX4_throat_5 19 rfl rfl)
theorem dX4_throat_141 : decode cX4_throat 141 = .ok (.iconst 1, 1) := dk_4 (dk_at dksX4_throat_5 22 rfl rfl)
theorem dX4_throat_142 : decode cX4_throat 142 = .ok (.iload 7, 2) := dk_21 7 (dk_at dksX4_throat_6 0 rfl rfl)
theorem dX4_throat_144 : decode cX4_throat 144 = .ok (.ishl, 1) := dk_120 (dk_at dksX4_throat_6 2 rfl rfl)
theorem dX4_throat_145 : decode cX4_throat 145 = .ok (.goto 4, 3) := dk_167 0 4 (dk_at dksX4_throat_6 3 rfl rfl)
theorem dX4_throat_148 : decode cX4_throat 148 = .ok (.iconst 0, 1) := dk_3 (dk_at dksX4_throat_6 6 rfl rfl)
theorem dX4_throat_149 : decode cX4_throat 149 = .ok (.ior, 1) := dk_128 (dk_at dksX4_throat_6 7 rfl rfl)
theorem dX4_throat_150 : decode cX4_throat 150 = .ok (.istore 6, 2) := dk_54 6 (dk_at dksX4_throat_6 8 rfl rfl)
theorem dX4_throat_152 : decode cX4_throat 152 = .ok (.iinc 7 1, 3) := dk_132 7 1 (dk_at dksX4_throat_6 10 rfl rfl)
theorem dX4_throat_155 : decode cX4_throat 155 = .ok (.goto (-101), 3) := dk_167 255 155 (dk_at dksX4_throat_6 13 rfl rfl)
theorem dX4_throat_158 : decode cX4_throat 158 = .ok (.iload 4, 2) := dk_21 4 (dk_at dksX4_throat_6 16 rfl rfl)
theorem dX4_throat_160 : decode cX4_throat 160 = .ok (.ifCond .ne 8, 3) := dk_154 0 8 (dk_at dksX4_throat_6 18 rfl rfl)
theorem dX4_throat_163 : decode cX4_throat 163 = .ok (.iload 6, 2) := dk_21 6 (dk_at dksX4_throat_6 21 rfl rfl)
theorem dX4_throat_165 : decode cX4_throat 165 = .ok (.goto 8, 3) := dk_167 0 8 (dk_at dksX4_throat_7 0 rfl rfl)
theorem dX4_throat_168 : decode cX4_throat 168 = .ok (.iload 6, 2) := dk_21 6 (dk_at dksX4_throat_7 3 rfl rfl)
theorem dX4_throat_170 : decode cX4_throat 170 = .ok (.invokestatic 167, 3) := dk_184 0 167 (dk_at dksX4_throat_7 5 rfl rfl)
theorem dX4_throat_173 : decode cX4_throat 173 = .ok (.ireturn, 1) := dk_172 (dk_at dksX4_throat_7 8 rfl rfl)
abbrev cX4_bits : ByteArray := prog_21_method_8_code
def yX4_bits : MethodName := ⟨RX4, "bits", "(I)I"⟩
def dkwX4_bits_1 : List UInt8 := [27, 172]
abbrev dktX4_bits_1 : List UInt8 := dkwX4_bits_1 ++ []
def dkwX4_bits_0 : List UInt8 := [3, 60, 3, 61, 28, 16, 10, 162, 0, 17, 27, 26, 28, 122, 4, 126, 96, 60, 132, 2, 1, 167, 255, 239]
abbrev dktX4_bits_0 : List UInt8 := dkwX4_bits_0 ++ dktX4_bits_1
theorem dksX4_bits_0 : cX4_bits.data.toList.drop 0 = dktX4_bits_0 := by decide +kernel
theorem dksX4_bits_1 : cX4_bits.data.toList.drop 24 = dktX4_bits_1 := dk_seg dksX4_bits_0 24 rfl rfl
theorem dX4_bits_0 : decode cX4_bits 0 = .ok (.iconst 0, 1) := dk_3 (dk_at dksX4_bits_0 0 rfl rfl)
theorem dX4_bits_1 : decode cX4_bits 1 = .ok (.istore_n 1, 1) := dk_60 (dk_at dksX4_bits_0 1 rfl rfl)
theorem dX4_bits_2 : decode cX4_bits 2 = .ok (.iconst 0, 1) := dk_3 (dk_at dksX4_bits_0 2 rfl rfl)
theorem dX4_bits_3 : decode cX4_bits 3 = .ok (.istore_n 2, 1) := dk_61 (dk_at dksX4_bits_0 3 rfl rfl)
theorem dX4_bits_4 : decode cX4_bits 4 = .ok (.iload_n 2, 1) := dk_28 (dk_at dksX4_bits_0 4 rfl rfl)
theorem dX4_bits_5 : decode cX4_bits 5 = .ok (.bipush 10, 2) := dk_16 10 (dk_at dksX4_bits_0 5 rfl rfl)
theorem dX4_bits_7 : decode cX4_bits 7 = .ok (.if_icmp .ge 17, 3) := dk_162 0 17 (dk_at dksX4_bits_0 7 rfl rfl)
theorem dX4_bits_10 : decode cX4_bits 10 = .ok (.iload_n 1, 1) := dk_27 (dk_at dksX4_bits_0 10 rfl rfl)
theorem dX4_bits_11 : decode cX4_bits 11 = .ok (.iload_n 0, 1) := dk_26 (dk_at dksX4_bits_0 11 rfl rfl)
theorem dX4_bits_12 : decode cX4_bits 12 = .ok (.iload_n 2, 1) := dk_28 (dk_at dksX4_bits_0 12 rfl rfl)
theorem dX4_bits_13 : decode cX4_bits 13 = .ok (.ishr, 1) := dk_122 (dk_at dksX4_bits_0 13 rfl rfl)
theorem dX4_bits_14 : decode cX4_bits 14 = .ok (.iconst 1, 1) := dk_4 (dk_at dksX4_bits_0 14 rfl rfl)
theorem dX4_bits_15 : decode cX4_bits 15 = .ok (.iand, 1) := dk_126 (dk_at dksX4_bits_0 15 rfl rfl)
theorem dX4_bits_16 : decode cX4_bits 16 = .ok (.iadd, 1) := dk_96 (dk_at dksX4_bits_0 16 rfl rfl)
theorem dX4_bits_17 : decode cX4_bits 17 = .ok (.istore_n 1, 1) := dk_60 (dk_at dksX4_bits_0 17 rfl rfl)
theorem dX4_bits_18 : decode cX4_bits 18 = .ok (.iinc 2 1, 3) := dk_132 2 1 (dk_at dksX4_bits_0 18 rfl rfl)
theorem dX4_bits_21 : decode cX4_bits 21 = .ok (.goto (-17), 3) := dk_167 255 239 (dk_at dksX4_bits_0 21 rfl rfl)
theorem dX4_bits_24 : decode cX4_bits 24 = .ok (.iload_n 1, 1) := dk_27 (dk_at dksX4_bits_1 0 rfl rfl)
theorem dX4_bits_25 : decode cX4_bits 25 = .ok (.ireturn, 1) := dk_172 (dk_at dksX4_bits_1 1 rfl rfl)
abbrev cX4_lastOnes : ByteArray := prog_21_method_52_code
def yX4_lastOnes : MethodName := ⟨RX4, "lastOnes", "(III)I"⟩
def dkwX4_lastOnes_2 : List UInt8 := [167, 0, 13, 21, 4, 158, 0, 7, 4, 167, 0, 4, 3, 172]
abbrev dktX4_lastOnes_2 : List UInt8 := dkwX4_lastOnes_2 ++ []
def dkwX4_lastOnes_1 : List UInt8 := [184, 0, 49, 154, 0, 5, 2, 172, 27, 28, 4, 96, 112, 54, 4, 29, 4, 160, 0, 8, 21, 4]
abbrev dktX4_lastOnes_1 : List UInt8 := dkwX4_lastOnes_1 ++ dktX4_lastOnes_2
def dkwX4_lastOnes_0 : List UInt8 := [27, 3, 16, 99, 184, 0, 49, 153, 0, 22, 28, 4, 16, 9, 184, 0, 49, 153, 0, 12, 29, 3, 4]
abbrev dktX4_lastOnes_0 : List UInt8 := dkwX4_lastOnes_0 ++ dktX4_lastOnes_1
theorem dksX4_lastOnes_0 : cX4_lastOnes.data.toList.drop 0 = dktX4_lastOnes_0 := by decide +kernel
theorem dksX4_lastOnes_1 : cX4_lastOnes.data.toList.drop 23 = dktX4_lastOnes_1 := dk_seg dksX4_lastOnes_0 23 rfl rfl
theorem dksX4_lastOnes_2 : cX4_lastOnes.data.toList.drop 45 = dktX4_lastOnes_2 := dk_seg dksX4_lastOnes_1 22 rfl rfl
theorem dX4_lastOnes_0 : decode cX4_lastOnes 0 = .ok (.iload_n 1, 1) := dk_27 (dk_at dksX4_lastOnes_0 0 rfl rfl)
theorem dX4_lastOnes_1 : decode cX4_lastOnes 1 = .ok (.iconst 0, 1) := dk_3 (dk_at dksX4_lastOnes_0 1 rfl rfl)
theorem dX4_lastOnes_2 : decode cX4_lastOnes 2 = .ok (.bipush 99, 2) := dk_16 99 (dk_at dksX4_lastOnes_0 2 rfl rfl)
theorem dX4_lastOnes_4 : decode cX4_lastOnes 4 = .ok (.invokestatic 49, 3) := dk_184 0 49 (dk_at dksX4_lastOnes_0 4 rfl rfl)
theorem dX4_lastOnes_7 : decode cX4_lastOnes 7 = .ok (.ifCond .eq 22, 3) := dk_153 0 22 (dk_at dksX4_lastOnes_0 7 rfl rfl)
theorem dX4_lastOnes_10 : decode cX4_lastOnes 10 = .ok (.iload_n 2, 1) := dk_28 (dk_at dksX4_lastOnes_0 10 rfl rfl)
theorem dX4_lastOnes_11 : decode cX4_lastOnes 11 = .ok (.iconst 1, 1) := dk_4 (dk_at dksX4_lastOnes_0 11 rfl rfl)
theorem dX4_lastOnes_12 : decode cX4_lastOnes 12 = .ok (.bipush 9, 2) := dk_16 9 (dk_at dksX4_lastOnes_0 12 rfl rfl)
theorem dX4_lastOnes_14 : decode cX4_lastOnes 14 = .ok (.invokestatic 49, 3) := dk_184 0 49 (dk_at dksX4_lastOnes_0 14 rfl rfl)
theorem dX4_lastOnes_17 : decode cX4_lastOnes 17 = .ok (.ifCond .eq 12, 3) := dk_153 0 12 (dk_at dksX4_lastOnes_0 17 rfl rfl)
theorem dX4_lastOnes_20 : decode cX4_lastOnes 20 = .ok (.iload_n 3, 1) := dk_29 (dk_at dksX4_lastOnes_0 20 rfl rfl)
theorem dX4_lastOnes_21 : decode cX4_lastOnes 21 = .ok (.iconst 0, 1) := dk_3 (dk_at dksX4_lastOnes_0 21 rfl rfl)
theorem dX4_lastOnes_22 : decode cX4_lastOnes 22 = .ok (.iconst 1, 1) := dk_4 (dk_at dksX4_lastOnes_0 22 rfl rfl)
theorem dX4_lastOnes_23 : decode cX4_lastOnes 23 = .ok (.invokestatic 49, 3) := dk_184 0 49 (dk_at dksX4_lastOnes_1 0 rfl rfl)
theorem dX4_lastOnes_26 : decode cX4_lastOnes 26 = .ok (.ifCond .ne 5, 3) := dk_154 0 5 (dk_at dksX4_lastOnes_1 3 rfl rfl)
theorem dX4_lastOnes_29 : decode cX4_lastOnes 29 = .ok (.iconst (-1), 1) := dk_2 (dk_at dksX4_lastOnes_1 6 rfl rfl)
theorem dX4_lastOnes_30 : decode cX4_lastOnes 30 = .ok (.ireturn, 1) := dk_172 (dk_at dksX4_lastOnes_1 7 rfl rfl)
theorem dX4_lastOnes_31 : decode cX4_lastOnes 31 = .ok (.iload_n 1, 1) := dk_27 (dk_at dksX4_lastOnes_1 8 rfl rfl)
theorem dX4_lastOnes_32 : decode cX4_lastOnes 32 = .ok (.iload_n 2, 1) := dk_28 (dk_at dksX4_lastOnes_1 9 rfl rfl)
theorem dX4_lastOnes_33 : decode cX4_lastOnes 33 = .ok (.iconst 1, 1) := dk_4 (dk_at dksX4_lastOnes_1 10 rfl rfl)
theorem dX4_lastOnes_34 : decode cX4_lastOnes 34 = .ok (.iadd, 1) := dk_96 (dk_at dksX4_lastOnes_1 11 rfl rfl)
theorem dX4_lastOnes_35 : decode cX4_lastOnes 35 = .ok (.irem, 1) := dk_112 (dk_at dksX4_lastOnes_1 12 rfl rfl)
theorem dX4_lastOnes_36 : decode cX4_lastOnes 36 = .ok (.istore 4, 2) := dk_54 4 (dk_at dksX4_lastOnes_1 13 rfl rfl)
theorem dX4_lastOnes_38 : decode cX4_lastOnes 38 = .ok (.iload_n 3, 1) := dk_29 (dk_at dksX4_lastOnes_1 15 rfl rfl)
theorem dX4_lastOnes_39 : decode cX4_lastOnes 39 = .ok (.iconst 1, 1) := dk_4 (dk_at dksX4_lastOnes_1 16 rfl rfl)
theorem dX4_lastOnes_40 : decode cX4_lastOnes 40 = .ok (.if_icmp .ne 8, 3) := dk_160 0 8 (dk_at dksX4_lastOnes_1 17 rfl rfl)
theorem dX4_lastOnes_43 : decode cX4_lastOnes 43 = .ok (.iload 4, 2) := dk_21 4 (dk_at dksX4_lastOnes_1 20 rfl rfl)
theorem dX4_lastOnes_45 : decode cX4_lastOnes 45 = .ok (.goto 13, 3) := dk_167 0 13 (dk_at dksX4_lastOnes_2 0 rfl rfl)
theorem dX4_lastOnes_48 : decode cX4_lastOnes 48 = .ok (.iload 4, 2) := dk_21 4 (dk_at dksX4_lastOnes_2 3 rfl rfl)
theorem dX4_lastOnes_50 : decode cX4_lastOnes 50 = .ok (.ifCond .le 7, 3) := dk_158 0 7 (dk_at dksX4_lastOnes_2 5 rfl rfl)
theorem dX4_lastOnes_53 : decode cX4_lastOnes 53 = .ok (.iconst 1, 1) := dk_4 (dk_at dksX4_lastOnes_2 8 rfl rfl)
theorem dX4_lastOnes_54 : decode cX4_lastOnes 54 = .ok (.goto 4, 3) := dk_167 0 4 (dk_at dksX4_lastOnes_2 9 rfl rfl)
theorem dX4_lastOnes_57 : decode cX4_lastOnes 57 = .ok (.iconst 0, 1) := dk_3 (dk_at dksX4_lastOnes_2 12 rfl rfl)
theorem dX4_lastOnes_58 : decode cX4_lastOnes 58 = .ok (.ireturn, 1) := dk_172 (dk_at dksX4_lastOnes_2 13 rfl rfl)
abbrev cX4_shares : ByteArray := prog_21_method_55_code
def yX4_shares : MethodName := ⟨RX4, "shares", "(I)I"⟩
def dkwX4_shares_2 : List UInt8 := [182, 0, 173, 100, 61, 132, 3, 1, 167, 255, 235, 28, 172]
abbrev dktX4_shares_2 : List UInt8 := dkwX4_shares_2 ++ []
def dkwX4_shares_1 : List UInt8 := [172, 42, 180, 0, 9, 4, 46, 61, 3, 62, 29, 42, 180, 0, 9, 3, 46, 162, 0, 17, 28, 42, 29]
abbrev dktX4_shares_1 : List UInt8 := dkwX4_shares_1 ++ dktX4_shares_2
def dkwX4_shares_0 : List UInt8 := [27, 2, 159, 0, 13, 42, 27, 182, 0, 121, 154, 0, 5, 2, 172, 27, 155, 0, 9, 42, 27, 182, 0, 173]
abbrev dktX4_shares_0 : List UInt8 := dkwX4_shares_0 ++ dktX4_shares_1
theorem dksX4_shares_0 : cX4_shares.data.toList.drop 0 = dktX4_shares_0 := by decide +kernel
theorem dksX4_shares_1 : cX4_shares.data.toList.drop 24 = dktX4_shares_1 := dk_seg dksX4_shares_0 24 rfl rfl
theorem dksX4_shares_2 : cX4_shares.data.toList.drop 47 = dktX4_shares_2 := dk_seg dksX4_shares_1 23 rfl rfl
theorem dX4_shares_0 : decode cX4_shares 0 = .ok (.iload_n 1, 1) := dk_27 (dk_at dksX4_shares_0 0 rfl rfl)
theorem dX4_shares_1 : decode cX4_shares 1 = .ok (.iconst (-1), 1) := dk_2 (dk_at dksX4_shares_0 1 rfl rfl)
theorem dX4_shares_2 : decode cX4_shares 2 = .ok (.if_icmp .eq 13, 3) := dk_159 0 13 (dk_at dksX4_shares_0 2 rfl rfl)
theorem dX4_shares_5 : decode cX4_shares 5 = .ok (.aload_n 0, 1) := dk_42 (dk_at dksX4_shares_0 5 rfl rfl)
theorem dX4_shares_6 : decode cX4_shares 6 = .ok (.iload_n 1, 1) := dk_27 (dk_at dksX4_shares_0 6 rfl rfl)
theorem dX4_shares_7 : decode cX4_shares 7 = .ok (.invokevirtual 121, 3) := dk_182 0 121 (dk_at dksX4_shares_0 7 rfl rfl)
theorem dX4_shares_10 : decode cX4_shares 10 = .ok (.ifCond .ne 5, 3) := dk_154 0 5 (dk_at dksX4_shares_0 10 rfl rfl)
theorem dX4_shares_13 : decode cX4_shares 13 = .ok (.iconst (-1), 1) := dk_2 (dk_at dksX4_shares_0 13 rfl rfl)
theorem dX4_shares_14 : decode cX4_shares 14 = .ok (.ireturn, 1) := dk_172 (dk_at dksX4_shares_0 14 rfl rfl)
theorem dX4_shares_15 : decode cX4_shares 15 = .ok (.iload_n 1, 1) := dk_27 (dk_at dksX4_shares_0 15 rfl rfl)
theorem dX4_shares_16 : decode cX4_shares 16 = .ok (.ifCond .lt 9, 3) := dk_155 0 9 (dk_at dksX4_shares_0 16 rfl rfl)
theorem dX4_shares_19 : decode cX4_shares 19 = .ok (.aload_n 0, 1) := dk_42 (dk_at dksX4_shares_0 19 rfl rfl)
theorem dX4_shares_20 : decode cX4_shares 20 = .ok (.iload_n 1, 1) := dk_27 (dk_at dksX4_shares_0 20 rfl rfl)
theorem dX4_shares_21 : decode cX4_shares 21 = .ok (.invokevirtual 173, 3) := dk_182 0 173 (dk_at dksX4_shares_0 21 rfl rfl)
theorem dX4_shares_24 : decode cX4_shares 24 = .ok (.ireturn, 1) := dk_172 (dk_at dksX4_shares_1 0 rfl rfl)
theorem dX4_shares_25 : decode cX4_shares 25 = .ok (.aload_n 0, 1) := dk_42 (dk_at dksX4_shares_1 1 rfl rfl)
theorem dX4_shares_26 : decode cX4_shares 26 = .ok (.getfield 9, 3) := dk_180 0 9 (dk_at dksX4_shares_1 2 rfl rfl)
theorem dX4_shares_29 : decode cX4_shares 29 = .ok (.iconst 1, 1) := dk_4 (dk_at dksX4_shares_1 5 rfl rfl)
theorem dX4_shares_30 : decode cX4_shares 30 = .ok (.iaload, 1) := dk_46 (dk_at dksX4_shares_1 6 rfl rfl)
theorem dX4_shares_31 : decode cX4_shares 31 = .ok (.istore_n 2, 1) := dk_61 (dk_at dksX4_shares_1 7 rfl rfl)
theorem dX4_shares_32 : decode cX4_shares 32 = .ok (.iconst 0, 1) := dk_3 (dk_at dksX4_shares_1 8 rfl rfl)
theorem dX4_shares_33 : decode cX4_shares 33 = .ok (.istore_n 3, 1) := dk_62 (dk_at dksX4_shares_1 9 rfl rfl)
theorem dX4_shares_34 : decode cX4_shares 34 = .ok (.iload_n 3, 1) := dk_29 (dk_at dksX4_shares_1 10 rfl rfl)
theorem dX4_shares_35 : decode cX4_shares 35 = .ok (.aload_n 0, 1) := dk_42 (dk_at dksX4_shares_1 11 rfl rfl)
theorem dX4_shares_36 : decode cX4_shares 36 = .ok (.getfield 9, 3) := dk_180 0 9 (dk_at dksX4_shares_1 12 rfl rfl)
theorem dX4_shares_39 : decode cX4_shares 39 = .ok (.iconst 0, 1) := dk_3 (dk_at dksX4_shares_1 15 rfl rfl)
theorem dX4_shares_40 : decode cX4_shares 40 = .ok (.iaload, 1) := dk_46 (dk_at dksX4_shares_1 16 rfl rfl)
theorem dX4_shares_41 : decode cX4_shares 41 = .ok (.if_icmp .ge 17, 3) := dk_162 0 17 (dk_at dksX4_shares_1 17 rfl rfl)
theorem dX4_shares_44 : decode cX4_shares 44 = .ok (.iload_n 2, 1) := dk_28 (dk_at dksX4_shares_1 20 rfl rfl)
theorem dX4_shares_45 : decode cX4_shares 45 = .ok (.aload_n 0, 1) := dk_42 (dk_at dksX4_shares_1 21 rfl rfl)
theorem dX4_shares_46 : decode cX4_shares 46 = .ok (.iload_n 3, 1) := dk_29 (dk_at dksX4_shares_1 22 rfl rfl)
theorem dX4_shares_47 : decode cX4_shares 47 = .ok (.invokevirtual 173, 3) := dk_182 0 173 (dk_at dksX4_shares_2 0 rfl rfl)
theorem dX4_shares_50 : decode cX4_shares 50 = .ok (.isub, 1) := dk_100 (dk_at dksX4_shares_2 3 rfl rfl)
theorem dX4_shares_51 : decode cX4_shares 51 = .ok (.istore_n 2, 1) := dk_61 (dk_at dksX4_shares_2 4 rfl rfl)
theorem dX4_shares_52 : decode cX4_shares 52 = .ok (.iinc 3 1, 3) := dk_132 3 1 (dk_at dksX4_shares_2 5 rfl rfl)
theorem dX4_shares_55 : decode cX4_shares 55 = .ok (.goto (-21), 3) := dk_167 255 235 (dk_at dksX4_shares_2 8 rfl rfl)
theorem dX4_shares_58 : decode cX4_shares 58 = .ok (.iload_n 2, 1) := dk_28 (dk_at dksX4_shares_2 11 rfl rfl)
theorem dX4_shares_59 : decode cX4_shares 59 = .ok (.ireturn, 1) := dk_172 (dk_at dksX4_shares_2 12 rfl rfl)
abbrev cX4_partOfSlices : ByteArray := prog_21_method_54_code
def yX4_partOfSlices : MethodName := ⟨RX4, "partOfSlices", "(I)I"⟩
def dkwX4_partOfSlices_1 : List UInt8 := [184, 0, 53, 46, 104, 42, 182, 0, 170, 108, 172]
abbrev dktX4_partOfSlices_1 : List UInt8 := dkwX4_partOfSlices_1 ++ []
def dkwX4_partOfSlices_0 : List UInt8 := [42, 182, 0, 170, 154, 0, 7, 3, 167, 0, 25, 42, 180, 0, 9, 4, 46, 42, 180, 0, 9, 27, 5]
abbrev dktX4_partOfSlices_0 : List UInt8 := dkwX4_partOfSlices_0 ++ dktX4_partOfSlices_1
theorem dksX4_partOfSlices_0 : cX4_partOfSlices.data.toList.drop 0 = dktX4_partOfSlices_0 := by decide +kernel
theorem dksX4_partOfSlices_1 : cX4_partOfSlices.data.toList.drop 23 = dktX4_partOfSlices_1 := dk_seg dksX4_partOfSlices_0 23 rfl rfl
theorem dX4_partOfSlices_0 : decode cX4_partOfSlices 0 = .ok (.aload_n 0, 1) := dk_42 (dk_at dksX4_partOfSlices_0 0 rfl rfl)
theorem dX4_partOfSlices_1 : decode cX4_partOfSlices 1 = .ok (.invokevirtual 170, 3) := dk_182 0 170 (dk_at dksX4_partOfSlices_0 1 rfl rfl)
theorem dX4_partOfSlices_4 : decode cX4_partOfSlices 4 = .ok (.ifCond .ne 7, 3) := dk_154 0 7 (dk_at dksX4_partOfSlices_0 4 rfl rfl)
theorem dX4_partOfSlices_7 : decode cX4_partOfSlices 7 = .ok (.iconst 0, 1) := dk_3 (dk_at dksX4_partOfSlices_0 7 rfl rfl)
theorem dX4_partOfSlices_8 : decode cX4_partOfSlices 8 = .ok (.goto 25, 3) := dk_167 0 25 (dk_at dksX4_partOfSlices_0 8 rfl rfl)
theorem dX4_partOfSlices_11 : decode cX4_partOfSlices 11 = .ok (.aload_n 0, 1) := dk_42 (dk_at dksX4_partOfSlices_0 11 rfl rfl)
theorem dX4_partOfSlices_12 : decode cX4_partOfSlices 12 = .ok (.getfield 9, 3) := dk_180 0 9 (dk_at dksX4_partOfSlices_0 12 rfl rfl)
theorem dX4_partOfSlices_15 : decode cX4_partOfSlices 15 = .ok (.iconst 1, 1) := dk_4 (dk_at dksX4_partOfSlices_0 15 rfl rfl)
theorem dX4_partOfSlices_16 : decode cX4_partOfSlices 16 = .ok (.iaload, 1) := dk_46 (dk_at dksX4_partOfSlices_0 16 rfl rfl)
theorem dX4_partOfSlices_17 : decode cX4_partOfSlices 17 = .ok (.aload_n 0, 1) := dk_42 (dk_at dksX4_partOfSlices_0 17 rfl rfl)
theorem dX4_partOfSlices_18 : decode cX4_partOfSlices 18 = .ok (.getfield 9, 3) := dk_180 0 9 (dk_at dksX4_partOfSlices_0 18 rfl rfl)
theorem dX4_partOfSlices_21 : decode cX4_partOfSlices 21 = .ok (.iload_n 1, 1) := dk_27 (dk_at dksX4_partOfSlices_0 21 rfl rfl)
theorem dX4_partOfSlices_22 : decode cX4_partOfSlices 22 = .ok (.iconst 2, 1) := dk_5 (dk_at dksX4_partOfSlices_0 22 rfl rfl)
theorem dX4_partOfSlices_23 : decode cX4_partOfSlices 23 = .ok (.invokestatic 53, 3) := dk_184 0 53 (dk_at dksX4_partOfSlices_1 0 rfl rfl)
theorem dX4_partOfSlices_26 : decode cX4_partOfSlices 26 = .ok (.iaload, 1) := dk_46 (dk_at dksX4_partOfSlices_1 3 rfl rfl)
theorem dX4_partOfSlices_27 : decode cX4_partOfSlices 27 = .ok (.imul, 1) := dk_104 (dk_at dksX4_partOfSlices_1 4 rfl rfl)
theorem dX4_partOfSlices_28 : decode cX4_partOfSlices 28 = .ok (.aload_n 0, 1) := dk_42 (dk_at dksX4_partOfSlices_1 5 rfl rfl)
theorem dX4_partOfSlices_29 : decode cX4_partOfSlices 29 = .ok (.invokevirtual 170, 3) := dk_182 0 170 (dk_at dksX4_partOfSlices_1 6 rfl rfl)
theorem dX4_partOfSlices_32 : decode cX4_partOfSlices 32 = .ok (.idiv, 1) := dk_108 (dk_at dksX4_partOfSlices_1 9 rfl rfl)
theorem dX4_partOfSlices_33 : decode cX4_partOfSlices 33 = .ok (.ireturn, 1) := dk_172 (dk_at dksX4_partOfSlices_1 10 rfl rfl)
abbrev cX4_hungerAll : ByteArray := prog_21_method_53_code
def yX4_hungerAll : MethodName := ⟨RX4, "hungerAll", "()I"⟩
def dkwX4_hungerAll_1 : List UInt8 := [46, 96, 60, 132, 2, 1, 167, 255, 230, 27, 172]
abbrev dktX4_hungerAll_1 : List UInt8 := dkwX4_hungerAll_1 ++ []
def dkwX4_hungerAll_0 : List UInt8 := [3, 60, 3, 61, 28, 42, 180, 0, 9, 3, 46, 162, 0, 22, 27, 42, 180, 0, 9, 28, 5, 184, 0, 53]
abbrev dktX4_hungerAll_0 : List UInt8 := dkwX4_hungerAll_0 ++ dktX4_hungerAll_1
theorem dksX4_hungerAll_0 : cX4_hungerAll.data.toList.drop 0 = dktX4_hungerAll_0 := by decide +kernel
theorem dksX4_hungerAll_1 : cX4_hungerAll.data.toList.drop 24 = dktX4_hungerAll_1 := dk_seg dksX4_hungerAll_0 24 rfl rfl
theorem dX4_hungerAll_0 : decode cX4_hungerAll 0 = .ok (.iconst 0, 1) := dk_3 (dk_at dksX4_hungerAll_0 0 rfl rfl)
theorem dX4_hungerAll_1 : decode cX4_hungerAll 1 = .ok (.istore_n 1, 1) := dk_60 (dk_at dksX4_hungerAll_0 1 rfl rfl)
theorem dX4_hungerAll_2 : decode cX4_hungerAll 2 = .ok (.iconst 0, 1) := dk_3 (dk_at dksX4_hungerAll_0 2 rfl rfl)
theorem dX4_hungerAll_3 : decode cX4_hungerAll 3 = .ok (.istore_n 2, 1) := dk_61 (dk_at dksX4_hungerAll_0 3 rfl rfl)
theorem dX4_hungerAll_4 : decode cX4_hungerAll 4 = .ok (.iload_n 2, 1) := dk_28 (dk_at dksX4_hungerAll_0 4 rfl rfl)
theorem dX4_hungerAll_5 : decode cX4_hungerAll 5 = .ok (.aload_n 0, 1) := dk_42 (dk_at dksX4_hungerAll_0 5 rfl rfl)
theorem dX4_hungerAll_6 : decode cX4_hungerAll 6 = .ok (.getfield 9, 3) := dk_180 0 9 (dk_at dksX4_hungerAll_0 6 rfl rfl)
theorem dX4_hungerAll_9 : decode cX4_hungerAll 9 = .ok (.iconst 0, 1) := dk_3 (dk_at dksX4_hungerAll_0 9 rfl rfl)
theorem dX4_hungerAll_10 : decode cX4_hungerAll 10 = .ok (.iaload, 1) := dk_46 (dk_at dksX4_hungerAll_0 10 rfl rfl)
theorem dX4_hungerAll_11 : decode cX4_hungerAll 11 = .ok (.if_icmp .ge 22, 3) := dk_162 0 22 (dk_at dksX4_hungerAll_0 11 rfl rfl)
theorem dX4_hungerAll_14 : decode cX4_hungerAll 14 = .ok (.iload_n 1, 1) := dk_27 (dk_at dksX4_hungerAll_0 14 rfl rfl)
theorem dX4_hungerAll_15 : decode cX4_hungerAll 15 = .ok (.aload_n 0, 1) := dk_42 (dk_at dksX4_hungerAll_0 15 rfl rfl)
theorem dX4_hungerAll_16 : decode cX4_hungerAll 16 = .ok (.getfield 9, 3) := dk_180 0 9 (dk_at dksX4_hungerAll_0 16 rfl rfl)
theorem dX4_hungerAll_19 : decode cX4_hungerAll 19 = .ok (.iload_n 2, 1) := dk_28 (dk_at dksX4_hungerAll_0 19 rfl rfl)
theorem dX4_hungerAll_20 : decode cX4_hungerAll 20 = .ok (.iconst 2, 1) := dk_5 (dk_at dksX4_hungerAll_0 20 rfl rfl)
theorem dX4_hungerAll_21 : decode cX4_hungerAll 21 = .ok (.invokestatic 53, 3) := dk_184 0 53 (dk_at dksX4_hungerAll_0 21 rfl rfl)
theorem dX4_hungerAll_24 : decode cX4_hungerAll 24 = .ok (.iaload, 1) := dk_46 (dk_at dksX4_hungerAll_1 0 rfl rfl)
theorem dX4_hungerAll_25 : decode cX4_hungerAll 25 = .ok (.iadd, 1) := dk_96 (dk_at dksX4_hungerAll_1 1 rfl rfl)
theorem dX4_hungerAll_26 : decode cX4_hungerAll 26 = .ok (.istore_n 1, 1) := dk_60 (dk_at dksX4_hungerAll_1 2 rfl rfl)
theorem dX4_hungerAll_27 : decode cX4_hungerAll 27 = .ok (.iinc 2 1, 3) := dk_132 2 1 (dk_at dksX4_hungerAll_1 3 rfl rfl)
theorem dX4_hungerAll_30 : decode cX4_hungerAll 30 = .ok (.goto (-26), 3) := dk_167 255 230 (dk_at dksX4_hungerAll_1 6 rfl rfl)
theorem dX4_hungerAll_33 : decode cX4_hungerAll 33 = .ok (.iload_n 1, 1) := dk_27 (dk_at dksX4_hungerAll_1 9 rfl rfl)
theorem dX4_hungerAll_34 : decode cX4_hungerAll 34 = .ok (.ireturn, 1) := dk_172 (dk_at dksX4_hungerAll_1 10 rfl rfl)
abbrev cX4_crowd : ByteArray := prog_21_method_58_code
def yX4_crowd : MethodName := ⟨RX4, "crowd", "(IIII)J"⟩
def dkwX4_crowd_6 : List UInt8 := [22, 5, 22, 7, 21, 4, 184, 0, 182, 173]
abbrev dktX4_crowd_6 : List UInt8 := dkwX4_crowd_6 ++ []
def dkwX4_crowd_5 : List UInt8 := [184, 0, 167, 5, 108, 29, 161, 0, 8, 22, 10, 167, 0, 4, 9, 97, 55, 5, 132, 9, 1, 167, 255, 192]
abbrev dktX4_crowd_5 : List UInt8 := dkwX4_crowd_5 ++ dktX4_crowd_6
def dkwX4_crowd_4 : List UInt8 := [162, 0, 18, 22, 10, 28, 4, 100, 133, 105, 55, 10, 132, 12, 1, 167, 255, 238, 22, 5, 21, 9]
abbrev dktX4_crowd_4 : List UInt8 := dkwX4_crowd_4 ++ dktX4_crowd_5
def dkwX4_crowd_3 : List UInt8 := [3, 54, 9, 21, 9, 4, 27, 120, 162, 0, 62, 10, 55, 10, 21, 9, 184, 0, 167, 54, 12, 21, 12, 27]
abbrev dktX4_crowd_3 : List UInt8 := dkwX4_crowd_3 ++ dktX4_crowd_4
def dkwX4_crowd_2 : List UInt8 := [55, 7, 3, 54, 9, 21, 9, 27, 162, 0, 16, 22, 7, 28, 133, 105, 55, 7, 132, 9, 1, 167, 255, 240]
abbrev dktX4_crowd_2 : List UInt8 := dkwX4_crowd_2 ++ dktX4_crowd_3
def dkwX4_crowd_1 : List UInt8 := [184, 0, 49, 153, 0, 13, 21, 4, 3, 4, 184, 0, 49, 154, 0, 7, 20, 0, 180, 173, 9, 55, 5, 10]
abbrev dktX4_crowd_1 : List UInt8 := dkwX4_crowd_1 ++ dktX4_crowd_2
def dkwX4_crowd_0 : List UInt8 := [27, 3, 16, 8, 184, 0, 49, 153, 0, 32, 28, 5, 16, 20, 184, 0, 49, 153, 0, 22, 29, 3, 7]
abbrev dktX4_crowd_0 : List UInt8 := dkwX4_crowd_0 ++ dktX4_crowd_1
theorem dksX4_crowd_0 : cX4_crowd.data.toList.drop 0 = dktX4_crowd_0 := by decide +kernel
theorem dksX4_crowd_1 : cX4_crowd.data.toList.drop 23 = dktX4_crowd_1 := dk_seg dksX4_crowd_0 23 rfl rfl
theorem dksX4_crowd_2 : cX4_crowd.data.toList.drop 47 = dktX4_crowd_2 := dk_seg dksX4_crowd_1 24 rfl rfl
theorem dksX4_crowd_3 : cX4_crowd.data.toList.drop 71 = dktX4_crowd_3 := dk_seg dksX4_crowd_2 24 rfl rfl
theorem dksX4_crowd_4 : cX4_crowd.data.toList.drop 95 = dktX4_crowd_4 := dk_seg dksX4_crowd_3 24 rfl rfl
theorem dksX4_crowd_5 : cX4_crowd.data.toList.drop 117 = dktX4_crowd_5 := dk_seg dksX4_crowd_4 22 rfl rfl
theorem dksX4_crowd_6 : cX4_crowd.data.toList.drop 141 = dktX4_crowd_6 := dk_seg dksX4_crowd_5 24 rfl rfl
theorem dX4_crowd_0 : decode cX4_crowd 0 = .ok (.iload_n 1, 1) := dk_27 (dk_at dksX4_crowd_0 0 rfl rfl)
theorem dX4_crowd_1 : decode cX4_crowd 1 = .ok (.iconst 0, 1) := dk_3 (dk_at dksX4_crowd_0 1 rfl rfl)
theorem dX4_crowd_2 : decode cX4_crowd 2 = .ok (.bipush 8, 2) := dk_16 8 (dk_at dksX4_crowd_0 2 rfl rfl)
theorem dX4_crowd_4 : decode cX4_crowd 4 = .ok (.invokestatic 49, 3) := dk_184 0 49 (dk_at dksX4_crowd_0 4 rfl rfl)
theorem dX4_crowd_7 : decode cX4_crowd 7 = .ok (.ifCond .eq 32, 3) := dk_153 0 32 (dk_at dksX4_crowd_0 7 rfl rfl)
theorem dX4_crowd_10 : decode cX4_crowd 10 = .ok (.iload_n 2, 1) := dk_28 (dk_at dksX4_crowd_0 10 rfl rfl)
theorem dX4_crowd_11 : decode cX4_crowd 11 = .ok (.iconst 2, 1) := dk_5 (dk_at dksX4_crowd_0 11 rfl rfl)
theorem dX4_crowd_12 : decode cX4_crowd 12 = .ok (.bipush 20, 2) := dk_16 20 (dk_at dksX4_crowd_0 12 rfl rfl)
theorem dX4_crowd_14 : decode cX4_crowd 14 = .ok (.invokestatic 49, 3) := dk_184 0 49 (dk_at dksX4_crowd_0 14 rfl rfl)
theorem dX4_crowd_17 : decode cX4_crowd 17 = .ok (.ifCond .eq 22, 3) := dk_153 0 22 (dk_at dksX4_crowd_0 17 rfl rfl)
theorem dX4_crowd_20 : decode cX4_crowd 20 = .ok (.iload_n 3, 1) := dk_29 (dk_at dksX4_crowd_0 20 rfl rfl)
theorem dX4_crowd_21 : decode cX4_crowd 21 = .ok (.iconst 0, 1) := dk_3 (dk_at dksX4_crowd_0 21 rfl rfl)
theorem dX4_crowd_22 : decode cX4_crowd 22 = .ok (.iconst 4, 1) := dk_7 (dk_at dksX4_crowd_0 22 rfl rfl)
theorem dX4_crowd_23 : decode cX4_crowd 23 = .ok (.invokestatic 49, 3) := dk_184 0 49 (dk_at dksX4_crowd_1 0 rfl rfl)
theorem dX4_crowd_26 : decode cX4_crowd 26 = .ok (.ifCond .eq 13, 3) := dk_153 0 13 (dk_at dksX4_crowd_1 3 rfl rfl)
theorem dX4_crowd_29 : decode cX4_crowd 29 = .ok (.iload 4, 2) := dk_21 4 (dk_at dksX4_crowd_1 6 rfl rfl)
theorem dX4_crowd_31 : decode cX4_crowd 31 = .ok (.iconst 0, 1) := dk_3 (dk_at dksX4_crowd_1 8 rfl rfl)
theorem dX4_crowd_32 : decode cX4_crowd 32 = .ok (.iconst 1, 1) := dk_4 (dk_at dksX4_crowd_1 9 rfl rfl)
theorem dX4_crowd_33 : decode cX4_crowd 33 = .ok (.invokestatic 49, 3) := dk_184 0 49 (dk_at dksX4_crowd_1 10 rfl rfl)
theorem dX4_crowd_36 : decode cX4_crowd 36 = .ok (.ifCond .ne 7, 3) := dk_154 0 7 (dk_at dksX4_crowd_1 13 rfl rfl)
theorem dX4_crowd_39 : decode cX4_crowd 39 = .ok (.ldc2_w 180, 3) := dk_20 0 180 (dk_at dksX4_crowd_1 16 rfl rfl)
theorem dX4_crowd_42 : decode cX4_crowd 42 = .ok (.lreturn, 1) := dk_173 (dk_at dksX4_crowd_1 19 rfl rfl)
theorem dX4_crowd_43 : decode cX4_crowd 43 = .ok (.lconst 0, 1) := dk_9 (dk_at dksX4_crowd_1 20 rfl rfl)
theorem dX4_crowd_44 : decode cX4_crowd 44 = .ok (.lstore 5, 2) := dk_55 5 (dk_at dksX4_crowd_1 21 rfl rfl)
theorem dX4_crowd_46 : decode cX4_crowd 46 = .ok (.lconst 1, 1) := dk_10 (dk_at dksX4_crowd_1 23 rfl rfl)
theorem dX4_crowd_47 : decode cX4_crowd 47 = .ok (.lstore 7, 2) := dk_55 7 (dk_at dksX4_crowd_2 0 rfl rfl)
theorem dX4_crowd_49 : decode cX4_crowd 49 = .ok (.iconst 0, 1) := dk_3 (dk_at dksX4_crowd_2 2 rfl rfl)
theorem dX4_crowd_50 : decode cX4_crowd 50 = .ok (.istore 9, 2) := dk_54 9 (dk_at dksX4_crowd_2 3 rfl rfl)
theorem dX4_crowd_52 : decode cX4_crowd 52 = .ok (.iload 9, 2) := dk_21 9 (dk_at dksX4_crowd_2 5 rfl rfl)
theorem dX4_crowd_54 : decode cX4_crowd 54 = .ok (.iload_n 1, 1) := dk_27 (dk_at dksX4_crowd_2 7 rfl rfl)
theorem dX4_crowd_55 : decode cX4_crowd 55 = .ok (.if_icmp .ge 16, 3) := dk_162 0 16 (dk_at dksX4_crowd_2 8 rfl rfl)
theorem dX4_crowd_58 : decode cX4_crowd 58 = .ok (.lload 7, 2) := dk_22 7 (dk_at dksX4_crowd_2 11 rfl rfl)
theorem dX4_crowd_60 : decode cX4_crowd 60 = .ok (.iload_n 2, 1) := dk_28 (dk_at dksX4_crowd_2 13 rfl rfl)
theorem dX4_crowd_61 : decode cX4_crowd 61 = .ok (.i2l, 1) := dk_133 (dk_at dksX4_crowd_2 14 rfl rfl)
theorem dX4_crowd_62 : decode cX4_crowd 62 = .ok (.lmul, 1) := dk_105 (dk_at dksX4_crowd_2 15 rfl rfl)
theorem dX4_crowd_63 : decode cX4_crowd 63 = .ok (.lstore 7, 2) := dk_55 7 (dk_at dksX4_crowd_2 16 rfl rfl)
theorem dX4_crowd_65 : decode cX4_crowd 65 = .ok (.iinc 9 1, 3) := dk_132 9 1 (dk_at dksX4_crowd_2 18 rfl rfl)
theorem dX4_crowd_68 : decode cX4_crowd 68 = .ok (.goto (-16), 3) := dk_167 255 240 (dk_at dksX4_crowd_2 21 rfl rfl)
theorem dX4_crowd_71 : decode cX4_crowd 71 = .ok (.iconst 0, 1) := dk_3 (dk_at dksX4_crowd_3 0 rfl rfl)
theorem dX4_crowd_72 : decode cX4_crowd 72 = .ok (.istore 9, 2) := dk_54 9 (dk_at dksX4_crowd_3 1 rfl rfl)
theorem dX4_crowd_74 : decode cX4_crowd 74 = .ok (.iload 9, 2) := dk_21 9 (dk_at dksX4_crowd_3 3 rfl rfl)
theorem dX4_crowd_76 : decode cX4_crowd 76 = .ok (.iconst 1, 1) := dk_4 (dk_at dksX4_crowd_3 5 rfl rfl)
theorem dX4_crowd_77 : decode cX4_crowd 77 = .ok (.iload_n 1, 1) := dk_27 (dk_at dksX4_crowd_3 6 rfl rfl)
theorem dX4_crowd_78 : decode cX4_crowd 78 = .ok (.ishl, 1) := dk_120 (dk_at dksX4_crowd_3 7 rfl rfl)
theorem dX4_crowd_79 : decode cX4_crowd 79 = .ok (.if_icmp .ge 62, 3) := dk_162 0 62 (dk_at dksX4_crowd_3 8 rfl rfl)
theorem dX4_crowd_82 : decode cX4_crowd 82 = .ok (.lconst 1, 1) := dk_10 (dk_at dksX4_crowd_3 11 rfl rfl)
theorem dX4_crowd_83 : decode cX4_crowd 83 = .ok (.lstore 10, 2) := dk_55 10 (dk_at dksX4_crowd_3 12 rfl rfl)
theorem dX4_crowd_85 : decode cX4_crowd 85 = .ok (.iload 9, 2) := dk_21 9 (dk_at dksX4_crowd_3 14 rfl rfl)
theorem dX4_crowd_87 : decode cX4_crowd 87 = .ok (.invokestatic 167, 3) := dk_184 0 167 (dk_at dksX4_crowd_3 16 rfl rfl)
theorem dX4_crowd_90 : decode cX4_crowd 90 = .ok (.istore 12, 2) := dk_54 12 (dk_at dksX4_crowd_3 19 rfl rfl)
theorem dX4_crowd_92 : decode cX4_crowd 92 = .ok (.iload 12, 2) := dk_21 12 (dk_at dksX4_crowd_3 21 rfl rfl)
theorem dX4_crowd_94 : decode cX4_crowd 94 = .ok (.iload_n 1, 1) := dk_27 (dk_at dksX4_crowd_3 23 rfl rfl)
theorem dX4_crowd_95 : decode cX4_crowd 95 = .ok (.if_icmp .ge 18, 3) := dk_162 0 18 (dk_at dksX4_crowd_4 0 rfl rfl)
theorem dX4_crowd_98 : decode cX4_crowd 98 = .ok (.lload 10, 2) := dk_22 10 (dk_at dksX4_crowd_4 3 rfl rfl)
theorem dX4_crowd_100 : decode cX4_crowd 100 = .ok (.iload_n 2, 1) := dk_28 (dk_at dksX4_crowd_4 5 rfl rfl)
theorem dX4_crowd_101 : decode cX4_crowd 101 = .ok (.iconst 1, 1) := dk_4 (dk_at dksX4_crowd_4 6 rfl rfl)
theorem dX4_crowd_102 : decode cX4_crowd 102 = .ok (.isub, 1) := dk_100 (dk_at dksX4_crowd_4 7 rfl rfl)
theorem dX4_crowd_103 : decode cX4_crowd 103 = .ok (.i2l, 1) := dk_133 (dk_at dksX4_crowd_4 8 rfl rfl)
theorem dX4_crowd_104 : decode cX4_crowd 104 = .ok (.lmul, 1) := dk_105 (dk_at dksX4_crowd_4 9 rfl rfl)
theorem dX4_crowd_105 : decode cX4_crowd 105 = .ok (.lstore 10, 2) := dk_55 10 (dk_at dksX4_crowd_4 10 rfl rfl)
theorem dX4_crowd_107 : decode cX4_crowd 107 = .ok (.iinc 12 1, 3) := dk_132 12 1 (dk_at dksX4_crowd_4 12 rfl rfl)
theorem dX4_crowd_110 : decode cX4_crowd 110 = .ok (.goto (-18), 3) := dk_167 255 238 (dk_at dksX4_crowd_4 15 rfl rfl)
theorem dX4_crowd_113 : decode cX4_crowd 113 = .ok (.lload 5, 2) := dk_22 5 (dk_at dksX4_crowd_4 18 rfl rfl)
theorem dX4_crowd_115 : decode cX4_crowd 115 = .ok (.iload 9, 2) := dk_21 9 (dk_at dksX4_crowd_4 20 rfl rfl)
theorem dX4_crowd_117 : decode cX4_crowd 117 = .ok (.invokestatic 167, 3) := dk_184 0 167 (dk_at dksX4_crowd_5 0 rfl rfl)
theorem dX4_crowd_120 : decode cX4_crowd 120 = .ok (.iconst 2, 1) := dk_5 (dk_at dksX4_crowd_5 3 rfl rfl)
theorem dX4_crowd_121 : decode cX4_crowd 121 = .ok (.idiv, 1) := dk_108 (dk_at dksX4_crowd_5 4 rfl rfl)
theorem dX4_crowd_122 : decode cX4_crowd 122 = .ok (.iload_n 3, 1) := dk_29 (dk_at dksX4_crowd_5 5 rfl rfl)
theorem dX4_crowd_123 : decode cX4_crowd 123 = .ok (.if_icmp .lt 8, 3) := dk_161 0 8 (dk_at dksX4_crowd_5 6 rfl rfl)
theorem dX4_crowd_126 : decode cX4_crowd 126 = .ok (.lload 10, 2) := dk_22 10 (dk_at dksX4_crowd_5 9 rfl rfl)
theorem dX4_crowd_128 : decode cX4_crowd 128 = .ok (.goto 4, 3) := dk_167 0 4 (dk_at dksX4_crowd_5 11 rfl rfl)
theorem dX4_crowd_131 : decode cX4_crowd 131 = .ok (.lconst 0, 1) := dk_9 (dk_at dksX4_crowd_5 14 rfl rfl)
theorem dX4_crowd_132 : decode cX4_crowd 132 = .ok (.ladd, 1) := dk_97 (dk_at dksX4_crowd_5 15 rfl rfl)
theorem dX4_crowd_133 : decode cX4_crowd 133 = .ok (.lstore 5, 2) := dk_55 5 (dk_at dksX4_crowd_5 16 rfl rfl)
theorem dX4_crowd_135 : decode cX4_crowd 135 = .ok (.iinc 9 1, 3) := dk_132 9 1 (dk_at dksX4_crowd_5 18 rfl rfl)
theorem dX4_crowd_138 : decode cX4_crowd 138 = .ok (.goto (-64), 3) := dk_167 255 192 (dk_at dksX4_crowd_5 21 rfl rfl)
theorem dX4_crowd_141 : decode cX4_crowd 141 = .ok (.lload 5, 2) := dk_22 5 (dk_at dksX4_crowd_6 0 rfl rfl)
theorem dX4_crowd_143 : decode cX4_crowd 143 = .ok (.lload 7, 2) := dk_22 7 (dk_at dksX4_crowd_6 2 rfl rfl)
theorem dX4_crowd_145 : decode cX4_crowd 145 = .ok (.iload 4, 2) := dk_21 4 (dk_at dksX4_crowd_6 4 rfl rfl)
theorem dX4_crowd_147 : decode cX4_crowd 147 = .ok (.invokestatic 182, 3) := dk_184 0 182 (dk_at dksX4_crowd_6 6 rfl rfl)
theorem dX4_crowd_150 : decode cX4_crowd 150 = .ok (.lreturn, 1) := dk_173 (dk_at dksX4_crowd_6 9 rfl rfl)
abbrev cX4_partOf : ByteArray := prog_21_method_57_code
def yX4_partOf : MethodName := ⟨RX4, "partOf", "(JJI)J"⟩
def dkwX4_partOf_1 : List UInt8 := [184, 0, 176, 109, 173]
abbrev dktX4_partOf_1 : List UInt8 := dkwX4_partOf_1 ++ []
def dkwX4_partOf_0 : List UInt8 := [30, 9, 148, 154, 0, 7, 21, 4, 133, 173, 21, 4, 154, 0, 7, 30, 167, 0, 4, 32, 30, 32]
abbrev dktX4_partOf_0 : List UInt8 := dkwX4_partOf_0 ++ dktX4_partOf_1
theorem dksX4_partOf_0 : cX4_partOf.data.toList.drop 0 = dktX4_partOf_0 := by decide +kernel
theorem dksX4_partOf_1 : cX4_partOf.data.toList.drop 22 = dktX4_partOf_1 := dk_seg dksX4_partOf_0 22 rfl rfl
theorem dX4_partOf_0 : decode cX4_partOf 0 = .ok (.lload_n 0, 1) := dk_30 (dk_at dksX4_partOf_0 0 rfl rfl)
theorem dX4_partOf_1 : decode cX4_partOf 1 = .ok (.lconst 0, 1) := dk_9 (dk_at dksX4_partOf_0 1 rfl rfl)
theorem dX4_partOf_2 : decode cX4_partOf 2 = .ok (.lcmp, 1) := dk_148 (dk_at dksX4_partOf_0 2 rfl rfl)
theorem dX4_partOf_3 : decode cX4_partOf 3 = .ok (.ifCond .ne 7, 3) := dk_154 0 7 (dk_at dksX4_partOf_0 3 rfl rfl)
theorem dX4_partOf_6 : decode cX4_partOf 6 = .ok (.iload 4, 2) := dk_21 4 (dk_at dksX4_partOf_0 6 rfl rfl)
theorem dX4_partOf_8 : decode cX4_partOf 8 = .ok (.i2l, 1) := dk_133 (dk_at dksX4_partOf_0 8 rfl rfl)
theorem dX4_partOf_9 : decode cX4_partOf 9 = .ok (.lreturn, 1) := dk_173 (dk_at dksX4_partOf_0 9 rfl rfl)
theorem dX4_partOf_10 : decode cX4_partOf 10 = .ok (.iload 4, 2) := dk_21 4 (dk_at dksX4_partOf_0 10 rfl rfl)
theorem dX4_partOf_12 : decode cX4_partOf 12 = .ok (.ifCond .ne 7, 3) := dk_154 0 7 (dk_at dksX4_partOf_0 12 rfl rfl)
theorem dX4_partOf_15 : decode cX4_partOf 15 = .ok (.lload_n 0, 1) := dk_30 (dk_at dksX4_partOf_0 15 rfl rfl)
theorem dX4_partOf_16 : decode cX4_partOf 16 = .ok (.goto 4, 3) := dk_167 0 4 (dk_at dksX4_partOf_0 16 rfl rfl)
theorem dX4_partOf_19 : decode cX4_partOf 19 = .ok (.lload_n 2, 1) := dk_32 (dk_at dksX4_partOf_0 19 rfl rfl)
theorem dX4_partOf_20 : decode cX4_partOf 20 = .ok (.lload_n 0, 1) := dk_30 (dk_at dksX4_partOf_0 20 rfl rfl)
theorem dX4_partOf_21 : decode cX4_partOf 21 = .ok (.lload_n 2, 1) := dk_32 (dk_at dksX4_partOf_0 21 rfl rfl)
theorem dX4_partOf_22 : decode cX4_partOf 22 = .ok (.invokestatic 176, 3) := dk_184 0 176 (dk_at dksX4_partOf_1 0 rfl rfl)
theorem dX4_partOf_25 : decode cX4_partOf 25 = .ok (.ldiv, 1) := dk_109 (dk_at dksX4_partOf_1 3 rfl rfl)
theorem dX4_partOf_26 : decode cX4_partOf 26 = .ok (.lreturn, 1) := dk_173 (dk_at dksX4_partOf_1 4 rfl rfl)
abbrev cX4_gcd : ByteArray := prog_21_method_56_code
def yX4_gcd : MethodName := ⟨RX4, "gcd", "(JJ)J"⟩
def dkwX4_gcd_1 : List UInt8 := [22, 8, 55, 6, 167, 255, 234, 22, 4, 173]
abbrev dktX4_gcd_1 : List UInt8 := dkwX4_gcd_1 ++ []
def dkwX4_gcd_0 : List UInt8 := [30, 55, 4, 32, 55, 6, 22, 6, 9, 148, 153, 0, 21, 22, 4, 22, 6, 113, 55, 8, 22, 6, 55, 4]
abbrev dktX4_gcd_0 : List UInt8 := dkwX4_gcd_0 ++ dktX4_gcd_1
theorem dksX4_gcd_0 : cX4_gcd.data.toList.drop 0 = dktX4_gcd_0 := by decide +kernel
theorem dksX4_gcd_1 : cX4_gcd.data.toList.drop 24 = dktX4_gcd_1 := dk_seg dksX4_gcd_0 24 rfl rfl
theorem dX4_gcd_0 : decode cX4_gcd 0 = .ok (.lload_n 0, 1) := dk_30 (dk_at dksX4_gcd_0 0 rfl rfl)
theorem dX4_gcd_1 : decode cX4_gcd 1 = .ok (.lstore 4, 2) := dk_55 4 (dk_at dksX4_gcd_0 1 rfl rfl)
theorem dX4_gcd_3 : decode cX4_gcd 3 = .ok (.lload_n 2, 1) := dk_32 (dk_at dksX4_gcd_0 3 rfl rfl)
theorem dX4_gcd_4 : decode cX4_gcd 4 = .ok (.lstore 6, 2) := dk_55 6 (dk_at dksX4_gcd_0 4 rfl rfl)
theorem dX4_gcd_6 : decode cX4_gcd 6 = .ok (.lload 6, 2) := dk_22 6 (dk_at dksX4_gcd_0 6 rfl rfl)
theorem dX4_gcd_8 : decode cX4_gcd 8 = .ok (.lconst 0, 1) := dk_9 (dk_at dksX4_gcd_0 8 rfl rfl)
theorem dX4_gcd_9 : decode cX4_gcd 9 = .ok (.lcmp, 1) := dk_148 (dk_at dksX4_gcd_0 9 rfl rfl)
theorem dX4_gcd_10 : decode cX4_gcd 10 = .ok (.ifCond .eq 21, 3) := dk_153 0 21 (dk_at dksX4_gcd_0 10 rfl rfl)
theorem dX4_gcd_13 : decode cX4_gcd 13 = .ok (.lload 4, 2) := dk_22 4 (dk_at dksX4_gcd_0 13 rfl rfl)
theorem dX4_gcd_15 : decode cX4_gcd 15 = .ok (.lload 6, 2) := dk_22 6 (dk_at dksX4_gcd_0 15 rfl rfl)
theorem dX4_gcd_17 : decode cX4_gcd 17 = .ok (.lrem, 1) := dk_113 (dk_at dksX4_gcd_0 17 rfl rfl)
theorem dX4_gcd_18 : decode cX4_gcd 18 = .ok (.lstore 8, 2) := dk_55 8 (dk_at dksX4_gcd_0 18 rfl rfl)
theorem dX4_gcd_20 : decode cX4_gcd 20 = .ok (.lload 6, 2) := dk_22 6 (dk_at dksX4_gcd_0 20 rfl rfl)
theorem dX4_gcd_22 : decode cX4_gcd 22 = .ok (.lstore 4, 2) := dk_55 4 (dk_at dksX4_gcd_0 22 rfl rfl)
theorem dX4_gcd_24 : decode cX4_gcd 24 = .ok (.lload 8, 2) := dk_22 8 (dk_at dksX4_gcd_1 0 rfl rfl)
theorem dX4_gcd_26 : decode cX4_gcd 26 = .ok (.lstore 6, 2) := dk_55 6 (dk_at dksX4_gcd_1 2 rfl rfl)
theorem dX4_gcd_28 : decode cX4_gcd 28 = .ok (.goto (-22), 3) := dk_167 255 234 (dk_at dksX4_gcd_1 4 rfl rfl)
theorem dX4_gcd_31 : decode cX4_gcd 31 = .ok (.lload 4, 2) := dk_22 4 (dk_at dksX4_gcd_1 7 rfl rfl)
theorem dX4_gcd_33 : decode cX4_gcd 33 = .ok (.lreturn, 1) := dk_173 (dk_at dksX4_gcd_1 9 rfl rfl)
abbrev cX4_mean : ByteArray := prog_21_method_59_code
def yX4_mean : MethodName := ⟨RX4, "mean", "(I)J"⟩
def dkwX4_mean_1 : List UInt8 := [184, 0, 182, 167, 0, 6, 20, 0, 180, 173]
abbrev dktX4_mean_1 : List UInt8 := dkwX4_mean_1 ++ []
def dkwX4_mean_0 : List UInt8 := [27, 3, 4, 184, 0, 49, 153, 0, 22, 42, 182, 0, 170, 133, 42, 180, 0, 9, 3, 46, 133, 27]
abbrev dktX4_mean_0 : List UInt8 := dkwX4_mean_0 ++ dktX4_mean_1
theorem dksX4_mean_0 : cX4_mean.data.toList.drop 0 = dktX4_mean_0 := by decide +kernel
theorem dksX4_mean_1 : cX4_mean.data.toList.drop 22 = dktX4_mean_1 := dk_seg dksX4_mean_0 22 rfl rfl
theorem dX4_mean_0 : decode cX4_mean 0 = .ok (.iload_n 1, 1) := dk_27 (dk_at dksX4_mean_0 0 rfl rfl)
theorem dX4_mean_1 : decode cX4_mean 1 = .ok (.iconst 0, 1) := dk_3 (dk_at dksX4_mean_0 1 rfl rfl)
theorem dX4_mean_2 : decode cX4_mean 2 = .ok (.iconst 1, 1) := dk_4 (dk_at dksX4_mean_0 2 rfl rfl)
theorem dX4_mean_3 : decode cX4_mean 3 = .ok (.invokestatic 49, 3) := dk_184 0 49 (dk_at dksX4_mean_0 3 rfl rfl)
theorem dX4_mean_6 : decode cX4_mean 6 = .ok (.ifCond .eq 22, 3) := dk_153 0 22 (dk_at dksX4_mean_0 6 rfl rfl)
theorem dX4_mean_9 : decode cX4_mean 9 = .ok (.aload_n 0, 1) := dk_42 (dk_at dksX4_mean_0 9 rfl rfl)
theorem dX4_mean_10 : decode cX4_mean 10 = .ok (.invokevirtual 170, 3) := dk_182 0 170 (dk_at dksX4_mean_0 10 rfl rfl)
theorem dX4_mean_13 : decode cX4_mean 13 = .ok (.i2l, 1) := dk_133 (dk_at dksX4_mean_0 13 rfl rfl)
theorem dX4_mean_14 : decode cX4_mean 14 = .ok (.aload_n 0, 1) := dk_42 (dk_at dksX4_mean_0 14 rfl rfl)
theorem dX4_mean_15 : decode cX4_mean 15 = .ok (.getfield 9, 3) := dk_180 0 9 (dk_at dksX4_mean_0 15 rfl rfl)
theorem dX4_mean_18 : decode cX4_mean 18 = .ok (.iconst 0, 1) := dk_3 (dk_at dksX4_mean_0 18 rfl rfl)
theorem dX4_mean_19 : decode cX4_mean 19 = .ok (.iaload, 1) := dk_46 (dk_at dksX4_mean_0 19 rfl rfl)
theorem dX4_mean_20 : decode cX4_mean 20 = .ok (.i2l, 1) := dk_133 (dk_at dksX4_mean_0 20 rfl rfl)
theorem dX4_mean_21 : decode cX4_mean 21 = .ok (.iload_n 1, 1) := dk_27 (dk_at dksX4_mean_0 21 rfl rfl)
theorem dX4_mean_22 : decode cX4_mean 22 = .ok (.invokestatic 182, 3) := dk_184 0 182 (dk_at dksX4_mean_1 0 rfl rfl)
theorem dX4_mean_25 : decode cX4_mean 25 = .ok (.goto 6, 3) := dk_167 0 6 (dk_at dksX4_mean_1 3 rfl rfl)
theorem dX4_mean_28 : decode cX4_mean 28 = .ok (.ldc2_w 180, 3) := dk_20 0 180 (dk_at dksX4_mean_1 6 rfl rfl)
theorem dX4_mean_31 : decode cX4_mean 31 = .ok (.lreturn, 1) := dk_173 (dk_at dksX4_mean_1 9 rfl rfl)
abbrev cX4_joyless : ByteArray := prog_21_method_60_code
def yX4_joyless : MethodName := ⟨RX4, "joyless", "()I"⟩
def dkwX4_joyless_3 : List UInt8 := [167, 255, 193, 27, 172]
abbrev dktX4_joyless_3 : List UInt8 := dkwX4_joyless_3 ++ []
def dkwX4_joyless_2 : List UInt8 := [184, 0, 88, 154, 0, 7, 4, 167, 0, 4, 3, 96, 60, 132, 3, 1, 167, 255, 211, 132, 2, 1]
abbrev dktX4_joyless_2 : List UInt8 := dkwX4_joyless_2 ++ dktX4_joyless_3
def dkwX4_joyless_1 : List UInt8 := [162, 0, 41, 27, 42, 180, 0, 9, 28, 29, 184, 0, 91, 153, 0, 19, 42, 180, 0, 9, 28, 29]
abbrev dktX4_joyless_1 : List UInt8 := dkwX4_joyless_1 ++ dktX4_joyless_2
def dkwX4_joyless_0 : List UInt8 := [3, 60, 3, 61, 28, 42, 180, 0, 9, 3, 46, 162, 0, 59, 3, 62, 29, 42, 180, 0, 9, 3, 46]
abbrev dktX4_joyless_0 : List UInt8 := dkwX4_joyless_0 ++ dktX4_joyless_1
theorem dksX4_joyless_0 : cX4_joyless.data.toList.drop 0 = dktX4_joyless_0 := by decide +kernel
theorem dksX4_joyless_1 : cX4_joyless.data.toList.drop 23 = dktX4_joyless_1 := dk_seg dksX4_joyless_0 23 rfl rfl
theorem dksX4_joyless_2 : cX4_joyless.data.toList.drop 45 = dktX4_joyless_2 := dk_seg dksX4_joyless_1 22 rfl rfl
theorem dksX4_joyless_3 : cX4_joyless.data.toList.drop 67 = dktX4_joyless_3 := dk_seg dksX4_joyless_2 22 rfl rfl
theorem dX4_joyless_0 : decode cX4_joyless 0 = .ok (.iconst 0, 1) := dk_3 (dk_at dksX4_joyless_0 0 rfl rfl)
theorem dX4_joyless_1 : decode cX4_joyless 1 = .ok (.istore_n 1, 1) := dk_60 (dk_at dksX4_joyless_0 1 rfl rfl)
theorem dX4_joyless_2 : decode cX4_joyless 2 = .ok (.iconst 0, 1) := dk_3 (dk_at dksX4_joyless_0 2 rfl rfl)
theorem dX4_joyless_3 : decode cX4_joyless 3 = .ok (.istore_n 2, 1) := dk_61 (dk_at dksX4_joyless_0 3 rfl rfl)
theorem dX4_joyless_4 : decode cX4_joyless 4 = .ok (.iload_n 2, 1) := dk_28 (dk_at dksX4_joyless_0 4 rfl rfl)
theorem dX4_joyless_5 : decode cX4_joyless 5 = .ok (.aload_n 0, 1) := dk_42 (dk_at dksX4_joyless_0 5 rfl rfl)
theorem dX4_joyless_6 : decode cX4_joyless 6 = .ok (.getfield 9, 3) := dk_180 0 9 (dk_at dksX4_joyless_0 6 rfl rfl)
theorem dX4_joyless_9 : decode cX4_joyless 9 = .ok (.iconst 0, 1) := dk_3 (dk_at dksX4_joyless_0 9 rfl rfl)
theorem dX4_joyless_10 : decode cX4_joyless 10 = .ok (.iaload, 1) := dk_46 (dk_at dksX4_joyless_0 10 rfl rfl)
theorem dX4_joyless_11 : decode cX4_joyless 11 = .ok (.if_icmp .ge 59, 3) := dk_162 0 59 (dk_at dksX4_joyless_0 11 rfl rfl)
theorem dX4_joyless_14 : decode cX4_joyless 14 = .ok (.iconst 0, 1) := dk_3 (dk_at dksX4_joyless_0 14 rfl rfl)
theorem dX4_joyless_15 : decode cX4_joyless 15 = .ok (.istore_n 3, 1) := dk_62 (dk_at dksX4_joyless_0 15 rfl rfl)
theorem dX4_joyless_16 : decode cX4_joyless 16 = .ok (.iload_n 3, 1) := dk_29 (dk_at dksX4_joyless_0 16 rfl rfl)
theorem dX4_joyless_17 : decode cX4_joyless 17 = .ok (.aload_n 0, 1) := dk_42 (dk_at dksX4_joyless_0 17 rfl rfl)
theorem dX4_joyless_18 : decode cX4_joyless 18 = .ok (.getfield 9, 3) := dk_180 0 9 (dk_at dksX4_joyless_0 18 rfl rfl)
theorem dX4_joyless_21 : decode cX4_joyless 21 = .ok (.iconst 0, 1) := dk_3 (dk_at dksX4_joyless_0 21 rfl rfl)
theorem dX4_joyless_22 : decode cX4_joyless 22 = .ok (.iaload, 1) := dk_46 (dk_at dksX4_joyless_0 22 rfl rfl)
theorem dX4_joyless_23 : decode cX4_joyless 23 = .ok (.if_icmp .ge 41, 3) := dk_162 0 41 (dk_at dksX4_joyless_1 0 rfl rfl)
theorem dX4_joyless_26 : decode cX4_joyless 26 = .ok (.iload_n 1, 1) := dk_27 (dk_at dksX4_joyless_1 3 rfl rfl)
theorem dX4_joyless_27 : decode cX4_joyless 27 = .ok (.aload_n 0, 1) := dk_42 (dk_at dksX4_joyless_1 4 rfl rfl)
theorem dX4_joyless_28 : decode cX4_joyless 28 = .ok (.getfield 9, 3) := dk_180 0 9 (dk_at dksX4_joyless_1 5 rfl rfl)
theorem dX4_joyless_31 : decode cX4_joyless 31 = .ok (.iload_n 2, 1) := dk_28 (dk_at dksX4_joyless_1 8 rfl rfl)
theorem dX4_joyless_32 : decode cX4_joyless 32 = .ok (.iload_n 3, 1) := dk_29 (dk_at dksX4_joyless_1 9 rfl rfl)
theorem dX4_joyless_33 : decode cX4_joyless 33 = .ok (.invokestatic 91, 3) := dk_184 0 91 (dk_at dksX4_joyless_1 10 rfl rfl)
theorem dX4_joyless_36 : decode cX4_joyless 36 = .ok (.ifCond .eq 19, 3) := dk_153 0 19 (dk_at dksX4_joyless_1 13 rfl rfl)
theorem dX4_joyless_39 : decode cX4_joyless 39 = .ok (.aload_n 0, 1) := dk_42 (dk_at dksX4_joyless_1 16 rfl rfl)
theorem dX4_joyless_40 : decode cX4_joyless 40 = .ok (.getfield 9, 3) := dk_180 0 9 (dk_at dksX4_joyless_1 17 rfl rfl)
theorem dX4_joyless_43 : decode cX4_joyless 43 = .ok (.iload_n 2, 1) := dk_28 (dk_at dksX4_joyless_1 20 rfl rfl)
theorem dX4_joyless_44 : decode cX4_joyless 44 = .ok (.iload_n 3, 1) := dk_29 (dk_at dksX4_joyless_1 21 rfl rfl)
theorem dX4_joyless_45 : decode cX4_joyless 45 = .ok (.invokestatic 88, 3) := dk_184 0 88 (dk_at dksX4_joyless_2 0 rfl rfl)
theorem dX4_joyless_48 : decode cX4_joyless 48 = .ok (.ifCond .ne 7, 3) := dk_154 0 7 (dk_at dksX4_joyless_2 3 rfl rfl)
theorem dX4_joyless_51 : decode cX4_joyless 51 = .ok (.iconst 1, 1) := dk_4 (dk_at dksX4_joyless_2 6 rfl rfl)
theorem dX4_joyless_52 : decode cX4_joyless 52 = .ok (.goto 4, 3) := dk_167 0 4 (dk_at dksX4_joyless_2 7 rfl rfl)
theorem dX4_joyless_55 : decode cX4_joyless 55 = .ok (.iconst 0, 1) := dk_3 (dk_at dksX4_joyless_2 10 rfl rfl)
theorem dX4_joyless_56 : decode cX4_joyless 56 = .ok (.iadd, 1) := dk_96 (dk_at dksX4_joyless_2 11 rfl rfl)
theorem dX4_joyless_57 : decode cX4_joyless 57 = .ok (.istore_n 1, 1) := dk_60 (dk_at dksX4_joyless_2 12 rfl rfl)
theorem dX4_joyless_58 : decode cX4_joyless 58 = .ok (.iinc 3 1, 3) := dk_132 3 1 (dk_at dksX4_joyless_2 13 rfl rfl)
theorem dX4_joyless_61 : decode cX4_joyless 61 = .ok (.goto (-45), 3) := dk_167 255 211 (dk_at dksX4_joyless_2 16 rfl rfl)
theorem dX4_joyless_64 : decode cX4_joyless 64 = .ok (.iinc 2 1, 3) := dk_132 2 1 (dk_at dksX4_joyless_2 19 rfl rfl)
theorem dX4_joyless_67 : decode cX4_joyless 67 = .ok (.goto (-63), 3) := dk_167 255 193 (dk_at dksX4_joyless_3 0 rfl rfl)
theorem dX4_joyless_70 : decode cX4_joyless 70 = .ok (.iload_n 1, 1) := dk_27 (dk_at dksX4_joyless_3 3 rfl rfl)
theorem dX4_joyless_71 : decode cX4_joyless 71 = .ok (.ireturn, 1) := dk_172 (dk_at dksX4_joyless_3 4 rfl rfl)
abbrev cX4_seen : ByteArray := prog_21_method_61_code
def yX4_seen : MethodName := ⟨RX4, "seen", "(I)I"⟩
def dkwX4_seen_5 : List UInt8 := [28, 172]
abbrev dktX4_seen_5 : List UInt8 := dkwX4_seen_5 ++ []
def dkwX4_seen_4 : List UInt8 := [153, 0, 16, 42, 180, 0, 9, 29, 5, 184, 0, 53, 46, 154, 0, 5, 3, 61, 132, 3, 1, 167, 255, 210]
abbrev dktX4_seen_4 : List UInt8 := dkwX4_seen_4 ++ dktX4_seen_5
def dkwX4_seen_3 : List UInt8 := [180, 0, 9, 3, 46, 162, 0, 42, 27, 29, 122, 4, 126, 4, 160, 0, 27, 42, 180, 0, 9, 4, 46]
abbrev dktX4_seen_3 : List UInt8 := dkwX4_seen_3 ++ dktX4_seen_4
def dkwX4_seen_2 : List UInt8 := [184, 0, 66, 153, 0, 7, 4, 167, 0, 4, 3, 96, 61, 132, 3, 1, 167, 255, 216, 3, 62, 29, 42]
abbrev dktX4_seen_2 : List UInt8 := dkwX4_seen_2 ++ dktX4_seen_3
def dkwX4_seen_1 : List UInt8 := [29, 42, 180, 0, 9, 3, 46, 162, 0, 36, 28, 27, 29, 122, 4, 126, 154, 0, 18, 42, 180, 0, 9, 29]
abbrev dktX4_seen_1 : List UInt8 := dkwX4_seen_1 ++ dktX4_seen_2
def dkwX4_seen_0 : List UInt8 := [27, 3, 4, 42, 180, 0, 9, 3, 46, 120, 4, 100, 184, 0, 49, 154, 0, 5, 2, 172, 3, 61, 3, 62]
abbrev dktX4_seen_0 : List UInt8 := dkwX4_seen_0 ++ dktX4_seen_1
theorem dksX4_seen_0 : cX4_seen.data.toList.drop 0 = dktX4_seen_0 := by decide +kernel
theorem dksX4_seen_1 : cX4_seen.data.toList.drop 24 = dktX4_seen_1 := dk_seg dksX4_seen_0 24 rfl rfl
theorem dksX4_seen_2 : cX4_seen.data.toList.drop 48 = dktX4_seen_2 := dk_seg dksX4_seen_1 24 rfl rfl
theorem dksX4_seen_3 : cX4_seen.data.toList.drop 71 = dktX4_seen_3 := dk_seg dksX4_seen_2 23 rfl rfl
theorem dksX4_seen_4 : cX4_seen.data.toList.drop 94 = dktX4_seen_4 := dk_seg dksX4_seen_3 23 rfl rfl
theorem dksX4_seen_5 : cX4_seen.data.toList.drop 118 = dktX4_seen_5 := dk_seg dksX4_seen_4 24 rfl rfl
theorem dX4_seen_0 : decode cX4_seen 0 = .ok (.iload_n 1, 1) := dk_27 (dk_at dksX4_seen_0 0 rfl rfl)
theorem dX4_seen_1 : decode cX4_seen 1 = .ok (.iconst 0, 1) := dk_3 (dk_at dksX4_seen_0 1 rfl rfl)
theorem dX4_seen_2 : decode cX4_seen 2 = .ok (.iconst 1, 1) := dk_4 (dk_at dksX4_seen_0 2 rfl rfl)
theorem dX4_seen_3 : decode cX4_seen 3 = .ok (.aload_n 0, 1) := dk_42 (dk_at dksX4_seen_0 3 rfl rfl)
theorem dX4_seen_4 : decode cX4_seen 4 = .ok (.getfield 9, 3) := dk_180 0 9 (dk_at dksX4_seen_0 4 rfl rfl)
theorem dX4_seen_7 : decode cX4_seen 7 = .ok (.iconst 0, 1) := dk_3 (dk_at dksX4_seen_0 7 rfl rfl)
theorem dX4_seen_8 : decode cX4_seen 8 = .ok (.iaload, 1) := dk_46 (dk_at dksX4_seen_0 8 rfl rfl)
theorem dX4_seen_9 : decode cX4_seen 9 = .ok (.ishl, 1) := dk_120 (dk_at dksX4_seen_0 9 rfl rfl)
theorem dX4_seen_10 : decode cX4_seen 10 = .ok (.iconst 1, 1) := dk_4 (dk_at dksX4_seen_0 10 rfl rfl)
theorem dX4_seen_11 : decode cX4_seen 11 = .ok (.isub, 1) := dk_100 (dk_at dksX4_seen_0 11 rfl rfl)
theorem dX4_seen_12 : decode cX4_seen 12 = .ok (.invokestatic 49, 3) := dk_184 0 49 (dk_at dksX4_seen_0 12 rfl rfl)
theorem dX4_seen_15 : decode cX4_seen 15 = .ok (.ifCond .ne 5, 3) := dk_154 0 5 (dk_at dksX4_seen_0 15 rfl rfl)
theorem dX4_seen_18 : decode cX4_seen 18 = .ok (.iconst (-1), 1) := dk_2 (dk_at dksX4_seen_0 18 rfl rfl)
theorem dX4_seen_19 : decode cX4_seen 19 = .ok (.ireturn, 1) := dk_172 (dk_at dksX4_seen_0 19 rfl rfl)
theorem dX4_seen_20 : decode cX4_seen 20 = .ok (.iconst 0, 1) := dk_3 (dk_at dksX4_seen_0 20 rfl rfl)
theorem dX4_seen_21 : decode cX4_seen 21 = .ok (.istore_n 2, 1) := dk_61 (dk_at dksX4_seen_0 21 rfl rfl)
theorem dX4_seen_22 : decode cX4_seen 22 = .ok (.iconst 0, 1) := dk_3 (dk_at dksX4_seen_0 22 rfl rfl)
theorem dX4_seen_23 : decode cX4_seen 23 = .ok (.istore_n 3, 1) := dk_62 (dk_at dksX4_seen_0 23 rfl rfl)
theorem dX4_seen_24 : decode cX4_seen 24 = .ok (.iload_n 3, 1) := dk_29 (dk_at dksX4_seen_1 0 rfl rfl)
theorem dX4_seen_25 : decode cX4_seen 25 = .ok (.aload_n 0, 1) := dk_42 (dk_at dksX4_seen_1 1 rfl rfl)
theorem dX4_seen_26 : decode cX4_seen 26 = .ok (.getfield 9, 3) := dk_180 0 9 (dk_at dksX4_seen_1 2 rfl rfl)
theorem dX4_seen_29 : decode cX4_seen 29 = .ok (.iconst 0, 1) := dk_3 (dk_at dksX4_seen_1 5 rfl rfl)
theorem dX4_seen_30 : decode cX4_seen 30 = .ok (.iaload, 1) := dk_46 (dk_at dksX4_seen_1 6 rfl rfl)
theorem dX4_seen_31 : decode cX4_seen 31 = .ok (.if_icmp .ge 36, 3) := dk_162 0 36 (dk_at dksX4_seen_1 7 rfl rfl)
theorem dX4_seen_34 : decode cX4_seen 34 = .ok (.iload_n 2, 1) := dk_28 (dk_at dksX4_seen_1 10 rfl rfl)
theorem dX4_seen_35 : decode cX4_seen 35 = .ok (.iload_n 1, 1) := dk_27 (dk_at dksX4_seen_1 11 rfl rfl)
theorem dX4_seen_36 : decode cX4_seen 36 = .ok (.iload_n 3, 1) := dk_29 (dk_at dksX4_seen_1 12 rfl rfl)
theorem dX4_seen_37 : decode cX4_seen 37 = .ok (.ishr, 1) := dk_122 (dk_at dksX4_seen_1 13 rfl rfl)
theorem dX4_seen_38 : decode cX4_seen 38 = .ok (.iconst 1, 1) := dk_4 (dk_at dksX4_seen_1 14 rfl rfl)
theorem dX4_seen_39 : decode cX4_seen 39 = .ok (.iand, 1) := dk_126 (dk_at dksX4_seen_1 15 rfl rfl)
theorem dX4_seen_40 : decode cX4_seen 40 = .ok (.ifCond .ne 18, 3) := dk_154 0 18 (dk_at dksX4_seen_1 16 rfl rfl)
theorem dX4_seen_43 : decode cX4_seen 43 = .ok (.aload_n 0, 1) := dk_42 (dk_at dksX4_seen_1 19 rfl rfl)
theorem dX4_seen_44 : decode cX4_seen 44 = .ok (.getfield 9, 3) := dk_180 0 9 (dk_at dksX4_seen_1 20 rfl rfl)
theorem dX4_seen_47 : decode cX4_seen 47 = .ok (.iload_n 3, 1) := dk_29 (dk_at dksX4_seen_1 23 rfl rfl)
theorem dX4_seen_48 : decode cX4_seen 48 = .ok (.invokestatic 66, 3) := dk_184 0 66 (dk_at dksX4_seen_2 0 rfl rfl)
theorem dX4_seen_51 : decode cX4_seen 51 = .ok (.ifCond .eq 7, 3) := dk_153 0 7 (dk_at dksX4_seen_2 3 rfl rfl)
theorem dX4_seen_54 : decode cX4_seen 54 = .ok (.iconst 1, 1) := dk_4 (dk_at dksX4_seen_2 6 rfl rfl)
theorem dX4_seen_55 : decode cX4_seen 55 = .ok (.goto 4, 3) := dk_167 0 4 (dk_at dksX4_seen_2 7 rfl rfl)
theorem dX4_seen_58 : decode cX4_seen 58 = .ok (.iconst 0, 1) := dk_3 (dk_at dksX4_seen_2 10 rfl rfl)
theorem dX4_seen_59 : decode cX4_seen 59 = .ok (.iadd, 1) := dk_96 (dk_at dksX4_seen_2 11 rfl rfl)
theorem dX4_seen_60 : decode cX4_seen 60 = .ok (.istore_n 2, 1) := dk_61 (dk_at dksX4_seen_2 12 rfl rfl)
theorem dX4_seen_61 : decode cX4_seen 61 = .ok (.iinc 3 1, 3) := dk_132 3 1 (dk_at dksX4_seen_2 13 rfl rfl)
theorem dX4_seen_64 : decode cX4_seen 64 = .ok (.goto (-40), 3) := dk_167 255 216 (dk_at dksX4_seen_2 16 rfl rfl)
theorem dX4_seen_67 : decode cX4_seen 67 = .ok (.iconst 0, 1) := dk_3 (dk_at dksX4_seen_2 19 rfl rfl)
theorem dX4_seen_68 : decode cX4_seen 68 = .ok (.istore_n 3, 1) := dk_62 (dk_at dksX4_seen_2 20 rfl rfl)
theorem dX4_seen_69 : decode cX4_seen 69 = .ok (.iload_n 3, 1) := dk_29 (dk_at dksX4_seen_2 21 rfl rfl)
theorem dX4_seen_70 : decode cX4_seen 70 = .ok (.aload_n 0, 1) := dk_42 (dk_at dksX4_seen_2 22 rfl rfl)
theorem dX4_seen_71 : decode cX4_seen 71 = .ok (.getfield 9, 3) := dk_180 0 9 (dk_at dksX4_seen_3 0 rfl rfl)
theorem dX4_seen_74 : decode cX4_seen 74 = .ok (.iconst 0, 1) := dk_3 (dk_at dksX4_seen_3 3 rfl rfl)
theorem dX4_seen_75 : decode cX4_seen 75 = .ok (.iaload, 1) := dk_46 (dk_at dksX4_seen_3 4 rfl rfl)
theorem dX4_seen_76 : decode cX4_seen 76 = .ok (.if_icmp .ge 42, 3) := dk_162 0 42 (dk_at dksX4_seen_3 5 rfl rfl)
theorem dX4_seen_79 : decode cX4_seen 79 = .ok (.iload_n 1, 1) := dk_27 (dk_at dksX4_seen_3 8 rfl rfl)
theorem dX4_seen_80 : decode cX4_seen 80 = .ok (.iload_n 3, 1) := dk_29 (dk_at dksX4_seen_3 9 rfl rfl)
theorem dX4_seen_81 : decode cX4_seen 81 = .ok (.ishr, 1) := dk_122 (dk_at dksX4_seen_3 10 rfl rfl)
theorem dX4_seen_82 : decode cX4_seen 82 = .ok (.iconst 1, 1) := dk_4 (dk_at dksX4_seen_3 11 rfl rfl)
theorem dX4_seen_83 : decode cX4_seen 83 = .ok (.iand, 1) := dk_126 (dk_at dksX4_seen_3 12 rfl rfl)
theorem dX4_seen_84 : decode cX4_seen 84 = .ok (.iconst 1, 1) := dk_4 (dk_at dksX4_seen_3 13 rfl rfl)
theorem dX4_seen_85 : decode cX4_seen 85 = .ok (.if_icmp .ne 27, 3) := dk_160 0 27 (dk_at dksX4_seen_3 14 rfl rfl)
theorem dX4_seen_88 : decode cX4_seen 88 = .ok (.aload_n 0, 1) := dk_42 (dk_at dksX4_seen_3 17 rfl rfl)
theorem dX4_seen_89 : decode cX4_seen 89 = .ok (.getfield 9, 3) := dk_180 0 9 (dk_at dksX4_seen_3 18 rfl rfl)
theorem dX4_seen_92 : decode cX4_seen 92 = .ok (.iconst 1, 1) := dk_4 (dk_at dksX4_seen_3 21 rfl rfl)
theorem dX4_seen_93 : decode cX4_seen 93 = .ok (.iaload, 1) := dk_46 (dk_at dksX4_seen_3 22 rfl rfl)
theorem dX4_seen_94 : decode cX4_seen 94 = .ok (.ifCond .eq 16, 3) := dk_153 0 16 (dk_at dksX4_seen_4 0 rfl rfl)
theorem dX4_seen_97 : decode cX4_seen 97 = .ok (.aload_n 0, 1) := dk_42 (dk_at dksX4_seen_4 3 rfl rfl)
theorem dX4_seen_98 : decode cX4_seen 98 = .ok (.getfield 9, 3) := dk_180 0 9 (dk_at dksX4_seen_4 4 rfl rfl)
theorem dX4_seen_101 : decode cX4_seen 101 = .ok (.iload_n 3, 1) := dk_29 (dk_at dksX4_seen_4 7 rfl rfl)
theorem dX4_seen_102 : decode cX4_seen 102 = .ok (.iconst 2, 1) := dk_5 (dk_at dksX4_seen_4 8 rfl rfl)
theorem dX4_seen_103 : decode cX4_seen 103 = .ok (.invokestatic 53, 3) := dk_184 0 53 (dk_at dksX4_seen_4 9 rfl rfl)
theorem dX4_seen_106 : decode cX4_seen 106 = .ok (.iaload, 1) := dk_46 (dk_at dksX4_seen_4 12 rfl rfl)
theorem dX4_seen_107 : decode cX4_seen 107 = .ok (.ifCond .ne 5, 3) := dk_154 0 5 (dk_at dksX4_seen_4 13 rfl rfl)
theorem dX4_seen_110 : decode cX4_seen 110 = .ok (.iconst 0, 1) := dk_3 (dk_at dksX4_seen_4 16 rfl rfl)
theorem dX4_seen_111 : decode cX4_seen 111 = .ok (.istore_n 2, 1) := dk_61 (dk_at dksX4_seen_4 17 rfl rfl)
theorem dX4_seen_112 : decode cX4_seen 112 = .ok (.iinc 3 1, 3) := dk_132 3 1 (dk_at dksX4_seen_4 18 rfl rfl)
theorem dX4_seen_115 : decode cX4_seen 115 = .ok (.goto (-46), 3) := dk_167 255 210 (dk_at dksX4_seen_4 21 rfl rfl)
theorem dX4_seen_118 : decode cX4_seen 118 = .ok (.iload_n 2, 1) := dk_28 (dk_at dksX4_seen_5 0 rfl rfl)
theorem dX4_seen_119 : decode cX4_seen 119 = .ok (.ireturn, 1) := dk_172 (dk_at dksX4_seen_5 1 rfl rfl)
abbrev cX4_forged : ByteArray := prog_21_method_62_code
def yX4_forged : MethodName := ⟨RX4, "forged", "(I)I"⟩
def dkwX4_forged_5 : List UInt8 := [108, 172, 42, 180, 0, 13, 21, 4, 21, 5, 184, 0, 125, 54, 6, 132, 3, 2, 167, 255, 166, 16, 252, 172]
abbrev dktX4_forged_5 : List UInt8 := dkwX4_forged_5 ++ []
def dkwX4_forged_4 : List UInt8 := [21, 5, 182, 0, 121, 153, 0, 17, 42, 180, 0, 13, 21, 4, 21, 5, 184, 0, 91, 154, 0, 7, 29, 5]
abbrev dktX4_forged_4 : List UInt8 := dkwX4_forged_4 ++ dktX4_forged_5
def dkwX4_forged_3 : List UInt8 := [180, 0, 46, 16, 100, 27, 104, 29, 96, 4, 96, 46, 54, 5, 42, 21, 4, 182, 0, 121, 153, 0, 26, 42]
abbrev dktX4_forged_3 : List UInt8 := dkwX4_forged_3 ++ dktX4_forged_4
def dkwX4_forged_2 : List UInt8 := [180, 0, 43, 27, 46, 162, 0, 86, 42, 180, 0, 46, 16, 100, 27, 104, 29, 96, 46, 54, 4, 42]
abbrev dktX4_forged_2 : List UInt8 := dkwX4_forged_2 ++ dktX4_forged_3
def dkwX4_forged_1 : List UInt8 := [16, 243, 61, 28, 153, 0, 5, 28, 172, 42, 180, 0, 9, 42, 180, 0, 13, 184, 0, 135, 3, 62, 29, 42]
abbrev dktX4_forged_1 : List UInt8 := dkwX4_forged_1 ++ dktX4_forged_2
def dkwX4_forged_0 : List UInt8 := [42, 27, 2, 182, 0, 128, 61, 28, 154, 0, 18, 42, 180, 0, 43, 27, 46, 5, 112, 4, 160, 0, 6]
abbrev dktX4_forged_0 : List UInt8 := dkwX4_forged_0 ++ dktX4_forged_1
theorem dksX4_forged_0 : cX4_forged.data.toList.drop 0 = dktX4_forged_0 := by decide +kernel
theorem dksX4_forged_1 : cX4_forged.data.toList.drop 23 = dktX4_forged_1 := dk_seg dksX4_forged_0 23 rfl rfl
theorem dksX4_forged_2 : cX4_forged.data.toList.drop 47 = dktX4_forged_2 := dk_seg dksX4_forged_1 24 rfl rfl
theorem dksX4_forged_3 : cX4_forged.data.toList.drop 69 = dktX4_forged_3 := dk_seg dksX4_forged_2 22 rfl rfl
theorem dksX4_forged_4 : cX4_forged.data.toList.drop 93 = dktX4_forged_4 := dk_seg dksX4_forged_3 24 rfl rfl
theorem dksX4_forged_5 : cX4_forged.data.toList.drop 117 = dktX4_forged_5 := dk_seg dksX4_forged_4 24 rfl rfl
theorem dX4_forged_0 : decode cX4_forged 0 = .ok (.aload_n 0, 1) := dk_42 (dk_at dksX4_forged_0 0 rfl rfl)
theorem dX4_forged_1 : decode cX4_forged 1 = .ok (.iload_n 1, 1) := dk_27 (dk_at dksX4_forged_0 1 rfl rfl)
theorem dX4_forged_2 : decode cX4_forged 2 = .ok (.iconst (-1), 1) := dk_2 (dk_at dksX4_forged_0 2 rfl rfl)
theorem dX4_forged_3 : decode cX4_forged 3 = .ok (.invokevirtual 128, 3) := dk_182 0 128 (dk_at dksX4_forged_0 3 rfl rfl)
theorem dX4_forged_6 : decode cX4_forged 6 = .ok (.istore_n 2, 1) := dk_61 (dk_at dksX4_forged_0 6 rfl rfl)
theorem dX4_forged_7 : decode cX4_forged 7 = .ok (.iload_n 2, 1) := dk_28 (dk_at dksX4_forged_0 7 rfl rfl)
theorem dX4_forged_8 : decode cX4_forged 8 = .ok (.ifCond .ne 18, 3) := dk_154 0 18 (dk_at dksX4_forged_0 8 rfl rfl)
theorem dX4_forged_11 : decode cX4_forged 11 = .ok (.aload_n 0, 1) := dk_42 (dk_at dksX4_forged_0 11 rfl rfl)
theorem dX4_forged_12 : decode cX4_forged 12 = .ok (.getfield 43, 3) := dk_180 0 43 (dk_at dksX4_forged_0 12 rfl rfl)
theorem dX4_forged_15 : decode cX4_forged 15 = .ok (.iload_n 1, 1) := dk_27 (dk_at dksX4_forged_0 15 rfl rfl)
theorem dX4_forged_16 : decode cX4_forged 16 = .ok (.iaload, 1) := dk_46 (dk_at dksX4_forged_0 16 rfl rfl)
theorem dX4_forged_17 : decode cX4_forged 17 = .ok (.iconst 2, 1) := dk_5 (dk_at dksX4_forged_0 17 rfl rfl)
theorem dX4_forged_18 : decode cX4_forged 18 = .ok (.irem, 1) := dk_112 (dk_at dksX4_forged_0 18 rfl rfl)
theorem dX4_forged_19 : decode cX4_forged 19 = .ok (.iconst 1, 1) := dk_4 (dk_at dksX4_forged_0 19 rfl rfl)
theorem dX4_forged_20 : decode cX4_forged 20 = .ok (.if_icmp .ne 6, 3) := dk_160 0 6 (dk_at dksX4_forged_0 20 rfl rfl)
theorem dX4_forged_23 : decode cX4_forged 23 = .ok (.bipush (-13), 2) := dk_16 243 (dk_at dksX4_forged_1 0 rfl rfl)
theorem dX4_forged_25 : decode cX4_forged 25 = .ok (.istore_n 2, 1) := dk_61 (dk_at dksX4_forged_1 2 rfl rfl)
theorem dX4_forged_26 : decode cX4_forged 26 = .ok (.iload_n 2, 1) := dk_28 (dk_at dksX4_forged_1 3 rfl rfl)
theorem dX4_forged_27 : decode cX4_forged 27 = .ok (.ifCond .eq 5, 3) := dk_153 0 5 (dk_at dksX4_forged_1 4 rfl rfl)
theorem dX4_forged_30 : decode cX4_forged 30 = .ok (.iload_n 2, 1) := dk_28 (dk_at dksX4_forged_1 7 rfl rfl)
theorem dX4_forged_31 : decode cX4_forged 31 = .ok (.ireturn, 1) := dk_172 (dk_at dksX4_forged_1 8 rfl rfl)
theorem dX4_forged_32 : decode cX4_forged 32 = .ok (.aload_n 0, 1) := dk_42 (dk_at dksX4_forged_1 9 rfl rfl)
theorem dX4_forged_33 : decode cX4_forged 33 = .ok (.getfield 9, 3) := dk_180 0 9 (dk_at dksX4_forged_1 10 rfl rfl)
theorem dX4_forged_36 : decode cX4_forged 36 = .ok (.aload_n 0, 1) := dk_42 (dk_at dksX4_forged_1 13 rfl rfl)
theorem dX4_forged_37 : decode cX4_forged 37 = .ok (.getfield 13, 3) := dk_180 0 13 (dk_at dksX4_forged_1 14 rfl rfl)
theorem dX4_forged_40 : decode cX4_forged 40 = .ok (.invokestatic 135, 3) := dk_184 0 135 (dk_at dksX4_forged_1 17 rfl rfl)
theorem dX4_forged_43 : decode cX4_forged 43 = .ok (.iconst 0, 1) := dk_3 (dk_at dksX4_forged_1 20 rfl rfl)
theorem dX4_forged_44 : decode cX4_forged 44 = .ok (.istore_n 3, 1) := dk_62 (dk_at dksX4_forged_1 21 rfl rfl)
theorem dX4_forged_45 : decode cX4_forged 45 = .ok (.iload_n 3, 1) := dk_29 (dk_at dksX4_forged_1 22 rfl rfl)
theorem dX4_forged_46 : decode cX4_forged 46 = .ok (.aload_n 0, 1) := dk_42 (dk_at dksX4_forged_1 23 rfl rfl)
theorem dX4_forged_47 : decode cX4_forged 47 = .ok (.getfield 43, 3) := dk_180 0 43 (dk_at dksX4_forged_2 0 rfl rfl)
theorem dX4_forged_50 : decode cX4_forged 50 = .ok (.iload_n 1, 1) := dk_27 (dk_at dksX4_forged_2 3 rfl rfl)
theorem dX4_forged_51 : decode cX4_forged 51 = .ok (.iaload, 1) := dk_46 (dk_at dksX4_forged_2 4 rfl rfl)
theorem dX4_forged_52 : decode cX4_forged 52 = .ok (.if_icmp .ge 86, 3) := dk_162 0 86 (dk_at dksX4_forged_2 5 rfl rfl)
theorem dX4_forged_55 : decode cX4_forged 55 = .ok (.aload_n 0, 1) := dk_42 (dk_at dksX4_forged_2 8 rfl rfl)
theorem dX4_forged_56 : decode cX4_forged 56 = .ok (.getfield 46, 3) := dk_180 0 46 (dk_at dksX4_forged_2 9 rfl rfl)
theorem dX4_forged_59 : decode cX4_forged 59 = .ok (.bipush 100, 2) := dk_16 100 (dk_at dksX4_forged_2 12 rfl rfl)
theorem dX4_forged_61 : decode cX4_forged 61 = .ok (.iload_n 1, 1) := dk_27 (dk_at dksX4_forged_2 14 rfl rfl)
theorem dX4_forged_62 : decode cX4_forged 62 = .ok (.imul, 1) := dk_104 (dk_at dksX4_forged_2 15 rfl rfl)
theorem dX4_forged_63 : decode cX4_forged 63 = .ok (.iload_n 3, 1) := dk_29 (dk_at dksX4_forged_2 16 rfl rfl)
theorem dX4_forged_64 : decode cX4_forged 64 = .ok (.iadd, 1) := dk_96 (dk_at dksX4_forged_2 17 rfl rfl)
theorem dX4_forged_65 : decode cX4_forged 65 = .ok (.iaload, 1) := dk_46 (dk_at dksX4_forged_2 18 rfl rfl)
theorem dX4_forged_66 : decode cX4_forged 66 = .ok (.istore 4, 2) := dk_54 4 (dk_at dksX4_forged_2 19 rfl rfl)
theorem dX4_forged_68 : decode cX4_forged 68 = .ok (.aload_n 0, 1) := dk_42 (dk_at dksX4_forged_2 21 rfl rfl)
theorem dX4_forged_69 : decode cX4_forged 69 = .ok (.getfield 46, 3) := dk_180 0 46 (dk_at dksX4_forged_3 0 rfl rfl)
theorem dX4_forged_72 : decode cX4_forged 72 = .ok (.bipush 100, 2) := dk_16 100 (dk_at dksX4_forged_3 3 rfl rfl)
theorem dX4_forged_74 : decode cX4_forged 74 = .ok (.iload_n 1, 1) := dk_27 (dk_at dksX4_forged_3 5 rfl rfl)
theorem dX4_forged_75 : decode cX4_forged 75 = .ok (.imul, 1) := dk_104 (dk_at dksX4_forged_3 6 rfl rfl)
theorem dX4_forged_76 : decode cX4_forged 76 = .ok (.iload_n 3, 1) := dk_29 (dk_at dksX4_forged_3 7 rfl rfl)
theorem dX4_forged_77 : decode cX4_forged 77 = .ok (.iadd, 1) := dk_96 (dk_at dksX4_forged_3 8 rfl rfl)
theorem dX4_forged_78 : decode cX4_forged 78 = .ok (.iconst 1, 1) := dk_4 (dk_at dksX4_forged_3 9 rfl rfl)
theorem dX4_forged_79 : decode cX4_forged 79 = .ok (.iadd, 1) := dk_96 (dk_at dksX4_forged_3 10 rfl rfl)
theorem dX4_forged_80 : decode cX4_forged 80 = .ok (.iaload, 1) := dk_46 (dk_at dksX4_forged_3 11 rfl rfl)
theorem dX4_forged_81 : decode cX4_forged 81 = .ok (.istore 5, 2) := dk_54 5 (dk_at dksX4_forged_3 12 rfl rfl)
theorem dX4_forged_83 : decode cX4_forged 83 = .ok (.aload_n 0, 1) := dk_42 (dk_at dksX4_forged_3 14 rfl rfl)
theorem dX4_forged_84 : decode cX4_forged 84 = .ok (.iload 4, 2) := dk_21 4 (dk_at dksX4_forged_3 15 rfl rfl)
theorem dX4_forged_86 : decode cX4_forged 86 = .ok (.invokevirtual 121, 3) := dk_182 0 121 (dk_at dksX4_forged_3 17 rfl rfl)
theorem dX4_forged_89 : decode cX4_forged 89 = .ok (.ifCond .eq 26, 3) := dk_153 0 26 (dk_at dksX4_forged_3 20 rfl rfl)
theorem dX4_forged_92 : decode cX4_forged 92 = .ok (.aload_n 0, 1) := dk_42 (dk_at dksX4_forged_3 23 rfl rfl)
theorem dX4_forged_93 : decode cX4_forged 93 = .ok (.iload 5, 2) := dk_21 5 (dk_at dksX4_forged_4 0 rfl rfl)
theorem dX4_forged_95 : decode cX4_forged 95 = .ok (.invokevirtual 121, 3) := dk_182 0 121 (dk_at dksX4_forged_4 2 rfl rfl)
theorem dX4_forged_98 : decode cX4_forged 98 = .ok (.ifCond .eq 17, 3) := dk_153 0 17 (dk_at dksX4_forged_4 5 rfl rfl)
theorem dX4_forged_101 : decode cX4_forged 101 = .ok (.aload_n 0, 1) := dk_42 (dk_at dksX4_forged_4 8 rfl rfl)
theorem dX4_forged_102 : decode cX4_forged 102 = .ok (.getfield 13, 3) := dk_180 0 13 (dk_at dksX4_forged_4 9 rfl rfl)
theorem dX4_forged_105 : decode cX4_forged 105 = .ok (.iload 4, 2) := dk_21 4 (dk_at dksX4_forged_4 12 rfl rfl)
theorem dX4_forged_107 : decode cX4_forged 107 = .ok (.iload 5, 2) := dk_21 5 (dk_at dksX4_forged_4 14 rfl rfl)
theorem dX4_forged_109 : decode cX4_forged 109 = .ok (.invokestatic 91, 3) := dk_184 0 91 (dk_at dksX4_forged_4 16 rfl rfl)
theorem dX4_forged_112 : decode cX4_forged 112 = .ok (.ifCond .ne 7, 3) := dk_154 0 7 (dk_at dksX4_forged_4 19 rfl rfl)
theorem dX4_forged_115 : decode cX4_forged 115 = .ok (.iload_n 3, 1) := dk_29 (dk_at dksX4_forged_4 22 rfl rfl)
theorem dX4_forged_116 : decode cX4_forged 116 = .ok (.iconst 2, 1) := dk_5 (dk_at dksX4_forged_4 23 rfl rfl)
theorem dX4_forged_117 : decode cX4_forged 117 = .ok (.idiv, 1) := dk_108 (dk_at dksX4_forged_5 0 rfl rfl)
theorem dX4_forged_118 : decode cX4_forged 118 = .ok (.ireturn, 1) := dk_172 (dk_at dksX4_forged_5 1 rfl rfl)
theorem dX4_forged_119 : decode cX4_forged 119 = .ok (.aload_n 0, 1) := dk_42 (dk_at dksX4_forged_5 2 rfl rfl)
theorem dX4_forged_120 : decode cX4_forged 120 = .ok (.getfield 13, 3) := dk_180 0 13 (dk_at dksX4_forged_5 3 rfl rfl)
theorem dX4_forged_123 : decode cX4_forged 123 = .ok (.iload 4, 2) := dk_21 4 (dk_at dksX4_forged_5 6 rfl rfl)
theorem dX4_forged_125 : decode cX4_forged 125 = .ok (.iload 5, 2) := dk_21 5 (dk_at dksX4_forged_5 8 rfl rfl)
theorem dX4_forged_127 : decode cX4_forged 127 = .ok (.invokestatic 125, 3) := dk_184 0 125 (dk_at dksX4_forged_5 10 rfl rfl)
theorem dX4_forged_130 : decode cX4_forged 130 = .ok (.istore 6, 2) := dk_54 6 (dk_at dksX4_forged_5 13 rfl rfl)
theorem dX4_forged_132 : decode cX4_forged 132 = .ok (.iinc 3 2, 3) := dk_132 3 2 (dk_at dksX4_forged_5 15 rfl rfl)
theorem dX4_forged_135 : decode cX4_forged 135 = .ok (.goto (-90), 3) := dk_167 255 166 (dk_at dksX4_forged_5 18 rfl rfl)
theorem dX4_forged_138 : decode cX4_forged 138 = .ok (.bipush (-4), 2) := dk_16 252 (dk_at dksX4_forged_5 21 rfl rfl)
theorem dX4_forged_140 : decode cX4_forged 140 = .ok (.ireturn, 1) := dk_172 (dk_at dksX4_forged_5 23 rfl rfl)
abbrev cX4_judge : ByteArray := prog_21_method_64_code
def yX4_judge : MethodName := ⟨RX4, "judge", "(I)I"⟩
def dkwX4_judge_5 : List UInt8 := [132, 3, 1, 167, 255, 165, 16, 252, 172]
abbrev dktX4_judge_5 : List UInt8 := dkwX4_judge_5 ++ []
def dkwX4_judge_4 : List UInt8 := [27, 46, 184, 0, 187, 159, 0, 17, 21, 4, 155, 0, 10, 21, 5, 21, 6, 159, 0, 5, 29, 172]
abbrev dktX4_judge_4 : List UInt8 := dkwX4_judge_4 ++ dktX4_judge_5
def dkwX4_judge_3 : List UInt8 := [180, 0, 13, 21, 4, 16, 10, 108, 21, 4, 16, 10, 112, 184, 0, 125, 54, 6, 21, 5, 42, 180, 0, 40]
abbrev dktX4_judge_3 : List UInt8 := dkwX4_judge_3 ++ dktX4_judge_4
def dkwX4_judge_2 : List UInt8 := [180, 0, 46, 16, 100, 27, 104, 29, 96, 46, 54, 5, 21, 4, 156, 0, 7, 3, 167, 0, 20, 42]
abbrev dktX4_judge_2 : List UInt8 := dkwX4_judge_2 ++ dktX4_judge_3
def dkwX4_judge_1 : List UInt8 := [3, 62, 29, 42, 180, 0, 43, 27, 46, 162, 0, 87, 42, 180, 0, 13, 184, 0, 95, 54, 4, 42]
abbrev dktX4_judge_1 : List UInt8 := dkwX4_judge_1 ++ dktX4_judge_2
def dkwX4_judge_0 : List UInt8 := [42, 27, 2, 182, 0, 128, 61, 28, 153, 0, 5, 28, 172, 42, 180, 0, 9, 42, 180, 0, 13, 184, 0, 135]
abbrev dktX4_judge_0 : List UInt8 := dkwX4_judge_0 ++ dktX4_judge_1
theorem dksX4_judge_0 : cX4_judge.data.toList.drop 0 = dktX4_judge_0 := by decide +kernel
theorem dksX4_judge_1 : cX4_judge.data.toList.drop 24 = dktX4_judge_1 := dk_seg dksX4_judge_0 24 rfl rfl
theorem dksX4_judge_2 : cX4_judge.data.toList.drop 46 = dktX4_judge_2 := dk_seg dksX4_judge_1 22 rfl rfl
theorem dksX4_judge_3 : cX4_judge.data.toList.drop 68 = dktX4_judge_3 := dk_seg dksX4_judge_2 22 rfl rfl
theorem dksX4_judge_4 : cX4_judge.data.toList.drop 92 = dktX4_judge_4 := dk_seg dksX4_judge_3 24 rfl rfl
theorem dksX4_judge_5 : cX4_judge.data.toList.drop 114 = dktX4_judge_5 := dk_seg dksX4_judge_4 22 rfl rfl
theorem dX4_judge_0 : decode cX4_judge 0 = .ok (.aload_n 0, 1) := dk_42 (dk_at dksX4_judge_0 0 rfl rfl)
theorem dX4_judge_1 : decode cX4_judge 1 = .ok (.iload_n 1, 1) := dk_27 (dk_at dksX4_judge_0 1 rfl rfl)
theorem dX4_judge_2 : decode cX4_judge 2 = .ok (.iconst (-1), 1) := dk_2 (dk_at dksX4_judge_0 2 rfl rfl)
theorem dX4_judge_3 : decode cX4_judge 3 = .ok (.invokevirtual 128, 3) := dk_182 0 128 (dk_at dksX4_judge_0 3 rfl rfl)
theorem dX4_judge_6 : decode cX4_judge 6 = .ok (.istore_n 2, 1) := dk_61 (dk_at dksX4_judge_0 6 rfl rfl)
theorem dX4_judge_7 : decode cX4_judge 7 = .ok (.iload_n 2, 1) := dk_28 (dk_at dksX4_judge_0 7 rfl rfl)
theorem dX4_judge_8 : decode cX4_judge 8 = .ok (.ifCond .eq 5, 3) := dk_153 0 5 (dk_at dksX4_judge_0 8 rfl rfl)
theorem dX4_judge_11 : decode cX4_judge 11 = .ok (.iload_n 2, 1) := dk_28 (dk_at dksX4_judge_0 11 rfl rfl)
theorem dX4_judge_12 : decode cX4_judge 12 = .ok (.ireturn, 1) := dk_172 (dk_at dksX4_judge_0 12 rfl rfl)
theorem dX4_judge_13 : decode cX4_judge 13 = .ok (.aload_n 0, 1) := dk_42 (dk_at dksX4_judge_0 13 rfl rfl)
theorem dX4_judge_14 : decode cX4_judge 14 = .ok (.getfield 9, 3) := dk_180 0 9 (dk_at dksX4_judge_0 14 rfl rfl)
theorem dX4_judge_17 : decode cX4_judge 17 = .ok (.aload_n 0, 1) := dk_42 (dk_at dksX4_judge_0 17 rfl rfl)
theorem dX4_judge_18 : decode cX4_judge 18 = .ok (.getfield 13, 3) := dk_180 0 13 (dk_at dksX4_judge_0 18 rfl rfl)
theorem dX4_judge_21 : decode cX4_judge 21 = .ok (.invokestatic 135, 3) := dk_184 0 135 (dk_at dksX4_judge_0 21 rfl rfl)
theorem dX4_judge_24 : decode cX4_judge 24 = .ok (.iconst 0, 1) := dk_3 (dk_at dksX4_judge_1 0 rfl rfl)
theorem dX4_judge_25 : decode cX4_judge 25 = .ok (.istore_n 3, 1) := dk_62 (dk_at dksX4_judge_1 1 rfl rfl)
theorem dX4_judge_26 : decode cX4_judge 26 = .ok (.iload_n 3, 1) := dk_29 (dk_at dksX4_judge_1 2 rfl rfl)
theorem dX4_judge_27 : decode cX4_judge 27 = .ok (.aload_n 0, 1) := dk_42 (dk_at dksX4_judge_1 3 rfl rfl)
theorem dX4_judge_28 : decode cX4_judge 28 = .ok (.getfield 43, 3) := dk_180 0 43 (dk_at dksX4_judge_1 4 rfl rfl)
theorem dX4_judge_31 : decode cX4_judge 31 = .ok (.iload_n 1, 1) := dk_27 (dk_at dksX4_judge_1 7 rfl rfl)
theorem dX4_judge_32 : decode cX4_judge 32 = .ok (.iaload, 1) := dk_46 (dk_at dksX4_judge_1 8 rfl rfl)
theorem dX4_judge_33 : decode cX4_judge 33 = .ok (.if_icmp .ge 87, 3) := dk_162 0 87 (dk_at dksX4_judge_1 9 rfl rfl)
theorem dX4_judge_36 : decode cX4_judge 36 = .ok (.aload_n 0, 1) := dk_42 (dk_at dksX4_judge_1 12 rfl rfl)
theorem dX4_judge_37 : decode cX4_judge 37 = .ok (.getfield 13, 3) := dk_180 0 13 (dk_at dksX4_judge_1 13 rfl rfl)
theorem dX4_judge_40 : decode cX4_judge 40 = .ok (.invokestatic 95, 3) := dk_184 0 95 (dk_at dksX4_judge_1 16 rfl rfl)
theorem dX4_judge_43 : decode cX4_judge 43 = .ok (.istore 4, 2) := dk_54 4 (dk_at dksX4_judge_1 19 rfl rfl)
theorem dX4_judge_45 : decode cX4_judge 45 = .ok (.aload_n 0, 1) := dk_42 (dk_at dksX4_judge_1 21 rfl rfl)
theorem dX4_judge_46 : decode cX4_judge 46 = .ok (.getfield 46, 3) := dk_180 0 46 (dk_at dksX4_judge_2 0 rfl rfl)
theorem dX4_judge_49 : decode cX4_judge 49 = .ok (.bipush 100, 2) := dk_16 100 (dk_at dksX4_judge_2 3 rfl rfl)
theorem dX4_judge_51 : decode cX4_judge 51 = .ok (.iload_n 1, 1) := dk_27 (dk_at dksX4_judge_2 5 rfl rfl)
theorem dX4_judge_52 : decode cX4_judge 52 = .ok (.imul, 1) := dk_104 (dk_at dksX4_judge_2 6 rfl rfl)
theorem dX4_judge_53 : decode cX4_judge 53 = .ok (.iload_n 3, 1) := dk_29 (dk_at dksX4_judge_2 7 rfl rfl)
theorem dX4_judge_54 : decode cX4_judge 54 = .ok (.iadd, 1) := dk_96 (dk_at dksX4_judge_2 8 rfl rfl)
theorem dX4_judge_55 : decode cX4_judge 55 = .ok (.iaload, 1) := dk_46 (dk_at dksX4_judge_2 9 rfl rfl)
theorem dX4_judge_56 : decode cX4_judge 56 = .ok (.istore 5, 2) := dk_54 5 (dk_at dksX4_judge_2 10 rfl rfl)
theorem dX4_judge_58 : decode cX4_judge 58 = .ok (.iload 4, 2) := dk_21 4 (dk_at dksX4_judge_2 12 rfl rfl)
theorem dX4_judge_60 : decode cX4_judge 60 = .ok (.ifCond .ge 7, 3) := dk_156 0 7 (dk_at dksX4_judge_2 14 rfl rfl)
theorem dX4_judge_63 : decode cX4_judge 63 = .ok (.iconst 0, 1) := dk_3 (dk_at dksX4_judge_2 17 rfl rfl)
theorem dX4_judge_64 : decode cX4_judge 64 = .ok (.goto 20, 3) := dk_167 0 20 (dk_at dksX4_judge_2 18 rfl rfl)
theorem dX4_judge_67 : decode cX4_judge 67 = .ok (.aload_n 0, 1) := dk_42 (dk_at dksX4_judge_2 21 rfl rfl)
theorem dX4_judge_68 : decode cX4_judge 68 = .ok (.getfield 13, 3) := dk_180 0 13 (dk_at dksX4_judge_3 0 rfl rfl)
theorem dX4_judge_71 : decode cX4_judge 71 = .ok (.iload 4, 2) := dk_21 4 (dk_at dksX4_judge_3 3 rfl rfl)
theorem dX4_judge_73 : decode cX4_judge 73 = .ok (.bipush 10, 2) := dk_16 10 (dk_at dksX4_judge_3 5 rfl rfl)
theorem dX4_judge_75 : decode cX4_judge 75 = .ok (.idiv, 1) := dk_108 (dk_at dksX4_judge_3 7 rfl rfl)
theorem dX4_judge_76 : decode cX4_judge 76 = .ok (.iload 4, 2) := dk_21 4 (dk_at dksX4_judge_3 8 rfl rfl)
theorem dX4_judge_78 : decode cX4_judge 78 = .ok (.bipush 10, 2) := dk_16 10 (dk_at dksX4_judge_3 10 rfl rfl)
theorem dX4_judge_80 : decode cX4_judge 80 = .ok (.irem, 1) := dk_112 (dk_at dksX4_judge_3 12 rfl rfl)
theorem dX4_judge_81 : decode cX4_judge 81 = .ok (.invokestatic 125, 3) := dk_184 0 125 (dk_at dksX4_judge_3 13 rfl rfl)
theorem dX4_judge_84 : decode cX4_judge 84 = .ok (.istore 6, 2) := dk_54 6 (dk_at dksX4_judge_3 16 rfl rfl)
theorem dX4_judge_86 : decode cX4_judge 86 = .ok (.iload 5, 2) := dk_21 5 (dk_at dksX4_judge_3 18 rfl rfl)
theorem dX4_judge_88 : decode cX4_judge 88 = .ok (.aload_n 0, 1) := dk_42 (dk_at dksX4_judge_3 20 rfl rfl)
theorem dX4_judge_89 : decode cX4_judge 89 = .ok (.getfield 40, 3) := dk_180 0 40 (dk_at dksX4_judge_3 21 rfl rfl)
theorem dX4_judge_92 : decode cX4_judge 92 = .ok (.iload_n 1, 1) := dk_27 (dk_at dksX4_judge_4 0 rfl rfl)
theorem dX4_judge_93 : decode cX4_judge 93 = .ok (.iaload, 1) := dk_46 (dk_at dksX4_judge_4 1 rfl rfl)
theorem dX4_judge_94 : decode cX4_judge 94 = .ok (.invokestatic 187, 3) := dk_184 0 187 (dk_at dksX4_judge_4 2 rfl rfl)
theorem dX4_judge_97 : decode cX4_judge 97 = .ok (.if_icmp .eq 17, 3) := dk_159 0 17 (dk_at dksX4_judge_4 5 rfl rfl)
theorem dX4_judge_100 : decode cX4_judge 100 = .ok (.iload 4, 2) := dk_21 4 (dk_at dksX4_judge_4 8 rfl rfl)
theorem dX4_judge_102 : decode cX4_judge 102 = .ok (.ifCond .lt 10, 3) := dk_155 0 10 (dk_at dksX4_judge_4 10 rfl rfl)
theorem dX4_judge_105 : decode cX4_judge 105 = .ok (.iload 5, 2) := dk_21 5 (dk_at dksX4_judge_4 13 rfl rfl)
theorem dX4_judge_107 : decode cX4_judge 107 = .ok (.iload 6, 2) := dk_21 6 (dk_at dksX4_judge_4 15 rfl rfl)
theorem dX4_judge_109 : decode cX4_judge 109 = .ok (.if_icmp .eq 5, 3) := dk_159 0 5 (dk_at dksX4_judge_4 17 rfl rfl)
theorem dX4_judge_112 : decode cX4_judge 112 = .ok (.iload_n 3, 1) := dk_29 (dk_at dksX4_judge_4 20 rfl rfl)
theorem dX4_judge_113 : decode cX4_judge 113 = .ok (.ireturn, 1) := dk_172 (dk_at dksX4_judge_4 21 rfl rfl)
theorem dX4_judge_114 : decode cX4_judge 114 = .ok (.iinc 3 1, 3) := dk_132 3 1 (dk_at dksX4_judge_5 0 rfl rfl)
theorem dX4_judge_117 : decode cX4_judge 117 = .ok (.goto (-91), 3) := dk_167 255 165 (dk_at dksX4_judge_5 3 rfl rfl)
theorem dX4_judge_120 : decode cX4_judge 120 = .ok (.bipush (-4), 2) := dk_16 252 (dk_at dksX4_judge_5 6 rfl rfl)
theorem dX4_judge_122 : decode cX4_judge 122 = .ok (.ireturn, 1) := dk_172 (dk_at dksX4_judge_5 8 rfl rfl)
abbrev cX4_leastOf : ByteArray := prog_21_method_63_code
def yX4_leastOf : MethodName := ⟨RX4, "leastOf", "(I)I"⟩
def dkwX4_leastOf_0 : List UInt8 := [26, 154, 0, 8, 16, 128, 167, 0, 16, 26, 4, 160, 0, 9, 17, 128, 0, 167, 0, 5, 18, 186, 172]
abbrev dktX4_leastOf_0 : List UInt8 := dkwX4_leastOf_0 ++ []
theorem dksX4_leastOf_0 : cX4_leastOf.data.toList.drop 0 = dktX4_leastOf_0 := by decide +kernel
theorem dX4_leastOf_0 : decode cX4_leastOf 0 = .ok (.iload_n 0, 1) := dk_26 (dk_at dksX4_leastOf_0 0 rfl rfl)
theorem dX4_leastOf_1 : decode cX4_leastOf 1 = .ok (.ifCond .ne 8, 3) := dk_154 0 8 (dk_at dksX4_leastOf_0 1 rfl rfl)
theorem dX4_leastOf_4 : decode cX4_leastOf 4 = .ok (.bipush (-128), 2) := dk_16 128 (dk_at dksX4_leastOf_0 4 rfl rfl)
theorem dX4_leastOf_6 : decode cX4_leastOf 6 = .ok (.goto 16, 3) := dk_167 0 16 (dk_at dksX4_leastOf_0 6 rfl rfl)
theorem dX4_leastOf_9 : decode cX4_leastOf 9 = .ok (.iload_n 0, 1) := dk_26 (dk_at dksX4_leastOf_0 9 rfl rfl)
theorem dX4_leastOf_10 : decode cX4_leastOf 10 = .ok (.iconst 1, 1) := dk_4 (dk_at dksX4_leastOf_0 10 rfl rfl)
theorem dX4_leastOf_11 : decode cX4_leastOf 11 = .ok (.if_icmp .ne 9, 3) := dk_160 0 9 (dk_at dksX4_leastOf_0 11 rfl rfl)
theorem dX4_leastOf_14 : decode cX4_leastOf 14 = .ok (.sipush (-32768), 3) := dk_17 128 0 (dk_at dksX4_leastOf_0 14 rfl rfl)
theorem dX4_leastOf_17 : decode cX4_leastOf 17 = .ok (.goto 5, 3) := dk_167 0 5 (dk_at dksX4_leastOf_0 17 rfl rfl)
theorem dX4_leastOf_20 : decode cX4_leastOf 20 = .ok (.ldc 186, 2) := dk_18 186 (dk_at dksX4_leastOf_0 20 rfl rfl)
theorem dX4_leastOf_22 : decode cX4_leastOf 22 = .ok (.ireturn, 1) := dk_172 (dk_at dksX4_leastOf_0 22 rfl rfl)
abbrev cX4_fetes : ByteArray := prog_21_method_66_code
def yX4_fetes : MethodName := ⟨RX4, "fetes", "(III)I"⟩
def dkwX4_fetes_6 : List UInt8 := [132, 6, 1, 167, 255, 160, 29, 154, 0, 8, 21, 4, 167, 0, 5, 21, 5, 172]
abbrev dktX4_fetes_6 : List UInt8 := dkwX4_fetes_6 ++ []
def dkwX4_fetes_5 : List UInt8 := [42, 180, 0, 13, 21, 8, 21, 9, 184, 0, 125, 96, 54, 4, 132, 5, 1, 132, 7, 1, 167, 255, 186]
abbrev dktX4_fetes_5 : List UInt8 := dkwX4_fetes_5 ++ dktX4_fetes_6
def dkwX4_fetes_4 : List UInt8 := [182, 0, 196, 54, 9, 42, 180, 0, 13, 21, 8, 21, 9, 184, 0, 91, 154, 0, 6, 167, 0, 22, 21, 4]
abbrev dktX4_fetes_4 : List UInt8 := dkwX4_fetes_4 ++ dktX4_fetes_5
def dkwX4_fetes_3 : List UInt8 := [16, 10, 162, 0, 69, 42, 42, 180, 0, 9, 3, 46, 182, 0, 196, 54, 8, 42, 42, 180, 0, 9, 3, 46]
abbrev dktX4_fetes_3 : List UInt8 := dkwX4_fetes_3 ++ dktX4_fetes_4
def dkwX4_fetes_2 : List UInt8 := [54, 6, 21, 6, 27, 162, 0, 96, 42, 180, 0, 9, 42, 180, 0, 13, 184, 0, 135, 3, 54, 7, 21, 7]
abbrev dktX4_fetes_2 : List UInt8 := dkwX4_fetes_2 ++ dktX4_fetes_3
def dkwX4_fetes_1 : List UInt8 := [180, 0, 9, 3, 46, 154, 0, 6, 16, 253, 172, 42, 28, 181, 0, 190, 3, 54, 4, 3, 54, 5, 3]
abbrev dktX4_fetes_1 : List UInt8 := dkwX4_fetes_1 ++ dktX4_fetes_2
def dkwX4_fetes_0 : List UInt8 := [27, 4, 16, 20, 184, 0, 49, 153, 0, 12, 29, 3, 4, 184, 0, 49, 154, 0, 5, 2, 172, 42]
abbrev dktX4_fetes_0 : List UInt8 := dkwX4_fetes_0 ++ dktX4_fetes_1
theorem dksX4_fetes_0 : cX4_fetes.data.toList.drop 0 = dktX4_fetes_0 := by decide +kernel
theorem dksX4_fetes_1 : cX4_fetes.data.toList.drop 22 = dktX4_fetes_1 := dk_seg dksX4_fetes_0 22 rfl rfl
theorem dksX4_fetes_2 : cX4_fetes.data.toList.drop 45 = dktX4_fetes_2 := dk_seg dksX4_fetes_1 23 rfl rfl
theorem dksX4_fetes_3 : cX4_fetes.data.toList.drop 69 = dktX4_fetes_3 := dk_seg dksX4_fetes_2 24 rfl rfl
theorem dksX4_fetes_4 : cX4_fetes.data.toList.drop 93 = dktX4_fetes_4 := dk_seg dksX4_fetes_3 24 rfl rfl
theorem dksX4_fetes_5 : cX4_fetes.data.toList.drop 117 = dktX4_fetes_5 := dk_seg dksX4_fetes_4 24 rfl rfl
theorem dksX4_fetes_6 : cX4_fetes.data.toList.drop 140 = dktX4_fetes_6 := dk_seg dksX4_fetes_5 23 rfl rfl
theorem dX4_fetes_0 : decode cX4_fetes 0 = .ok (.iload_n 1, 1) := dk_27 (dk_at dksX4_fetes_0 0 rfl rfl)
theorem dX4_fetes_1 : decode cX4_fetes 1 = .ok (.iconst 1, 1) := dk_4 (dk_at dksX4_fetes_0 1 rfl rfl)
theorem dX4_fetes_2 : decode cX4_fetes 2 = .ok (.bipush 20, 2) := dk_16 20 (dk_at dksX4_fetes_0 2 rfl rfl)
theorem dX4_fetes_4 : decode cX4_fetes 4 = .ok (.invokestatic 49, 3) := dk_184 0 49 (dk_at dksX4_fetes_0 4 rfl rfl)
theorem dX4_fetes_7 : decode cX4_fetes 7 = .ok (.ifCond .eq 12, 3) := dk_153 0 12 (dk_at dksX4_fetes_0 7 rfl rfl)
theorem dX4_fetes_10 : decode cX4_fetes 10 = .ok (.iload_n 3, 1) := dk_29 (dk_at dksX4_fetes_0 10 rfl rfl)
theorem dX4_fetes_11 : decode cX4_fetes 11 = .ok (.iconst 0, 1) := dk_3 (dk_at dksX4_fetes_0 11 rfl rfl)
theorem dX4_fetes_12 : decode cX4_fetes 12 = .ok (.iconst 1, 1) := dk_4 (dk_at dksX4_fetes_0 12 rfl rfl)
theorem dX4_fetes_13 : decode cX4_fetes 13 = .ok (.invokestatic 49, 3) := dk_184 0 49 (dk_at dksX4_fetes_0 13 rfl rfl)
theorem dX4_fetes_16 : decode cX4_fetes 16 = .ok (.ifCond .ne 5, 3) := dk_154 0 5 (dk_at dksX4_fetes_0 16 rfl rfl)
theorem dX4_fetes_19 : decode cX4_fetes 19 = .ok (.iconst (-1), 1) := dk_2 (dk_at dksX4_fetes_0 19 rfl rfl)
theorem dX4_fetes_20 : decode cX4_fetes 20 = .ok (.ireturn, 1) := dk_172 (dk_at dksX4_fetes_0 20 rfl rfl)
theorem dX4_fetes_21 : decode cX4_fetes 21 = .ok (.aload_n 0, 1) := dk_42 (dk_at dksX4_fetes_0 21 rfl rfl)
theorem dX4_fetes_22 : decode cX4_fetes 22 = .ok (.getfield 9, 3) := dk_180 0 9 (dk_at dksX4_fetes_1 0 rfl rfl)
theorem dX4_fetes_25 : decode cX4_fetes 25 = .ok (.iconst 0, 1) := dk_3 (dk_at dksX4_fetes_1 3 rfl rfl)
theorem dX4_fetes_26 : decode cX4_fetes 26 = .ok (.iaload, 1) := dk_46 (dk_at dksX4_fetes_1 4 rfl rfl)
theorem dX4_fetes_27 : decode cX4_fetes 27 = .ok (.ifCond .ne 6, 3) := dk_154 0 6 (dk_at dksX4_fetes_1 5 rfl rfl)
theorem dX4_fetes_30 : decode cX4_fetes 30 = .ok (.bipush (-3), 2) := dk_16 253 (dk_at dksX4_fetes_1 8 rfl rfl)
theorem dX4_fetes_32 : decode cX4_fetes 32 = .ok (.ireturn, 1) := dk_172 (dk_at dksX4_fetes_1 10 rfl rfl)
theorem dX4_fetes_33 : decode cX4_fetes 33 = .ok (.aload_n 0, 1) := dk_42 (dk_at dksX4_fetes_1 11 rfl rfl)
theorem dX4_fetes_34 : decode cX4_fetes 34 = .ok (.iload_n 2, 1) := dk_28 (dk_at dksX4_fetes_1 12 rfl rfl)
theorem dX4_fetes_35 : decode cX4_fetes 35 = .ok (.putfield 190, 3) := dk_181 0 190 (dk_at dksX4_fetes_1 13 rfl rfl)
theorem dX4_fetes_38 : decode cX4_fetes 38 = .ok (.iconst 0, 1) := dk_3 (dk_at dksX4_fetes_1 16 rfl rfl)
theorem dX4_fetes_39 : decode cX4_fetes 39 = .ok (.istore 4, 2) := dk_54 4 (dk_at dksX4_fetes_1 17 rfl rfl)
theorem dX4_fetes_41 : decode cX4_fetes 41 = .ok (.iconst 0, 1) := dk_3 (dk_at dksX4_fetes_1 19 rfl rfl)
theorem dX4_fetes_42 : decode cX4_fetes 42 = .ok (.istore 5, 2) := dk_54 5 (dk_at dksX4_fetes_1 20 rfl rfl)
theorem dX4_fetes_44 : decode cX4_fetes 44 = .ok (.iconst 0, 1) := dk_3 (dk_at dksX4_fetes_1 22 rfl rfl)
theorem dX4_fetes_45 : decode cX4_fetes 45 = .ok (.istore 6, 2) := dk_54 6 (dk_at dksX4_fetes_2 0 rfl rfl)
theorem dX4_fetes_47 : decode cX4_fetes 47 = .ok (.iload 6, 2) := dk_21 6 (dk_at dksX4_fetes_2 2 rfl rfl)
theorem dX4_fetes_49 : decode cX4_fetes 49 = .ok (.iload_n 1, 1) := dk_27 (dk_at dksX4_fetes_2 4 rfl rfl)
theorem dX4_fetes_50 : decode cX4_fetes 50 = .ok (.if_icmp .ge 96, 3) := dk_162 0 96 (dk_at dksX4_fetes_2 5 rfl rfl)
theorem dX4_fetes_53 : decode cX4_fetes 53 = .ok (.aload_n 0, 1) := dk_42 (dk_at dksX4_fetes_2 8 rfl rfl)
theorem dX4_fetes_54 : decode cX4_fetes 54 = .ok (.getfield 9, 3) := dk_180 0 9 (dk_at dksX4_fetes_2 9 rfl rfl)
theorem dX4_fetes_57 : decode cX4_fetes 57 = .ok (.aload_n 0, 1) := dk_42 (dk_at dksX4_fetes_2 12 rfl rfl)
theorem dX4_fetes_58 : decode cX4_fetes 58 = .ok (.getfield 13, 3) := dk_180 0 13 (dk_at dksX4_fetes_2 13 rfl rfl)
theorem dX4_fetes_61 : decode cX4_fetes 61 = .ok (.invokestatic 135, 3) := dk_184 0 135 (dk_at dksX4_fetes_2 16 rfl rfl)
theorem dX4_fetes_64 : decode cX4_fetes 64 = .ok (.iconst 0, 1) := dk_3 (dk_at dksX4_fetes_2 19 rfl rfl)
theorem dX4_fetes_65 : decode cX4_fetes 65 = .ok (.istore 7, 2) := dk_54 7 (dk_at dksX4_fetes_2 20 rfl rfl)
theorem dX4_fetes_67 : decode cX4_fetes 67 = .ok (.iload 7, 2) := dk_21 7 (dk_at dksX4_fetes_2 22 rfl rfl)
theorem dX4_fetes_69 : decode cX4_fetes 69 = .ok (.bipush 10, 2) := dk_16 10 (dk_at dksX4_fetes_3 0 rfl rfl)
theorem dX4_fetes_71 : decode cX4_fetes 71 = .ok (.if_icmp .ge 69, 3) := dk_162 0 69 (dk_at dksX4_fetes_3 2 rfl rfl)
theorem dX4_fetes_74 : decode cX4_fetes 74 = .ok (.aload_n 0, 1) := dk_42 (dk_at dksX4_fetes_3 5 rfl rfl)
theorem dX4_fetes_75 : decode cX4_fetes 75 = .ok (.aload_n 0, 1) := dk_42 (dk_at dksX4_fetes_3 6 rfl rfl)
theorem dX4_fetes_76 : decode cX4_fetes 76 = .ok (.getfield 9, 3) := dk_180 0 9 (dk_at dksX4_fetes_3 7 rfl rfl)
theorem dX4_fetes_79 : decode cX4_fetes 79 = .ok (.iconst 0, 1) := dk_3 (dk_at dksX4_fetes_3 10 rfl rfl)
theorem dX4_fetes_80 : decode cX4_fetes 80 = .ok (.iaload, 1) := dk_46 (dk_at dksX4_fetes_3 11 rfl rfl)
theorem dX4_fetes_81 : decode cX4_fetes 81 = .ok (.invokevirtual 196, 3) := dk_182 0 196 (dk_at dksX4_fetes_3 12 rfl rfl)
theorem dX4_fetes_84 : decode cX4_fetes 84 = .ok (.istore 8, 2) := dk_54 8 (dk_at dksX4_fetes_3 15 rfl rfl)
theorem dX4_fetes_86 : decode cX4_fetes 86 = .ok (.aload_n 0, 1) := dk_42 (dk_at dksX4_fetes_3 17 rfl rfl)
theorem dX4_fetes_87 : decode cX4_fetes 87 = .ok (.aload_n 0, 1) := dk_42 (dk_at dksX4_fetes_3 18 rfl rfl)
theorem dX4_fetes_88 : decode cX4_fetes 88 = .ok (.getfield 9, 3) := dk_180 0 9 (dk_at dksX4_fetes_3 19 rfl rfl)
theorem dX4_fetes_91 : decode cX4_fetes 91 = .ok (.iconst 0, 1) := dk_3 (dk_at dksX4_fetes_3 22 rfl rfl)
theorem dX4_fetes_92 : decode cX4_fetes 92 = .ok (.iaload, 1) := dk_46 (dk_at dksX4_fetes_3 23 rfl rfl)
theorem dX4_fetes_93 : decode cX4_fetes 93 = .ok (.invokevirtual 196, 3) := dk_182 0 196 (dk_at dksX4_fetes_4 0 rfl rfl)
theorem dX4_fetes_96 : decode cX4_fetes 96 = .ok (.istore 9, 2) := dk_54 9 (dk_at dksX4_fetes_4 3 rfl rfl)
theorem dX4_fetes_98 : decode cX4_fetes 98 = .ok (.aload_n 0, 1) := dk_42 (dk_at dksX4_fetes_4 5 rfl rfl)
theorem dX4_fetes_99 : decode cX4_fetes 99 = .ok (.getfield 13, 3) := dk_180 0 13 (dk_at dksX4_fetes_4 6 rfl rfl)
theorem dX4_fetes_102 : decode cX4_fetes 102 = .ok (.iload 8, 2) := dk_21 8 (dk_at dksX4_fetes_4 9 rfl rfl)
theorem dX4_fetes_104 : decode cX4_fetes 104 = .ok (.iload 9, 2) := dk_21 9 (dk_at dksX4_fetes_4 11 rfl rfl)
theorem dX4_fetes_106 : decode cX4_fetes 106 = .ok (.invokestatic 91, 3) := dk_184 0 91 (dk_at dksX4_fetes_4 13 rfl rfl)
theorem dX4_fetes_109 : decode cX4_fetes 109 = .ok (.ifCond .ne 6, 3) := dk_154 0 6 (dk_at dksX4_fetes_4 16 rfl rfl)
theorem dX4_fetes_112 : decode cX4_fetes 112 = .ok (.goto 22, 3) := dk_167 0 22 (dk_at dksX4_fetes_4 19 rfl rfl)
theorem dX4_fetes_115 : decode cX4_fetes 115 = .ok (.iload 4, 2) := dk_21 4 (dk_at dksX4_fetes_4 22 rfl rfl)
theorem dX4_fetes_117 : decode cX4_fetes 117 = .ok (.aload_n 0, 1) := dk_42 (dk_at dksX4_fetes_5 0 rfl rfl)
theorem dX4_fetes_118 : decode cX4_fetes 118 = .ok (.getfield 13, 3) := dk_180 0 13 (dk_at dksX4_fetes_5 1 rfl rfl)
theorem dX4_fetes_121 : decode cX4_fetes 121 = .ok (.iload 8, 2) := dk_21 8 (dk_at dksX4_fetes_5 4 rfl rfl)
theorem dX4_fetes_123 : decode cX4_fetes 123 = .ok (.iload 9, 2) := dk_21 9 (dk_at dksX4_fetes_5 6 rfl rfl)
theorem dX4_fetes_125 : decode cX4_fetes 125 = .ok (.invokestatic 125, 3) := dk_184 0 125 (dk_at dksX4_fetes_5 8 rfl rfl)
theorem dX4_fetes_128 : decode cX4_fetes 128 = .ok (.iadd, 1) := dk_96 (dk_at dksX4_fetes_5 11 rfl rfl)
theorem dX4_fetes_129 : decode cX4_fetes 129 = .ok (.istore 4, 2) := dk_54 4 (dk_at dksX4_fetes_5 12 rfl rfl)
theorem dX4_fetes_131 : decode cX4_fetes 131 = .ok (.iinc 5 1, 3) := dk_132 5 1 (dk_at dksX4_fetes_5 14 rfl rfl)
theorem dX4_fetes_134 : decode cX4_fetes 134 = .ok (.iinc 7 1, 3) := dk_132 7 1 (dk_at dksX4_fetes_5 17 rfl rfl)
theorem dX4_fetes_137 : decode cX4_fetes 137 = .ok (.goto (-70), 3) := dk_167 255 186 (dk_at dksX4_fetes_5 20 rfl rfl)
theorem dX4_fetes_140 : decode cX4_fetes 140 = .ok (.iinc 6 1, 3) := dk_132 6 1 (dk_at dksX4_fetes_6 0 rfl rfl)
theorem dX4_fetes_143 : decode cX4_fetes 143 = .ok (.goto (-96), 3) := dk_167 255 160 (dk_at dksX4_fetes_6 3 rfl rfl)
theorem dX4_fetes_146 : decode cX4_fetes 146 = .ok (.iload_n 3, 1) := dk_29 (dk_at dksX4_fetes_6 6 rfl rfl)
theorem dX4_fetes_147 : decode cX4_fetes 147 = .ok (.ifCond .ne 8, 3) := dk_154 0 8 (dk_at dksX4_fetes_6 7 rfl rfl)
theorem dX4_fetes_150 : decode cX4_fetes 150 = .ok (.iload 4, 2) := dk_21 4 (dk_at dksX4_fetes_6 10 rfl rfl)
theorem dX4_fetes_152 : decode cX4_fetes 152 = .ok (.goto 5, 3) := dk_167 0 5 (dk_at dksX4_fetes_6 12 rfl rfl)
theorem dX4_fetes_155 : decode cX4_fetes 155 = .ok (.iload 5, 2) := dk_21 5 (dk_at dksX4_fetes_6 15 rfl rfl)
theorem dX4_fetes_157 : decode cX4_fetes 157 = .ok (.ireturn, 1) := dk_172 (dk_at dksX4_fetes_6 17 rfl rfl)
abbrev cX4_drawn : ByteArray := prog_21_method_65_code
def yX4_drawn : MethodName := ⟨RX4, "drawn", "(I)I"⟩
def dkwX4_drawn_1 : List UInt8 := [108, 27, 112, 172]
abbrev dktX4_drawn_1 : List UInt8 := dkwX4_drawn_1 ++ []
def dkwX4_drawn_0 : List UInt8 := [42, 42, 180, 0, 190, 18, 193, 104, 17, 48, 57, 96, 181, 0, 190, 42, 180, 0, 190, 18, 194, 126, 18, 195]
abbrev dktX4_drawn_0 : List UInt8 := dkwX4_drawn_0 ++ dktX4_drawn_1
theorem dksX4_drawn_0 : cX4_drawn.data.toList.drop 0 = dktX4_drawn_0 := by decide +kernel
theorem dksX4_drawn_1 : cX4_drawn.data.toList.drop 24 = dktX4_drawn_1 := dk_seg dksX4_drawn_0 24 rfl rfl
theorem dX4_drawn_0 : decode cX4_drawn 0 = .ok (.aload_n 0, 1) := dk_42 (dk_at dksX4_drawn_0 0 rfl rfl)
theorem dX4_drawn_1 : decode cX4_drawn 1 = .ok (.aload_n 0, 1) := dk_42 (dk_at dksX4_drawn_0 1 rfl rfl)
theorem dX4_drawn_2 : decode cX4_drawn 2 = .ok (.getfield 190, 3) := dk_180 0 190 (dk_at dksX4_drawn_0 2 rfl rfl)
theorem dX4_drawn_5 : decode cX4_drawn 5 = .ok (.ldc 193, 2) := dk_18 193 (dk_at dksX4_drawn_0 5 rfl rfl)
theorem dX4_drawn_7 : decode cX4_drawn 7 = .ok (.imul, 1) := dk_104 (dk_at dksX4_drawn_0 7 rfl rfl)
theorem dX4_drawn_8 : decode cX4_drawn 8 = .ok (.sipush 12345, 3) := dk_17 48 57 (dk_at dksX4_drawn_0 8 rfl rfl)
theorem dX4_drawn_11 : decode cX4_drawn 11 = .ok (.iadd, 1) := dk_96 (dk_at dksX4_drawn_0 11 rfl rfl)
theorem dX4_drawn_12 : decode cX4_drawn 12 = .ok (.putfield 190, 3) := dk_181 0 190 (dk_at dksX4_drawn_0 12 rfl rfl)
theorem dX4_drawn_15 : decode cX4_drawn 15 = .ok (.aload_n 0, 1) := dk_42 (dk_at dksX4_drawn_0 15 rfl rfl)
theorem dX4_drawn_16 : decode cX4_drawn 16 = .ok (.getfield 190, 3) := dk_180 0 190 (dk_at dksX4_drawn_0 16 rfl rfl)
theorem dX4_drawn_19 : decode cX4_drawn 19 = .ok (.ldc 194, 2) := dk_18 194 (dk_at dksX4_drawn_0 19 rfl rfl)
theorem dX4_drawn_21 : decode cX4_drawn 21 = .ok (.iand, 1) := dk_126 (dk_at dksX4_drawn_0 21 rfl rfl)
theorem dX4_drawn_22 : decode cX4_drawn 22 = .ok (.ldc 195, 2) := dk_18 195 (dk_at dksX4_drawn_0 22 rfl rfl)
theorem dX4_drawn_24 : decode cX4_drawn 24 = .ok (.idiv, 1) := dk_108 (dk_at dksX4_drawn_1 0 rfl rfl)
theorem dX4_drawn_25 : decode cX4_drawn 25 = .ok (.iload_n 1, 1) := dk_27 (dk_at dksX4_drawn_1 1 rfl rfl)
theorem dX4_drawn_26 : decode cX4_drawn 26 = .ok (.irem, 1) := dk_112 (dk_at dksX4_drawn_1 2 rfl rfl)
theorem dX4_drawn_27 : decode cX4_drawn 27 = .ok (.ireturn, 1) := dk_172 (dk_at dksX4_drawn_1 3 rfl rfl)
abbrev cX4_image : ByteArray := prog_21_method_67_code
def yX4_image : MethodName := ⟨RX4, "image", "()I"⟩
def dkwX4_image_0 : List UInt8 := [42, 180, 0, 9, 42, 180, 0, 16, 184, 0, 135, 42, 4, 181, 0, 199, 42, 180, 0, 9, 5, 46, 172]
abbrev dktX4_image_0 : List UInt8 := dkwX4_image_0 ++ []
theorem dksX4_image_0 : cX4_image.data.toList.drop 0 = dktX4_image_0 := by decide +kernel
theorem dX4_image_0 : decode cX4_image 0 = .ok (.aload_n 0, 1) := dk_42 (dk_at dksX4_image_0 0 rfl rfl)
theorem dX4_image_1 : decode cX4_image 1 = .ok (.getfield 9, 3) := dk_180 0 9 (dk_at dksX4_image_0 1 rfl rfl)
theorem dX4_image_4 : decode cX4_image 4 = .ok (.aload_n 0, 1) := dk_42 (dk_at dksX4_image_0 4 rfl rfl)
theorem dX4_image_5 : decode cX4_image 5 = .ok (.getfield 16, 3) := dk_180 0 16 (dk_at dksX4_image_0 5 rfl rfl)
theorem dX4_image_8 : decode cX4_image 8 = .ok (.invokestatic 135, 3) := dk_184 0 135 (dk_at dksX4_image_0 8 rfl rfl)
theorem dX4_image_11 : decode cX4_image 11 = .ok (.aload_n 0, 1) := dk_42 (dk_at dksX4_image_0 11 rfl rfl)
theorem dX4_image_12 : decode cX4_image 12 = .ok (.iconst 1, 1) := dk_4 (dk_at dksX4_image_0 12 rfl rfl)
theorem dX4_image_13 : decode cX4_image 13 = .ok (.putfield 199, 3) := dk_181 0 199 (dk_at dksX4_image_0 13 rfl rfl)
theorem dX4_image_16 : decode cX4_image 16 = .ok (.aload_n 0, 1) := dk_42 (dk_at dksX4_image_0 16 rfl rfl)
theorem dX4_image_17 : decode cX4_image 17 = .ok (.getfield 9, 3) := dk_180 0 9 (dk_at dksX4_image_0 17 rfl rfl)
theorem dX4_image_20 : decode cX4_image 20 = .ok (.iconst 2, 1) := dk_5 (dk_at dksX4_image_0 20 rfl rfl)
theorem dX4_image_21 : decode cX4_image 21 = .ok (.iaload, 1) := dk_46 (dk_at dksX4_image_0 21 rfl rfl)
theorem dX4_image_22 : decode cX4_image 22 = .ok (.ireturn, 1) := dk_172 (dk_at dksX4_image_0 22 rfl rfl)
abbrev cX4_restore : ByteArray := prog_21_method_68_code
def yX4_restore : MethodName := ⟨RX4, "restore", "()I"⟩
def dkwX4_restore_1 : List UInt8 := [180, 0, 9, 5, 46, 172]
abbrev dktX4_restore_1 : List UInt8 := dkwX4_restore_1 ++ []
def dkwX4_restore_0 : List UInt8 := [42, 180, 0, 199, 154, 0, 6, 16, 253, 172, 42, 180, 0, 16, 42, 180, 0, 9, 184, 0, 135, 42]
abbrev dktX4_restore_0 : List UInt8 := dkwX4_restore_0 ++ dktX4_restore_1
theorem dksX4_restore_0 : cX4_restore.data.toList.drop 0 = dktX4_restore_0 := by decide +kernel
theorem dksX4_restore_1 : cX4_restore.data.toList.drop 22 = dktX4_restore_1 := dk_seg dksX4_restore_0 22 rfl rfl
theorem dX4_restore_0 : decode cX4_restore 0 = .ok (.aload_n 0, 1) := dk_42 (dk_at dksX4_restore_0 0 rfl rfl)
theorem dX4_restore_1 : decode cX4_restore 1 = .ok (.getfield 199, 3) := dk_180 0 199 (dk_at dksX4_restore_0 1 rfl rfl)
theorem dX4_restore_4 : decode cX4_restore 4 = .ok (.ifCond .ne 6, 3) := dk_154 0 6 (dk_at dksX4_restore_0 4 rfl rfl)
theorem dX4_restore_7 : decode cX4_restore 7 = .ok (.bipush (-3), 2) := dk_16 253 (dk_at dksX4_restore_0 7 rfl rfl)
theorem dX4_restore_9 : decode cX4_restore 9 = .ok (.ireturn, 1) := dk_172 (dk_at dksX4_restore_0 9 rfl rfl)
theorem dX4_restore_10 : decode cX4_restore 10 = .ok (.aload_n 0, 1) := dk_42 (dk_at dksX4_restore_0 10 rfl rfl)
theorem dX4_restore_11 : decode cX4_restore 11 = .ok (.getfield 16, 3) := dk_180 0 16 (dk_at dksX4_restore_0 11 rfl rfl)
theorem dX4_restore_14 : decode cX4_restore 14 = .ok (.aload_n 0, 1) := dk_42 (dk_at dksX4_restore_0 14 rfl rfl)
theorem dX4_restore_15 : decode cX4_restore 15 = .ok (.getfield 9, 3) := dk_180 0 9 (dk_at dksX4_restore_0 15 rfl rfl)
theorem dX4_restore_18 : decode cX4_restore 18 = .ok (.invokestatic 135, 3) := dk_184 0 135 (dk_at dksX4_restore_0 18 rfl rfl)
theorem dX4_restore_21 : decode cX4_restore 21 = .ok (.aload_n 0, 1) := dk_42 (dk_at dksX4_restore_0 21 rfl rfl)
theorem dX4_restore_22 : decode cX4_restore 22 = .ok (.getfield 9, 3) := dk_180 0 9 (dk_at dksX4_restore_1 0 rfl rfl)
theorem dX4_restore_25 : decode cX4_restore 25 = .ok (.iconst 2, 1) := dk_5 (dk_at dksX4_restore_1 3 rfl rfl)
theorem dX4_restore_26 : decode cX4_restore 26 = .ok (.iaload, 1) := dk_46 (dk_at dksX4_restore_1 4 rfl rfl)
theorem dX4_restore_27 : decode cX4_restore 27 = .ok (.ireturn, 1) := dk_172 (dk_at dksX4_restore_1 5 rfl rfl)
abbrev cX4_count : ByteArray := prog_21_method_69_code
def yX4_count : MethodName := ⟨RX4, "count", "(I)I"⟩
def dkwX4_count_5 : List UInt8 := [167, 0, 4, 3, 96, 61, 132, 3, 1, 167, 255, 166, 28, 172]
abbrev dktX4_count_5 : List UInt8 := dkwX4_count_5 ++ []
def dkwX4_count_4 : List UInt8 := [184, 0, 53, 46, 167, 0, 23, 42, 180, 0, 9, 29, 7, 184, 0, 53, 46, 154, 0, 9, 4, 29, 120]
abbrev dktX4_count_4 : List UInt8 := dkwX4_count_4 ++ dktX4_count_5
def dkwX4_count_3 : List UInt8 := [180, 0, 9, 29, 6, 184, 0, 53, 46, 167, 0, 41, 27, 8, 160, 0, 16, 42, 180, 0, 9, 29, 7]
abbrev dktX4_count_3 : List UInt8 := dkwX4_count_3 ++ dktX4_count_4
def dkwX4_count_2 : List UInt8 := [160, 0, 16, 42, 180, 0, 9, 29, 5, 184, 0, 53, 46, 167, 0, 59, 27, 7, 160, 0, 16, 42]
abbrev dktX4_count_2 : List UInt8 := dkwX4_count_2 ++ dktX4_count_3
def dkwX4_count_1 : List UInt8 := [154, 0, 5, 2, 172, 3, 61, 3, 62, 29, 42, 180, 0, 9, 3, 46, 162, 0, 86, 28, 27, 6]
abbrev dktX4_count_1 : List UInt8 := dkwX4_count_1 ++ dktX4_count_2
def dkwX4_count_0 : List UInt8 := [27, 3, 5, 184, 0, 49, 153, 0, 10, 42, 180, 0, 9, 27, 46, 172, 27, 6, 16, 6, 184, 0, 49]
abbrev dktX4_count_0 : List UInt8 := dkwX4_count_0 ++ dktX4_count_1
theorem dksX4_count_0 : cX4_count.data.toList.drop 0 = dktX4_count_0 := by decide +kernel
theorem dksX4_count_1 : cX4_count.data.toList.drop 23 = dktX4_count_1 := dk_seg dksX4_count_0 23 rfl rfl
theorem dksX4_count_2 : cX4_count.data.toList.drop 45 = dktX4_count_2 := dk_seg dksX4_count_1 22 rfl rfl
theorem dksX4_count_3 : cX4_count.data.toList.drop 67 = dktX4_count_3 := dk_seg dksX4_count_2 22 rfl rfl
theorem dksX4_count_4 : cX4_count.data.toList.drop 90 = dktX4_count_4 := dk_seg dksX4_count_3 23 rfl rfl
theorem dksX4_count_5 : cX4_count.data.toList.drop 113 = dktX4_count_5 := dk_seg dksX4_count_4 23 rfl rfl
theorem dX4_count_0 : decode cX4_count 0 = .ok (.iload_n 1, 1) := dk_27 (dk_at dksX4_count_0 0 rfl rfl)
theorem dX4_count_1 : decode cX4_count 1 = .ok (.iconst 0, 1) := dk_3 (dk_at dksX4_count_0 1 rfl rfl)
theorem dX4_count_2 : decode cX4_count 2 = .ok (.iconst 2, 1) := dk_5 (dk_at dksX4_count_0 2 rfl rfl)
theorem dX4_count_3 : decode cX4_count 3 = .ok (.invokestatic 49, 3) := dk_184 0 49 (dk_at dksX4_count_0 3 rfl rfl)
theorem dX4_count_6 : decode cX4_count 6 = .ok (.ifCond .eq 10, 3) := dk_153 0 10 (dk_at dksX4_count_0 6 rfl rfl)
theorem dX4_count_9 : decode cX4_count 9 = .ok (.aload_n 0, 1) := dk_42 (dk_at dksX4_count_0 9 rfl rfl)
theorem dX4_count_10 : decode cX4_count 10 = .ok (.getfield 9, 3) := dk_180 0 9 (dk_at dksX4_count_0 10 rfl rfl)
theorem dX4_count_13 : decode cX4_count 13 = .ok (.iload_n 1, 1) := dk_27 (dk_at dksX4_count_0 13 rfl rfl)
theorem dX4_count_14 : decode cX4_count 14 = .ok (.iaload, 1) := dk_46 (dk_at dksX4_count_0 14 rfl rfl)
theorem dX4_count_15 : decode cX4_count 15 = .ok (.ireturn, 1) := dk_172 (dk_at dksX4_count_0 15 rfl rfl)
theorem dX4_count_16 : decode cX4_count 16 = .ok (.iload_n 1, 1) := dk_27 (dk_at dksX4_count_0 16 rfl rfl)
theorem dX4_count_17 : decode cX4_count 17 = .ok (.iconst 3, 1) := dk_6 (dk_at dksX4_count_0 17 rfl rfl)
theorem dX4_count_18 : decode cX4_count 18 = .ok (.bipush 6, 2) := dk_16 6 (dk_at dksX4_count_0 18 rfl rfl)
theorem dX4_count_20 : decode cX4_count 20 = .ok (.invokestatic 49, 3) := dk_184 0 49 (dk_at dksX4_count_0 20 rfl rfl)
theorem dX4_count_23 : decode cX4_count 23 = .ok (.ifCond .ne 5, 3) := dk_154 0 5 (dk_at dksX4_count_1 0 rfl rfl)
theorem dX4_count_26 : decode cX4_count 26 = .ok (.iconst (-1), 1) := dk_2 (dk_at dksX4_count_1 3 rfl rfl)
theorem dX4_count_27 : decode cX4_count 27 = .ok (.ireturn, 1) := dk_172 (dk_at dksX4_count_1 4 rfl rfl)
theorem dX4_count_28 : decode cX4_count 28 = .ok (.iconst 0, 1) := dk_3 (dk_at dksX4_count_1 5 rfl rfl)
theorem dX4_count_29 : decode cX4_count 29 = .ok (.istore_n 2, 1) := dk_61 (dk_at dksX4_count_1 6 rfl rfl)
theorem dX4_count_30 : decode cX4_count 30 = .ok (.iconst 0, 1) := dk_3 (dk_at dksX4_count_1 7 rfl rfl)
theorem dX4_count_31 : decode cX4_count 31 = .ok (.istore_n 3, 1) := dk_62 (dk_at dksX4_count_1 8 rfl rfl)
theorem dX4_count_32 : decode cX4_count 32 = .ok (.iload_n 3, 1) := dk_29 (dk_at dksX4_count_1 9 rfl rfl)
theorem dX4_count_33 : decode cX4_count 33 = .ok (.aload_n 0, 1) := dk_42 (dk_at dksX4_count_1 10 rfl rfl)
theorem dX4_count_34 : decode cX4_count 34 = .ok (.getfield 9, 3) := dk_180 0 9 (dk_at dksX4_count_1 11 rfl rfl)
theorem dX4_count_37 : decode cX4_count 37 = .ok (.iconst 0, 1) := dk_3 (dk_at dksX4_count_1 14 rfl rfl)
theorem dX4_count_38 : decode cX4_count 38 = .ok (.iaload, 1) := dk_46 (dk_at dksX4_count_1 15 rfl rfl)
theorem dX4_count_39 : decode cX4_count 39 = .ok (.if_icmp .ge 86, 3) := dk_162 0 86 (dk_at dksX4_count_1 16 rfl rfl)
theorem dX4_count_42 : decode cX4_count 42 = .ok (.iload_n 2, 1) := dk_28 (dk_at dksX4_count_1 19 rfl rfl)
theorem dX4_count_43 : decode cX4_count 43 = .ok (.iload_n 1, 1) := dk_27 (dk_at dksX4_count_1 20 rfl rfl)
theorem dX4_count_44 : decode cX4_count 44 = .ok (.iconst 3, 1) := dk_6 (dk_at dksX4_count_1 21 rfl rfl)
theorem dX4_count_45 : decode cX4_count 45 = .ok (.if_icmp .ne 16, 3) := dk_160 0 16 (dk_at dksX4_count_2 0 rfl rfl)
theorem dX4_count_48 : decode cX4_count 48 = .ok (.aload_n 0, 1) := dk_42 (dk_at dksX4_count_2 3 rfl rfl)
theorem dX4_count_49 : decode cX4_count 49 = .ok (.getfield 9, 3) := dk_180 0 9 (dk_at dksX4_count_2 4 rfl rfl)
theorem dX4_count_52 : decode cX4_count 52 = .ok (.iload_n 3, 1) := dk_29 (dk_at dksX4_count_2 7 rfl rfl)
theorem dX4_count_53 : decode cX4_count 53 = .ok (.iconst 2, 1) := dk_5 (dk_at dksX4_count_2 8 rfl rfl)
theorem dX4_count_54 : decode cX4_count 54 = .ok (.invokestatic 53, 3) := dk_184 0 53 (dk_at dksX4_count_2 9 rfl rfl)
theorem dX4_count_57 : decode cX4_count 57 = .ok (.iaload, 1) := dk_46 (dk_at dksX4_count_2 12 rfl rfl)
theorem dX4_count_58 : decode cX4_count 58 = .ok (.goto 59, 3) := dk_167 0 59 (dk_at dksX4_count_2 13 rfl rfl)
theorem dX4_count_61 : decode cX4_count 61 = .ok (.iload_n 1, 1) := dk_27 (dk_at dksX4_count_2 16 rfl rfl)
theorem dX4_count_62 : decode cX4_count 62 = .ok (.iconst 4, 1) := dk_7 (dk_at dksX4_count_2 17 rfl rfl)
theorem dX4_count_63 : decode cX4_count 63 = .ok (.if_icmp .ne 16, 3) := dk_160 0 16 (dk_at dksX4_count_2 18 rfl rfl)
theorem dX4_count_66 : decode cX4_count 66 = .ok (.aload_n 0, 1) := dk_42 (dk_at dksX4_count_2 21 rfl rfl)
theorem dX4_count_67 : decode cX4_count 67 = .ok (.getfield 9, 3) := dk_180 0 9 (dk_at dksX4_count_3 0 rfl rfl)
theorem dX4_count_70 : decode cX4_count 70 = .ok (.iload_n 3, 1) := dk_29 (dk_at dksX4_count_3 3 rfl rfl)
theorem dX4_count_71 : decode cX4_count 71 = .ok (.iconst 3, 1) := dk_6 (dk_at dksX4_count_3 4 rfl rfl)
theorem dX4_count_72 : decode cX4_count 72 = .ok (.invokestatic 53, 3) := dk_184 0 53 (dk_at dksX4_count_3 5 rfl rfl)
theorem dX4_count_75 : decode cX4_count 75 = .ok (.iaload, 1) := dk_46 (dk_at dksX4_count_3 8 rfl rfl)
theorem dX4_count_76 : decode cX4_count 76 = .ok (.goto 41, 3) := dk_167 0 41 (dk_at dksX4_count_3 9 rfl rfl)
theorem dX4_count_79 : decode cX4_count 79 = .ok (.iload_n 1, 1) := dk_27 (dk_at dksX4_count_3 12 rfl rfl)
theorem dX4_count_80 : decode cX4_count 80 = .ok (.iconst 5, 1) := dk_8 (dk_at dksX4_count_3 13 rfl rfl)
theorem dX4_count_81 : decode cX4_count 81 = .ok (.if_icmp .ne 16, 3) := dk_160 0 16 (dk_at dksX4_count_3 14 rfl rfl)
theorem dX4_count_84 : decode cX4_count 84 = .ok (.aload_n 0, 1) := dk_42 (dk_at dksX4_count_3 17 rfl rfl)
theorem dX4_count_85 : decode cX4_count 85 = .ok (.getfield 9, 3) := dk_180 0 9 (dk_at dksX4_count_3 18 rfl rfl)
theorem dX4_count_88 : decode cX4_count 88 = .ok (.iload_n 3, 1) := dk_29 (dk_at dksX4_count_3 21 rfl rfl)
theorem dX4_count_89 : decode cX4_count 89 = .ok (.iconst 4, 1) := dk_7 (dk_at dksX4_count_3 22 rfl rfl)
theorem dX4_count_90 : decode cX4_count 90 = .ok (.invokestatic 53, 3) := dk_184 0 53 (dk_at dksX4_count_4 0 rfl rfl)
theorem dX4_count_93 : decode cX4_count 93 = .ok (.iaload, 1) := dk_46 (dk_at dksX4_count_4 3 rfl rfl)
theorem dX4_count_94 : decode cX4_count 94 = .ok (.goto 23, 3) := dk_167 0 23 (dk_at dksX4_count_4 4 rfl rfl)
theorem dX4_count_97 : decode cX4_count 97 = .ok (.aload_n 0, 1) := dk_42 (dk_at dksX4_count_4 7 rfl rfl)
theorem dX4_count_98 : decode cX4_count 98 = .ok (.getfield 9, 3) := dk_180 0 9 (dk_at dksX4_count_4 8 rfl rfl)
theorem dX4_count_101 : decode cX4_count 101 = .ok (.iload_n 3, 1) := dk_29 (dk_at dksX4_count_4 11 rfl rfl)
theorem dX4_count_102 : decode cX4_count 102 = .ok (.iconst 4, 1) := dk_7 (dk_at dksX4_count_4 12 rfl rfl)
theorem dX4_count_103 : decode cX4_count 103 = .ok (.invokestatic 53, 3) := dk_184 0 53 (dk_at dksX4_count_4 13 rfl rfl)
theorem dX4_count_106 : decode cX4_count 106 = .ok (.iaload, 1) := dk_46 (dk_at dksX4_count_4 16 rfl rfl)
theorem dX4_count_107 : decode cX4_count 107 = .ok (.ifCond .ne 9, 3) := dk_154 0 9 (dk_at dksX4_count_4 17 rfl rfl)
theorem dX4_count_110 : decode cX4_count 110 = .ok (.iconst 1, 1) := dk_4 (dk_at dksX4_count_4 20 rfl rfl)
theorem dX4_count_111 : decode cX4_count 111 = .ok (.iload_n 3, 1) := dk_29 (dk_at dksX4_count_4 21 rfl rfl)
theorem dX4_count_112 : decode cX4_count 112 = .ok (.ishl, 1) := dk_120 (dk_at dksX4_count_4 22 rfl rfl)
theorem dX4_count_113 : decode cX4_count 113 = .ok (.goto 4, 3) := dk_167 0 4 (dk_at dksX4_count_5 0 rfl rfl)
theorem dX4_count_116 : decode cX4_count 116 = .ok (.iconst 0, 1) := dk_3 (dk_at dksX4_count_5 3 rfl rfl)
theorem dX4_count_117 : decode cX4_count 117 = .ok (.iadd, 1) := dk_96 (dk_at dksX4_count_5 4 rfl rfl)
theorem dX4_count_118 : decode cX4_count 118 = .ok (.istore_n 2, 1) := dk_61 (dk_at dksX4_count_5 5 rfl rfl)
theorem dX4_count_119 : decode cX4_count 119 = .ok (.iinc 3 1, 3) := dk_132 3 1 (dk_at dksX4_count_5 6 rfl rfl)
theorem dX4_count_122 : decode cX4_count 122 = .ok (.goto (-90), 3) := dk_167 255 166 (dk_at dksX4_count_5 9 rfl rfl)
theorem dX4_count_125 : decode cX4_count 125 = .ok (.iload_n 2, 1) := dk_28 (dk_at dksX4_count_5 12 rfl rfl)
theorem dX4_count_126 : decode cX4_count 126 = .ok (.ireturn, 1) := dk_172 (dk_at dksX4_count_5 13 rfl rfl)
abbrev cX4_thrown : ByteArray := prog_21_method_70_code
def yX4_thrown : MethodName := ⟨RX4, "thrown", "()I"⟩
theorem dX4_thrown_0 : decode cX4_thrown 0 = .ok (.aload_n 0, 1) := by decide +kernel
theorem dX4_thrown_1 : decode cX4_thrown 1 = .ok (.getfield 203, 3) := by decide +kernel
theorem dX4_thrown_4 : decode cX4_thrown 4 = .ok (.ireturn, 1) := by decide +kernel
abbrev cX4_keep : ByteArray := prog_21_method_74_code
def yX4_keep : MethodName := ⟨RX4, "keep", "(IIII)I"⟩
def dkwX4_keep_2 : List UInt8 := [180, 0, 31, 27, 28, 79, 42, 180, 0, 34, 27, 29, 79, 42, 180, 0, 37, 27, 21, 4, 79, 3, 172]
abbrev dktX4_keep_2 : List UInt8 := dkwX4_keep_2 ++ []
def dkwX4_keep_1 : List UInt8 := [16, 7, 184, 0, 49, 153, 0, 14, 21, 4, 3, 16, 9, 184, 0, 49, 154, 0, 5, 2, 172, 42]
abbrev dktX4_keep_1 : List UInt8 := dkwX4_keep_1 ++ dktX4_keep_2
def dkwX4_keep_0 : List UInt8 := [27, 184, 0, 206, 153, 0, 38, 28, 3, 4, 184, 0, 49, 153, 0, 29, 28, 4, 160, 0, 26, 29, 3]
abbrev dktX4_keep_0 : List UInt8 := dkwX4_keep_0 ++ dktX4_keep_1
theorem dksX4_keep_0 : cX4_keep.data.toList.drop 0 = dktX4_keep_0 := by decide +kernel
theorem dksX4_keep_1 : cX4_keep.data.toList.drop 23 = dktX4_keep_1 := dk_seg dksX4_keep_0 23 rfl rfl
theorem dksX4_keep_2 : cX4_keep.data.toList.drop 45 = dktX4_keep_2 := dk_seg dksX4_keep_1 22 rfl rfl
theorem dX4_keep_0 : decode cX4_keep 0 = .ok (.iload_n 1, 1) := dk_27 (dk_at dksX4_keep_0 0 rfl rfl)
theorem dX4_keep_1 : decode cX4_keep 1 = .ok (.invokestatic 206, 3) := dk_184 0 206 (dk_at dksX4_keep_0 1 rfl rfl)
theorem dX4_keep_4 : decode cX4_keep 4 = .ok (.ifCond .eq 38, 3) := dk_153 0 38 (dk_at dksX4_keep_0 4 rfl rfl)
theorem dX4_keep_7 : decode cX4_keep 7 = .ok (.iload_n 2, 1) := dk_28 (dk_at dksX4_keep_0 7 rfl rfl)
theorem dX4_keep_8 : decode cX4_keep 8 = .ok (.iconst 0, 1) := dk_3 (dk_at dksX4_keep_0 8 rfl rfl)
theorem dX4_keep_9 : decode cX4_keep 9 = .ok (.iconst 1, 1) := dk_4 (dk_at dksX4_keep_0 9 rfl rfl)
theorem dX4_keep_10 : decode cX4_keep 10 = .ok (.invokestatic 49, 3) := dk_184 0 49 (dk_at dksX4_keep_0 10 rfl rfl)
theorem dX4_keep_13 : decode cX4_keep 13 = .ok (.ifCond .eq 29, 3) := dk_153 0 29 (dk_at dksX4_keep_0 13 rfl rfl)
theorem dX4_keep_16 : decode cX4_keep 16 = .ok (.iload_n 2, 1) := dk_28 (dk_at dksX4_keep_0 16 rfl rfl)
theorem dX4_keep_17 : decode cX4_keep 17 = .ok (.iconst 1, 1) := dk_4 (dk_at dksX4_keep_0 17 rfl rfl)
theorem dX4_keep_18 : decode cX4_keep 18 = .ok (.if_icmp .ne 26, 3) := dk_160 0 26 (dk_at dksX4_keep_0 18 rfl rfl)
theorem dX4_keep_21 : decode cX4_keep 21 = .ok (.iload_n 3, 1) := dk_29 (dk_at dksX4_keep_0 21 rfl rfl)
theorem dX4_keep_22 : decode cX4_keep 22 = .ok (.iconst 0, 1) := dk_3 (dk_at dksX4_keep_0 22 rfl rfl)
theorem dX4_keep_23 : decode cX4_keep 23 = .ok (.bipush 7, 2) := dk_16 7 (dk_at dksX4_keep_1 0 rfl rfl)
theorem dX4_keep_25 : decode cX4_keep 25 = .ok (.invokestatic 49, 3) := dk_184 0 49 (dk_at dksX4_keep_1 2 rfl rfl)
theorem dX4_keep_28 : decode cX4_keep 28 = .ok (.ifCond .eq 14, 3) := dk_153 0 14 (dk_at dksX4_keep_1 5 rfl rfl)
theorem dX4_keep_31 : decode cX4_keep 31 = .ok (.iload 4, 2) := dk_21 4 (dk_at dksX4_keep_1 8 rfl rfl)
theorem dX4_keep_33 : decode cX4_keep 33 = .ok (.iconst 0, 1) := dk_3 (dk_at dksX4_keep_1 10 rfl rfl)
theorem dX4_keep_34 : decode cX4_keep 34 = .ok (.bipush 9, 2) := dk_16 9 (dk_at dksX4_keep_1 11 rfl rfl)
theorem dX4_keep_36 : decode cX4_keep 36 = .ok (.invokestatic 49, 3) := dk_184 0 49 (dk_at dksX4_keep_1 13 rfl rfl)
theorem dX4_keep_39 : decode cX4_keep 39 = .ok (.ifCond .ne 5, 3) := dk_154 0 5 (dk_at dksX4_keep_1 16 rfl rfl)
theorem dX4_keep_42 : decode cX4_keep 42 = .ok (.iconst (-1), 1) := dk_2 (dk_at dksX4_keep_1 19 rfl rfl)
theorem dX4_keep_43 : decode cX4_keep 43 = .ok (.ireturn, 1) := dk_172 (dk_at dksX4_keep_1 20 rfl rfl)
theorem dX4_keep_44 : decode cX4_keep 44 = .ok (.aload_n 0, 1) := dk_42 (dk_at dksX4_keep_1 21 rfl rfl)
theorem dX4_keep_45 : decode cX4_keep 45 = .ok (.getfield 31, 3) := dk_180 0 31 (dk_at dksX4_keep_2 0 rfl rfl)
theorem dX4_keep_48 : decode cX4_keep 48 = .ok (.iload_n 1, 1) := dk_27 (dk_at dksX4_keep_2 3 rfl rfl)
theorem dX4_keep_49 : decode cX4_keep 49 = .ok (.iload_n 2, 1) := dk_28 (dk_at dksX4_keep_2 4 rfl rfl)
theorem dX4_keep_50 : decode cX4_keep 50 = .ok (.iastore, 1) := dk_79 (dk_at dksX4_keep_2 5 rfl rfl)
theorem dX4_keep_51 : decode cX4_keep 51 = .ok (.aload_n 0, 1) := dk_42 (dk_at dksX4_keep_2 6 rfl rfl)
theorem dX4_keep_52 : decode cX4_keep 52 = .ok (.getfield 34, 3) := dk_180 0 34 (dk_at dksX4_keep_2 7 rfl rfl)
theorem dX4_keep_55 : decode cX4_keep 55 = .ok (.iload_n 1, 1) := dk_27 (dk_at dksX4_keep_2 10 rfl rfl)
theorem dX4_keep_56 : decode cX4_keep 56 = .ok (.iload_n 3, 1) := dk_29 (dk_at dksX4_keep_2 11 rfl rfl)
theorem dX4_keep_57 : decode cX4_keep 57 = .ok (.iastore, 1) := dk_79 (dk_at dksX4_keep_2 12 rfl rfl)
theorem dX4_keep_58 : decode cX4_keep 58 = .ok (.aload_n 0, 1) := dk_42 (dk_at dksX4_keep_2 13 rfl rfl)
theorem dX4_keep_59 : decode cX4_keep 59 = .ok (.getfield 37, 3) := dk_180 0 37 (dk_at dksX4_keep_2 14 rfl rfl)
theorem dX4_keep_62 : decode cX4_keep 62 = .ok (.iload_n 1, 1) := dk_27 (dk_at dksX4_keep_2 17 rfl rfl)
theorem dX4_keep_63 : decode cX4_keep 63 = .ok (.iload 4, 2) := dk_21 4 (dk_at dksX4_keep_2 18 rfl rfl)
theorem dX4_keep_65 : decode cX4_keep 65 = .ok (.iastore, 1) := dk_79 (dk_at dksX4_keep_2 20 rfl rfl)
theorem dX4_keep_66 : decode cX4_keep 66 = .ok (.iconst 0, 1) := dk_3 (dk_at dksX4_keep_2 21 rfl rfl)
theorem dX4_keep_67 : decode cX4_keep 67 = .ok (.ireturn, 1) := dk_172 (dk_at dksX4_keep_2 22 rfl rfl)
abbrev cX4_row : ByteArray := prog_21_method_75_code
def yX4_row : MethodName := ⟨RX4, "row", "(III)I"⟩
def dkwX4_row_3 : List UInt8 := [21, 4, 96, 3, 79, 132, 4, 1, 167, 255, 233, 3, 172]
abbrev dktX4_row_3 : List UInt8 := dkwX4_row_3 ++ []
def dkwX4_row_2 : List UInt8 := [180, 0, 43, 27, 29, 79, 3, 54, 4, 21, 4, 16, 100, 162, 0, 22, 42, 180, 0, 46, 16, 100, 27, 104]
abbrev dktX4_row_2 : List UInt8 := dkwX4_row_2 ++ dktX4_row_3
def dkwX4_row_1 : List UInt8 := [29, 156, 0, 6, 16, 242, 172, 42, 180, 0, 31, 27, 5, 79, 42, 180, 0, 40, 27, 28, 79, 42]
abbrev dktX4_row_1 : List UInt8 := dkwX4_row_1 ++ dktX4_row_2
def dkwX4_row_0 : List UInt8 := [27, 184, 0, 206, 153, 0, 18, 28, 3, 5, 184, 0, 49, 153, 0, 9, 29, 16, 100, 164, 0, 5, 2, 172]
abbrev dktX4_row_0 : List UInt8 := dkwX4_row_0 ++ dktX4_row_1
theorem dksX4_row_0 : cX4_row.data.toList.drop 0 = dktX4_row_0 := by decide +kernel
theorem dksX4_row_1 : cX4_row.data.toList.drop 24 = dktX4_row_1 := dk_seg dksX4_row_0 24 rfl rfl
theorem dksX4_row_2 : cX4_row.data.toList.drop 46 = dktX4_row_2 := dk_seg dksX4_row_1 22 rfl rfl
theorem dksX4_row_3 : cX4_row.data.toList.drop 70 = dktX4_row_3 := dk_seg dksX4_row_2 24 rfl rfl
theorem dX4_row_0 : decode cX4_row 0 = .ok (.iload_n 1, 1) := dk_27 (dk_at dksX4_row_0 0 rfl rfl)
theorem dX4_row_1 : decode cX4_row 1 = .ok (.invokestatic 206, 3) := dk_184 0 206 (dk_at dksX4_row_0 1 rfl rfl)
theorem dX4_row_4 : decode cX4_row 4 = .ok (.ifCond .eq 18, 3) := dk_153 0 18 (dk_at dksX4_row_0 4 rfl rfl)
theorem dX4_row_7 : decode cX4_row 7 = .ok (.iload_n 2, 1) := dk_28 (dk_at dksX4_row_0 7 rfl rfl)
theorem dX4_row_8 : decode cX4_row 8 = .ok (.iconst 0, 1) := dk_3 (dk_at dksX4_row_0 8 rfl rfl)
theorem dX4_row_9 : decode cX4_row 9 = .ok (.iconst 2, 1) := dk_5 (dk_at dksX4_row_0 9 rfl rfl)
theorem dX4_row_10 : decode cX4_row 10 = .ok (.invokestatic 49, 3) := dk_184 0 49 (dk_at dksX4_row_0 10 rfl rfl)
theorem dX4_row_13 : decode cX4_row 13 = .ok (.ifCond .eq 9, 3) := dk_153 0 9 (dk_at dksX4_row_0 13 rfl rfl)
theorem dX4_row_16 : decode cX4_row 16 = .ok (.iload_n 3, 1) := dk_29 (dk_at dksX4_row_0 16 rfl rfl)
theorem dX4_row_17 : decode cX4_row 17 = .ok (.bipush 100, 2) := dk_16 100 (dk_at dksX4_row_0 17 rfl rfl)
theorem dX4_row_19 : decode cX4_row 19 = .ok (.if_icmp .le 5, 3) := dk_164 0 5 (dk_at dksX4_row_0 19 rfl rfl)
theorem dX4_row_22 : decode cX4_row 22 = .ok (.iconst (-1), 1) := dk_2 (dk_at dksX4_row_0 22 rfl rfl)
theorem dX4_row_23 : decode cX4_row 23 = .ok (.ireturn, 1) := dk_172 (dk_at dksX4_row_0 23 rfl rfl)
theorem dX4_row_24 : decode cX4_row 24 = .ok (.iload_n 3, 1) := dk_29 (dk_at dksX4_row_1 0 rfl rfl)
theorem dX4_row_25 : decode cX4_row 25 = .ok (.ifCond .ge 6, 3) := dk_156 0 6 (dk_at dksX4_row_1 1 rfl rfl)
theorem dX4_row_28 : decode cX4_row 28 = .ok (.bipush (-14), 2) := dk_16 242 (dk_at dksX4_row_1 4 rfl rfl)
theorem dX4_row_30 : decode cX4_row 30 = .ok (.ireturn, 1) := dk_172 (dk_at dksX4_row_1 6 rfl rfl)
theorem dX4_row_31 : decode cX4_row 31 = .ok (.aload_n 0, 1) := dk_42 (dk_at dksX4_row_1 7 rfl rfl)
theorem dX4_row_32 : decode cX4_row 32 = .ok (.getfield 31, 3) := dk_180 0 31 (dk_at dksX4_row_1 8 rfl rfl)
theorem dX4_row_35 : decode cX4_row 35 = .ok (.iload_n 1, 1) := dk_27 (dk_at dksX4_row_1 11 rfl rfl)
theorem dX4_row_36 : decode cX4_row 36 = .ok (.iconst 2, 1) := dk_5 (dk_at dksX4_row_1 12 rfl rfl)
theorem dX4_row_37 : decode cX4_row 37 = .ok (.iastore, 1) := dk_79 (dk_at dksX4_row_1 13 rfl rfl)
theorem dX4_row_38 : decode cX4_row 38 = .ok (.aload_n 0, 1) := dk_42 (dk_at dksX4_row_1 14 rfl rfl)
theorem dX4_row_39 : decode cX4_row 39 = .ok (.getfield 40, 3) := dk_180 0 40 (dk_at dksX4_row_1 15 rfl rfl)
theorem dX4_row_42 : decode cX4_row 42 = .ok (.iload_n 1, 1) := dk_27 (dk_at dksX4_row_1 18 rfl rfl)
theorem dX4_row_43 : decode cX4_row 43 = .ok (.iload_n 2, 1) := dk_28 (dk_at dksX4_row_1 19 rfl rfl)
theorem dX4_row_44 : decode cX4_row 44 = .ok (.iastore, 1) := dk_79 (dk_at dksX4_row_1 20 rfl rfl)
theorem dX4_row_45 : decode cX4_row 45 = .ok (.aload_n 0, 1) := dk_42 (dk_at dksX4_row_1 21 rfl rfl)
theorem dX4_row_46 : decode cX4_row 46 = .ok (.getfield 43, 3) := dk_180 0 43 (dk_at dksX4_row_2 0 rfl rfl)
theorem dX4_row_49 : decode cX4_row 49 = .ok (.iload_n 1, 1) := dk_27 (dk_at dksX4_row_2 3 rfl rfl)
theorem dX4_row_50 : decode cX4_row 50 = .ok (.iload_n 3, 1) := dk_29 (dk_at dksX4_row_2 4 rfl rfl)
theorem dX4_row_51 : decode cX4_row 51 = .ok (.iastore, 1) := dk_79 (dk_at dksX4_row_2 5 rfl rfl)
theorem dX4_row_52 : decode cX4_row 52 = .ok (.iconst 0, 1) := dk_3 (dk_at dksX4_row_2 6 rfl rfl)
theorem dX4_row_53 : decode cX4_row 53 = .ok (.istore 4, 2) := dk_54 4 (dk_at dksX4_row_2 7 rfl rfl)
theorem dX4_row_55 : decode cX4_row 55 = .ok (.iload 4, 2) := dk_21 4 (dk_at dksX4_row_2 9 rfl rfl)
theorem dX4_row_57 : decode cX4_row 57 = .ok (.bipush 100, 2) := dk_16 100 (dk_at dksX4_row_2 11 rfl rfl)
theorem dX4_row_59 : decode cX4_row 59 = .ok (.if_icmp .ge 22, 3) := dk_162 0 22 (dk_at dksX4_row_2 13 rfl rfl)
theorem dX4_row_62 : decode cX4_row 62 = .ok (.aload_n 0, 1) := dk_42 (dk_at dksX4_row_2 16 rfl rfl)
theorem dX4_row_63 : decode cX4_row 63 = .ok (.getfield 46, 3) := dk_180 0 46 (dk_at dksX4_row_2 17 rfl rfl)
theorem dX4_row_66 : decode cX4_row 66 = .ok (.bipush 100, 2) := dk_16 100 (dk_at dksX4_row_2 20 rfl rfl)
theorem dX4_row_68 : decode cX4_row 68 = .ok (.iload_n 1, 1) := dk_27 (dk_at dksX4_row_2 22 rfl rfl)
theorem dX4_row_69 : decode cX4_row 69 = .ok (.imul, 1) := dk_104 (dk_at dksX4_row_2 23 rfl rfl)
theorem dX4_row_70 : decode cX4_row 70 = .ok (.iload 4, 2) := dk_21 4 (dk_at dksX4_row_3 0 rfl rfl)
theorem dX4_row_72 : decode cX4_row 72 = .ok (.iadd, 1) := dk_96 (dk_at dksX4_row_3 2 rfl rfl)
theorem dX4_row_73 : decode cX4_row 73 = .ok (.iconst 0, 1) := dk_3 (dk_at dksX4_row_3 3 rfl rfl)
theorem dX4_row_74 : decode cX4_row 74 = .ok (.iastore, 1) := dk_79 (dk_at dksX4_row_3 4 rfl rfl)
theorem dX4_row_75 : decode cX4_row 75 = .ok (.iinc 4 1, 3) := dk_132 4 1 (dk_at dksX4_row_3 5 rfl rfl)
theorem dX4_row_78 : decode cX4_row 78 = .ok (.goto (-23), 3) := dk_167 255 233 (dk_at dksX4_row_3 8 rfl rfl)
theorem dX4_row_81 : decode cX4_row 81 = .ok (.iconst 0, 1) := dk_3 (dk_at dksX4_row_3 11 rfl rfl)
theorem dX4_row_82 : decode cX4_row 82 = .ok (.ireturn, 1) := dk_172 (dk_at dksX4_row_3 12 rfl rfl)
abbrev cX4_put : ByteArray := prog_21_method_76_code
def yX4_put : MethodName := ⟨RX4, "put", "(III)I"⟩
def dkwX4_put_3 : List UInt8 := [147, 167, 0, 4, 29, 79, 3, 172]
abbrev dktX4_put_3 : List UInt8 := dkwX4_put_3 ++ []
def dkwX4_put_2 : List UInt8 := [180, 0, 40, 27, 46, 154, 0, 8, 29, 145, 167, 0, 19, 42, 180, 0, 40, 27, 46, 4, 160, 0, 8, 29]
abbrev dktX4_put_2 : List UInt8 := dkwX4_put_2 ++ dktX4_put_3
def dkwX4_put_1 : List UInt8 := [4, 100, 184, 0, 49, 154, 0, 6, 16, 243, 172, 42, 180, 0, 46, 16, 100, 27, 104, 28, 96, 42]
abbrev dktX4_put_1 : List UInt8 := dkwX4_put_1 ++ dktX4_put_2
def dkwX4_put_0 : List UInt8 := [42, 27, 2, 182, 0, 128, 54, 4, 21, 4, 153, 0, 6, 21, 4, 172, 28, 3, 42, 180, 0, 43, 27, 46]
abbrev dktX4_put_0 : List UInt8 := dkwX4_put_0 ++ dktX4_put_1
theorem dksX4_put_0 : cX4_put.data.toList.drop 0 = dktX4_put_0 := by decide +kernel
theorem dksX4_put_1 : cX4_put.data.toList.drop 24 = dktX4_put_1 := dk_seg dksX4_put_0 24 rfl rfl
theorem dksX4_put_2 : cX4_put.data.toList.drop 46 = dktX4_put_2 := dk_seg dksX4_put_1 22 rfl rfl
theorem dksX4_put_3 : cX4_put.data.toList.drop 70 = dktX4_put_3 := dk_seg dksX4_put_2 24 rfl rfl
theorem dX4_put_0 : decode cX4_put 0 = .ok (.aload_n 0, 1) := dk_42 (dk_at dksX4_put_0 0 rfl rfl)
theorem dX4_put_1 : decode cX4_put 1 = .ok (.iload_n 1, 1) := dk_27 (dk_at dksX4_put_0 1 rfl rfl)
theorem dX4_put_2 : decode cX4_put 2 = .ok (.iconst (-1), 1) := dk_2 (dk_at dksX4_put_0 2 rfl rfl)
theorem dX4_put_3 : decode cX4_put 3 = .ok (.invokevirtual 128, 3) := dk_182 0 128 (dk_at dksX4_put_0 3 rfl rfl)
theorem dX4_put_6 : decode cX4_put 6 = .ok (.istore 4, 2) := dk_54 4 (dk_at dksX4_put_0 6 rfl rfl)
theorem dX4_put_8 : decode cX4_put 8 = .ok (.iload 4, 2) := dk_21 4 (dk_at dksX4_put_0 8 rfl rfl)
theorem dX4_put_10 : decode cX4_put 10 = .ok (.ifCond .eq 6, 3) := dk_153 0 6 (dk_at dksX4_put_0 10 rfl rfl)
theorem dX4_put_13 : decode cX4_put 13 = .ok (.iload 4, 2) := dk_21 4 (dk_at dksX4_put_0 13 rfl rfl)
theorem dX4_put_15 : decode cX4_put 15 = .ok (.ireturn, 1) := dk_172 (dk_at dksX4_put_0 15 rfl rfl)
theorem dX4_put_16 : decode cX4_put 16 = .ok (.iload_n 2, 1) := dk_28 (dk_at dksX4_put_0 16 rfl rfl)
theorem dX4_put_17 : decode cX4_put 17 = .ok (.iconst 0, 1) := dk_3 (dk_at dksX4_put_0 17 rfl rfl)
theorem dX4_put_18 : decode cX4_put 18 = .ok (.aload_n 0, 1) := dk_42 (dk_at dksX4_put_0 18 rfl rfl)
theorem dX4_put_19 : decode cX4_put 19 = .ok (.getfield 43, 3) := dk_180 0 43 (dk_at dksX4_put_0 19 rfl rfl)
theorem dX4_put_22 : decode cX4_put 22 = .ok (.iload_n 1, 1) := dk_27 (dk_at dksX4_put_0 22 rfl rfl)
theorem dX4_put_23 : decode cX4_put 23 = .ok (.iaload, 1) := dk_46 (dk_at dksX4_put_0 23 rfl rfl)
theorem dX4_put_24 : decode cX4_put 24 = .ok (.iconst 1, 1) := dk_4 (dk_at dksX4_put_1 0 rfl rfl)
theorem dX4_put_25 : decode cX4_put 25 = .ok (.isub, 1) := dk_100 (dk_at dksX4_put_1 1 rfl rfl)
theorem dX4_put_26 : decode cX4_put 26 = .ok (.invokestatic 49, 3) := dk_184 0 49 (dk_at dksX4_put_1 2 rfl rfl)
theorem dX4_put_29 : decode cX4_put 29 = .ok (.ifCond .ne 6, 3) := dk_154 0 6 (dk_at dksX4_put_1 5 rfl rfl)
theorem dX4_put_32 : decode cX4_put 32 = .ok (.bipush (-13), 2) := dk_16 243 (dk_at dksX4_put_1 8 rfl rfl)
theorem dX4_put_34 : decode cX4_put 34 = .ok (.ireturn, 1) := dk_172 (dk_at dksX4_put_1 10 rfl rfl)
theorem dX4_put_35 : decode cX4_put 35 = .ok (.aload_n 0, 1) := dk_42 (dk_at dksX4_put_1 11 rfl rfl)
theorem dX4_put_36 : decode cX4_put 36 = .ok (.getfield 46, 3) := dk_180 0 46 (dk_at dksX4_put_1 12 rfl rfl)
theorem dX4_put_39 : decode cX4_put 39 = .ok (.bipush 100, 2) := dk_16 100 (dk_at dksX4_put_1 15 rfl rfl)
theorem dX4_put_41 : decode cX4_put 41 = .ok (.iload_n 1, 1) := dk_27 (dk_at dksX4_put_1 17 rfl rfl)
theorem dX4_put_42 : decode cX4_put 42 = .ok (.imul, 1) := dk_104 (dk_at dksX4_put_1 18 rfl rfl)
theorem dX4_put_43 : decode cX4_put 43 = .ok (.iload_n 2, 1) := dk_28 (dk_at dksX4_put_1 19 rfl rfl)
theorem dX4_put_44 : decode cX4_put 44 = .ok (.iadd, 1) := dk_96 (dk_at dksX4_put_1 20 rfl rfl)
theorem dX4_put_45 : decode cX4_put 45 = .ok (.aload_n 0, 1) := dk_42 (dk_at dksX4_put_1 21 rfl rfl)
theorem dX4_put_46 : decode cX4_put 46 = .ok (.getfield 40, 3) := dk_180 0 40 (dk_at dksX4_put_2 0 rfl rfl)
theorem dX4_put_49 : decode cX4_put 49 = .ok (.iload_n 1, 1) := dk_27 (dk_at dksX4_put_2 3 rfl rfl)
theorem dX4_put_50 : decode cX4_put 50 = .ok (.iaload, 1) := dk_46 (dk_at dksX4_put_2 4 rfl rfl)
theorem dX4_put_51 : decode cX4_put 51 = .ok (.ifCond .ne 8, 3) := dk_154 0 8 (dk_at dksX4_put_2 5 rfl rfl)
theorem dX4_put_54 : decode cX4_put 54 = .ok (.iload_n 3, 1) := dk_29 (dk_at dksX4_put_2 8 rfl rfl)
theorem dX4_put_55 : decode cX4_put 55 = .ok (.i2b, 1) := dk_145 (dk_at dksX4_put_2 9 rfl rfl)
theorem dX4_put_56 : decode cX4_put 56 = .ok (.goto 19, 3) := dk_167 0 19 (dk_at dksX4_put_2 10 rfl rfl)
theorem dX4_put_59 : decode cX4_put 59 = .ok (.aload_n 0, 1) := dk_42 (dk_at dksX4_put_2 13 rfl rfl)
theorem dX4_put_60 : decode cX4_put 60 = .ok (.getfield 40, 3) := dk_180 0 40 (dk_at dksX4_put_2 14 rfl rfl)
theorem dX4_put_63 : decode cX4_put 63 = .ok (.iload_n 1, 1) := dk_27 (dk_at dksX4_put_2 17 rfl rfl)
theorem dX4_put_64 : decode cX4_put 64 = .ok (.iaload, 1) := dk_46 (dk_at dksX4_put_2 18 rfl rfl)
theorem dX4_put_65 : decode cX4_put 65 = .ok (.iconst 1, 1) := dk_4 (dk_at dksX4_put_2 19 rfl rfl)
theorem dX4_put_66 : decode cX4_put 66 = .ok (.if_icmp .ne 8, 3) := dk_160 0 8 (dk_at dksX4_put_2 20 rfl rfl)
theorem dX4_put_69 : decode cX4_put 69 = .ok (.iload_n 3, 1) := dk_29 (dk_at dksX4_put_2 23 rfl rfl)
theorem dX4_put_70 : decode cX4_put 70 = .ok (.i2s, 1) := dk_147 (dk_at dksX4_put_3 0 rfl rfl)
theorem dX4_put_71 : decode cX4_put 71 = .ok (.goto 4, 3) := dk_167 0 4 (dk_at dksX4_put_3 1 rfl rfl)
theorem dX4_put_74 : decode cX4_put 74 = .ok (.iload_n 3, 1) := dk_29 (dk_at dksX4_put_3 4 rfl rfl)
theorem dX4_put_75 : decode cX4_put 75 = .ok (.iastore, 1) := dk_79 (dk_at dksX4_put_3 5 rfl rfl)
theorem dX4_put_76 : decode cX4_put 76 = .ok (.iconst 0, 1) := dk_3 (dk_at dksX4_put_3 6 rfl rfl)
theorem dX4_put_77 : decode cX4_put 77 = .ok (.ireturn, 1) := dk_172 (dk_at dksX4_put_3 7 rfl rfl)
abbrev cX4_element : ByteArray := prog_21_method_77_code
def yX4_element : MethodName := ⟨RX4, "element", "(II)J"⟩
def dkwX4_element_2 : List UInt8 := [180, 0, 203, 154, 0, 18, 42, 180, 0, 46, 16, 100, 27, 104, 28, 96, 46, 133, 167, 0, 4, 9, 173]
abbrev dktX4_element_2 : List UInt8 := dkwX4_element_2 ++ []
def dkwX4_element_1 : List UInt8 := [42, 180, 0, 43, 27, 46, 4, 100, 184, 0, 49, 154, 0, 7, 5, 167, 0, 4, 3, 181, 0, 203, 42]
abbrev dktX4_element_1 : List UInt8 := dkwX4_element_1 ++ dktX4_element_2
def dkwX4_element_0 : List UInt8 := [42, 27, 184, 0, 206, 154, 0, 7, 4, 167, 0, 34, 42, 180, 0, 31, 27, 46, 5, 160, 0, 19, 28, 3]
abbrev dktX4_element_0 : List UInt8 := dkwX4_element_0 ++ dktX4_element_1
theorem dksX4_element_0 : cX4_element.data.toList.drop 0 = dktX4_element_0 := by decide +kernel
theorem dksX4_element_1 : cX4_element.data.toList.drop 24 = dktX4_element_1 := dk_seg dksX4_element_0 24 rfl rfl
theorem dksX4_element_2 : cX4_element.data.toList.drop 47 = dktX4_element_2 := dk_seg dksX4_element_1 23 rfl rfl
theorem dX4_element_0 : decode cX4_element 0 = .ok (.aload_n 0, 1) := dk_42 (dk_at dksX4_element_0 0 rfl rfl)
theorem dX4_element_1 : decode cX4_element 1 = .ok (.iload_n 1, 1) := dk_27 (dk_at dksX4_element_0 1 rfl rfl)
theorem dX4_element_2 : decode cX4_element 2 = .ok (.invokestatic 206, 3) := dk_184 0 206 (dk_at dksX4_element_0 2 rfl rfl)
theorem dX4_element_5 : decode cX4_element 5 = .ok (.ifCond .ne 7, 3) := dk_154 0 7 (dk_at dksX4_element_0 5 rfl rfl)
theorem dX4_element_8 : decode cX4_element 8 = .ok (.iconst 1, 1) := dk_4 (dk_at dksX4_element_0 8 rfl rfl)
theorem dX4_element_9 : decode cX4_element 9 = .ok (.goto 34, 3) := dk_167 0 34 (dk_at dksX4_element_0 9 rfl rfl)
theorem dX4_element_12 : decode cX4_element 12 = .ok (.aload_n 0, 1) := dk_42 (dk_at dksX4_element_0 12 rfl rfl)
theorem dX4_element_13 : decode cX4_element 13 = .ok (.getfield 31, 3) := dk_180 0 31 (dk_at dksX4_element_0 13 rfl rfl)
theorem dX4_element_16 : decode cX4_element 16 = .ok (.iload_n 1, 1) := dk_27 (dk_at dksX4_element_0 16 rfl rfl)
theorem dX4_element_17 : decode cX4_element 17 = .ok (.iaload, 1) := dk_46 (dk_at dksX4_element_0 17 rfl rfl)
theorem dX4_element_18 : decode cX4_element 18 = .ok (.iconst 2, 1) := dk_5 (dk_at dksX4_element_0 18 rfl rfl)
theorem dX4_element_19 : decode cX4_element 19 = .ok (.if_icmp .ne 19, 3) := dk_160 0 19 (dk_at dksX4_element_0 19 rfl rfl)
theorem dX4_element_22 : decode cX4_element 22 = .ok (.iload_n 2, 1) := dk_28 (dk_at dksX4_element_0 22 rfl rfl)
theorem dX4_element_23 : decode cX4_element 23 = .ok (.iconst 0, 1) := dk_3 (dk_at dksX4_element_0 23 rfl rfl)
theorem dX4_element_24 : decode cX4_element 24 = .ok (.aload_n 0, 1) := dk_42 (dk_at dksX4_element_1 0 rfl rfl)
theorem dX4_element_25 : decode cX4_element 25 = .ok (.getfield 43, 3) := dk_180 0 43 (dk_at dksX4_element_1 1 rfl rfl)
theorem dX4_element_28 : decode cX4_element 28 = .ok (.iload_n 1, 1) := dk_27 (dk_at dksX4_element_1 4 rfl rfl)
theorem dX4_element_29 : decode cX4_element 29 = .ok (.iaload, 1) := dk_46 (dk_at dksX4_element_1 5 rfl rfl)
theorem dX4_element_30 : decode cX4_element 30 = .ok (.iconst 1, 1) := dk_4 (dk_at dksX4_element_1 6 rfl rfl)
theorem dX4_element_31 : decode cX4_element 31 = .ok (.isub, 1) := dk_100 (dk_at dksX4_element_1 7 rfl rfl)
theorem dX4_element_32 : decode cX4_element 32 = .ok (.invokestatic 49, 3) := dk_184 0 49 (dk_at dksX4_element_1 8 rfl rfl)
theorem dX4_element_35 : decode cX4_element 35 = .ok (.ifCond .ne 7, 3) := dk_154 0 7 (dk_at dksX4_element_1 11 rfl rfl)
theorem dX4_element_38 : decode cX4_element 38 = .ok (.iconst 2, 1) := dk_5 (dk_at dksX4_element_1 14 rfl rfl)
theorem dX4_element_39 : decode cX4_element 39 = .ok (.goto 4, 3) := dk_167 0 4 (dk_at dksX4_element_1 15 rfl rfl)
theorem dX4_element_42 : decode cX4_element 42 = .ok (.iconst 0, 1) := dk_3 (dk_at dksX4_element_1 18 rfl rfl)
theorem dX4_element_43 : decode cX4_element 43 = .ok (.putfield 203, 3) := dk_181 0 203 (dk_at dksX4_element_1 19 rfl rfl)
theorem dX4_element_46 : decode cX4_element 46 = .ok (.aload_n 0, 1) := dk_42 (dk_at dksX4_element_1 22 rfl rfl)
theorem dX4_element_47 : decode cX4_element 47 = .ok (.getfield 203, 3) := dk_180 0 203 (dk_at dksX4_element_2 0 rfl rfl)
theorem dX4_element_50 : decode cX4_element 50 = .ok (.ifCond .ne 18, 3) := dk_154 0 18 (dk_at dksX4_element_2 3 rfl rfl)
theorem dX4_element_53 : decode cX4_element 53 = .ok (.aload_n 0, 1) := dk_42 (dk_at dksX4_element_2 6 rfl rfl)
theorem dX4_element_54 : decode cX4_element 54 = .ok (.getfield 46, 3) := dk_180 0 46 (dk_at dksX4_element_2 7 rfl rfl)
theorem dX4_element_57 : decode cX4_element 57 = .ok (.bipush 100, 2) := dk_16 100 (dk_at dksX4_element_2 10 rfl rfl)
theorem dX4_element_59 : decode cX4_element 59 = .ok (.iload_n 1, 1) := dk_27 (dk_at dksX4_element_2 12 rfl rfl)
theorem dX4_element_60 : decode cX4_element 60 = .ok (.imul, 1) := dk_104 (dk_at dksX4_element_2 13 rfl rfl)
theorem dX4_element_61 : decode cX4_element 61 = .ok (.iload_n 2, 1) := dk_28 (dk_at dksX4_element_2 14 rfl rfl)
theorem dX4_element_62 : decode cX4_element 62 = .ok (.iadd, 1) := dk_96 (dk_at dksX4_element_2 15 rfl rfl)
theorem dX4_element_63 : decode cX4_element 63 = .ok (.iaload, 1) := dk_46 (dk_at dksX4_element_2 16 rfl rfl)
theorem dX4_element_64 : decode cX4_element 64 = .ok (.i2l, 1) := dk_133 (dk_at dksX4_element_2 17 rfl rfl)
theorem dX4_element_65 : decode cX4_element 65 = .ok (.goto 4, 3) := dk_167 0 4 (dk_at dksX4_element_2 18 rfl rfl)
theorem dX4_element_68 : decode cX4_element 68 = .ok (.lconst 0, 1) := dk_9 (dk_at dksX4_element_2 21 rfl rfl)
theorem dX4_element_69 : decode cX4_element 69 = .ok (.lreturn, 1) := dk_173 (dk_at dksX4_element_2 22 rfl rfl)
abbrev cX4_copy : ByteArray := prog_21_method_78_code
def yX4_copy : MethodName := ⟨RX4, "copy", "(IIIII)I"⟩
def dkwX4_copy_7 : List UInt8 := [180, 0, 46, 16, 100, 27, 104, 28, 96, 21, 7, 96, 46, 79, 132, 6, 1, 167, 255, 197, 21, 5, 172]
abbrev dktX4_copy_7 : List UInt8 := dkwX4_copy_7 ++ []
def dkwX4_copy_6 : List UInt8 := [21, 5, 4, 100, 21, 6, 100, 54, 7, 42, 180, 0, 46, 16, 100, 29, 104, 21, 4, 96, 21, 7, 96, 42]
abbrev dktX4_copy_6 : List UInt8 := dkwX4_copy_6 ++ dktX4_copy_7
def dkwX4_copy_5 : List UInt8 := [16, 243, 172, 3, 54, 6, 21, 6, 21, 5, 162, 0, 58, 28, 21, 4, 164, 0, 8, 21, 6, 167, 0, 10]
abbrev dktX4_copy_5 : List UInt8 := dkwX4_copy_5 ++ dktX4_copy_6
def dkwX4_copy_4 : List UInt8 := [180, 0, 43, 27, 46, 28, 100, 163, 0, 17, 21, 5, 42, 180, 0, 43, 29, 46, 21, 4, 100, 164, 0, 6]
abbrev dktX4_copy_4 : List UInt8 := dkwX4_copy_4 ++ dktX4_copy_5
def dkwX4_copy_3 : List UInt8 := [46, 159, 0, 6, 16, 244, 172, 21, 5, 155, 0, 39, 28, 155, 0, 35, 21, 4, 155, 0, 30, 21, 5, 42]
abbrev dktX4_copy_3 : List UInt8 := dkwX4_copy_3 ++ dktX4_copy_4
def dkwX4_copy_2 : List UInt8 := [160, 0, 28, 42, 180, 0, 31, 29, 46, 5, 160, 0, 18, 42, 180, 0, 40, 27, 46, 42, 180, 0, 40, 29]
abbrev dktX4_copy_2 : List UInt8 := dkwX4_copy_2 ++ dktX4_copy_3
def dkwX4_copy_1 : List UInt8 := [153, 0, 12, 42, 180, 0, 31, 29, 46, 154, 0, 6, 16, 245, 172, 42, 180, 0, 31, 27, 46, 5]
abbrev dktX4_copy_1 : List UInt8 := dkwX4_copy_1 ++ dktX4_copy_2
def dkwX4_copy_0 : List UInt8 := [27, 184, 0, 206, 153, 0, 10, 29, 184, 0, 206, 154, 0, 5, 2, 172, 42, 180, 0, 31, 27, 46]
abbrev dktX4_copy_0 : List UInt8 := dkwX4_copy_0 ++ dktX4_copy_1
theorem dksX4_copy_0 : cX4_copy.data.toList.drop 0 = dktX4_copy_0 := by decide +kernel
theorem dksX4_copy_1 : cX4_copy.data.toList.drop 22 = dktX4_copy_1 := dk_seg dksX4_copy_0 22 rfl rfl
theorem dksX4_copy_2 : cX4_copy.data.toList.drop 44 = dktX4_copy_2 := dk_seg dksX4_copy_1 22 rfl rfl
theorem dksX4_copy_3 : cX4_copy.data.toList.drop 68 = dktX4_copy_3 := dk_seg dksX4_copy_2 24 rfl rfl
theorem dksX4_copy_4 : cX4_copy.data.toList.drop 92 = dktX4_copy_4 := dk_seg dksX4_copy_3 24 rfl rfl
theorem dksX4_copy_5 : cX4_copy.data.toList.drop 116 = dktX4_copy_5 := dk_seg dksX4_copy_4 24 rfl rfl
theorem dksX4_copy_6 : cX4_copy.data.toList.drop 140 = dktX4_copy_6 := dk_seg dksX4_copy_5 24 rfl rfl
theorem dksX4_copy_7 : cX4_copy.data.toList.drop 164 = dktX4_copy_7 := dk_seg dksX4_copy_6 24 rfl rfl
theorem dX4_copy_0 : decode cX4_copy 0 = .ok (.iload_n 1, 1) := dk_27 (dk_at dksX4_copy_0 0 rfl rfl)
theorem dX4_copy_1 : decode cX4_copy 1 = .ok (.invokestatic 206, 3) := dk_184 0 206 (dk_at dksX4_copy_0 1 rfl rfl)
theorem dX4_copy_4 : decode cX4_copy 4 = .ok (.ifCond .eq 10, 3) := dk_153 0 10 (dk_at dksX4_copy_0 4 rfl rfl)
theorem dX4_copy_7 : decode cX4_copy 7 = .ok (.iload_n 3, 1) := dk_29 (dk_at dksX4_copy_0 7 rfl rfl)
theorem dX4_copy_8 : decode cX4_copy 8 = .ok (.invokestatic 206, 3) := dk_184 0 206 (dk_at dksX4_copy_0 8 rfl rfl)
theorem dX4_copy_11 : decode cX4_copy 11 = .ok (.ifCond .ne 5, 3) := dk_154 0 5 (dk_at dksX4_copy_0 11 rfl rfl)
theorem dX4_copy_14 : decode cX4_copy 14 = .ok (.iconst (-1), 1) := dk_2 (dk_at dksX4_copy_0 14 rfl rfl)
theorem dX4_copy_15 : decode cX4_copy 15 = .ok (.ireturn, 1) := dk_172 (dk_at dksX4_copy_0 15 rfl rfl)
theorem dX4_copy_16 : decode cX4_copy 16 = .ok (.aload_n 0, 1) := dk_42 (dk_at dksX4_copy_0 16 rfl rfl)
theorem dX4_copy_17 : decode cX4_copy 17 = .ok (.getfield 31, 3) := dk_180 0 31 (dk_at dksX4_copy_0 17 rfl rfl)
theorem dX4_copy_20 : decode cX4_copy 20 = .ok (.iload_n 1, 1) := dk_27 (dk_at dksX4_copy_0 20 rfl rfl)
theorem dX4_copy_21 : decode cX4_copy 21 = .ok (.iaload, 1) := dk_46 (dk_at dksX4_copy_0 21 rfl rfl)
theorem dX4_copy_22 : decode cX4_copy 22 = .ok (.ifCond .eq 12, 3) := dk_153 0 12 (dk_at dksX4_copy_1 0 rfl rfl)
theorem dX4_copy_25 : decode cX4_copy 25 = .ok (.aload_n 0, 1) := dk_42 (dk_at dksX4_copy_1 3 rfl rfl)
theorem dX4_copy_26 : decode cX4_copy 26 = .ok (.getfield 31, 3) := dk_180 0 31 (dk_at dksX4_copy_1 4 rfl rfl)
theorem dX4_copy_29 : decode cX4_copy 29 = .ok (.iload_n 3, 1) := dk_29 (dk_at dksX4_copy_1 7 rfl rfl)
theorem dX4_copy_30 : decode cX4_copy 30 = .ok (.iaload, 1) := dk_46 (dk_at dksX4_copy_1 8 rfl rfl)
theorem dX4_copy_31 : decode cX4_copy 31 = .ok (.ifCond .ne 6, 3) := dk_154 0 6 (dk_at dksX4_copy_1 9 rfl rfl)
theorem dX4_copy_34 : decode cX4_copy 34 = .ok (.bipush (-11), 2) := dk_16 245 (dk_at dksX4_copy_1 12 rfl rfl)
theorem dX4_copy_36 : decode cX4_copy 36 = .ok (.ireturn, 1) := dk_172 (dk_at dksX4_copy_1 14 rfl rfl)
theorem dX4_copy_37 : decode cX4_copy 37 = .ok (.aload_n 0, 1) := dk_42 (dk_at dksX4_copy_1 15 rfl rfl)
theorem dX4_copy_38 : decode cX4_copy 38 = .ok (.getfield 31, 3) := dk_180 0 31 (dk_at dksX4_copy_1 16 rfl rfl)
theorem dX4_copy_41 : decode cX4_copy 41 = .ok (.iload_n 1, 1) := dk_27 (dk_at dksX4_copy_1 19 rfl rfl)
theorem dX4_copy_42 : decode cX4_copy 42 = .ok (.iaload, 1) := dk_46 (dk_at dksX4_copy_1 20 rfl rfl)
theorem dX4_copy_43 : decode cX4_copy 43 = .ok (.iconst 2, 1) := dk_5 (dk_at dksX4_copy_1 21 rfl rfl)
theorem dX4_copy_44 : decode cX4_copy 44 = .ok (.if_icmp .ne 28, 3) := dk_160 0 28 (dk_at dksX4_copy_2 0 rfl rfl)
theorem dX4_copy_47 : decode cX4_copy 47 = .ok (.aload_n 0, 1) := dk_42 (dk_at dksX4_copy_2 3 rfl rfl)
theorem dX4_copy_48 : decode cX4_copy 48 = .ok (.getfield 31, 3) := dk_180 0 31 (dk_at dksX4_copy_2 4 rfl rfl)
theorem dX4_copy_51 : decode cX4_copy 51 = .ok (.iload_n 3, 1) := dk_29 (dk_at dksX4_copy_2 7 rfl rfl)
theorem dX4_copy_52 : decode cX4_copy 52 = .ok (.iaload, 1) := dk_46 (dk_at dksX4_copy_2 8 rfl rfl)
theorem dX4_copy_53 : decode cX4_copy 53 = .ok (.iconst 2, 1) := dk_5 (dk_at dksX4_copy_2 9 rfl rfl)
theorem dX4_copy_54 : decode cX4_copy 54 = .ok (.if_icmp .ne 18, 3) := dk_160 0 18 (dk_at dksX4_copy_2 10 rfl rfl)
theorem dX4_copy_57 : decode cX4_copy 57 = .ok (.aload_n 0, 1) := dk_42 (dk_at dksX4_copy_2 13 rfl rfl)
theorem dX4_copy_58 : decode cX4_copy 58 = .ok (.getfield 40, 3) := dk_180 0 40 (dk_at dksX4_copy_2 14 rfl rfl)
theorem dX4_copy_61 : decode cX4_copy 61 = .ok (.iload_n 1, 1) := dk_27 (dk_at dksX4_copy_2 17 rfl rfl)
theorem dX4_copy_62 : decode cX4_copy 62 = .ok (.iaload, 1) := dk_46 (dk_at dksX4_copy_2 18 rfl rfl)
theorem dX4_copy_63 : decode cX4_copy 63 = .ok (.aload_n 0, 1) := dk_42 (dk_at dksX4_copy_2 19 rfl rfl)
theorem dX4_copy_64 : decode cX4_copy 64 = .ok (.getfield 40, 3) := dk_180 0 40 (dk_at dksX4_copy_2 20 rfl rfl)
theorem dX4_copy_67 : decode cX4_copy 67 = .ok (.iload_n 3, 1) := dk_29 (dk_at dksX4_copy_2 23 rfl rfl)
theorem dX4_copy_68 : decode cX4_copy 68 = .ok (.iaload, 1) := dk_46 (dk_at dksX4_copy_3 0 rfl rfl)
theorem dX4_copy_69 : decode cX4_copy 69 = .ok (.if_icmp .eq 6, 3) := dk_159 0 6 (dk_at dksX4_copy_3 1 rfl rfl)
theorem dX4_copy_72 : decode cX4_copy 72 = .ok (.bipush (-12), 2) := dk_16 244 (dk_at dksX4_copy_3 4 rfl rfl)
theorem dX4_copy_74 : decode cX4_copy 74 = .ok (.ireturn, 1) := dk_172 (dk_at dksX4_copy_3 6 rfl rfl)
theorem dX4_copy_75 : decode cX4_copy 75 = .ok (.iload 5, 2) := dk_21 5 (dk_at dksX4_copy_3 7 rfl rfl)
theorem dX4_copy_77 : decode cX4_copy 77 = .ok (.ifCond .lt 39, 3) := dk_155 0 39 (dk_at dksX4_copy_3 9 rfl rfl)
theorem dX4_copy_80 : decode cX4_copy 80 = .ok (.iload_n 2, 1) := dk_28 (dk_at dksX4_copy_3 12 rfl rfl)
theorem dX4_copy_81 : decode cX4_copy 81 = .ok (.ifCond .lt 35, 3) := dk_155 0 35 (dk_at dksX4_copy_3 13 rfl rfl)
theorem dX4_copy_84 : decode cX4_copy 84 = .ok (.iload 4, 2) := dk_21 4 (dk_at dksX4_copy_3 16 rfl rfl)
theorem dX4_copy_86 : decode cX4_copy 86 = .ok (.ifCond .lt 30, 3) := dk_155 0 30 (dk_at dksX4_copy_3 18 rfl rfl)
theorem dX4_copy_89 : decode cX4_copy 89 = .ok (.iload 5, 2) := dk_21 5 (dk_at dksX4_copy_3 21 rfl rfl)
theorem dX4_copy_91 : decode cX4_copy 91 = .ok (.aload_n 0, 1) := dk_42 (dk_at dksX4_copy_3 23 rfl rfl)
theorem dX4_copy_92 : decode cX4_copy 92 = .ok (.getfield 43, 3) := dk_180 0 43 (dk_at dksX4_copy_4 0 rfl rfl)
theorem dX4_copy_95 : decode cX4_copy 95 = .ok (.iload_n 1, 1) := dk_27 (dk_at dksX4_copy_4 3 rfl rfl)
theorem dX4_copy_96 : decode cX4_copy 96 = .ok (.iaload, 1) := dk_46 (dk_at dksX4_copy_4 4 rfl rfl)
theorem dX4_copy_97 : decode cX4_copy 97 = .ok (.iload_n 2, 1) := dk_28 (dk_at dksX4_copy_4 5 rfl rfl)
theorem dX4_copy_98 : decode cX4_copy 98 = .ok (.isub, 1) := dk_100 (dk_at dksX4_copy_4 6 rfl rfl)
theorem dX4_copy_99 : decode cX4_copy 99 = .ok (.if_icmp .gt 17, 3) := dk_163 0 17 (dk_at dksX4_copy_4 7 rfl rfl)
theorem dX4_copy_102 : decode cX4_copy 102 = .ok (.iload 5, 2) := dk_21 5 (dk_at dksX4_copy_4 10 rfl rfl)
theorem dX4_copy_104 : decode cX4_copy 104 = .ok (.aload_n 0, 1) := dk_42 (dk_at dksX4_copy_4 12 rfl rfl)
theorem dX4_copy_105 : decode cX4_copy 105 = .ok (.getfield 43, 3) := dk_180 0 43 (dk_at dksX4_copy_4 13 rfl rfl)
theorem dX4_copy_108 : decode cX4_copy 108 = .ok (.iload_n 3, 1) := dk_29 (dk_at dksX4_copy_4 16 rfl rfl)
theorem dX4_copy_109 : decode cX4_copy 109 = .ok (.iaload, 1) := dk_46 (dk_at dksX4_copy_4 17 rfl rfl)
theorem dX4_copy_110 : decode cX4_copy 110 = .ok (.iload 4, 2) := dk_21 4 (dk_at dksX4_copy_4 18 rfl rfl)
theorem dX4_copy_112 : decode cX4_copy 112 = .ok (.isub, 1) := dk_100 (dk_at dksX4_copy_4 20 rfl rfl)
theorem dX4_copy_113 : decode cX4_copy 113 = .ok (.if_icmp .le 6, 3) := dk_164 0 6 (dk_at dksX4_copy_4 21 rfl rfl)
theorem dX4_copy_116 : decode cX4_copy 116 = .ok (.bipush (-13), 2) := dk_16 243 (dk_at dksX4_copy_5 0 rfl rfl)
theorem dX4_copy_118 : decode cX4_copy 118 = .ok (.ireturn, 1) := dk_172 (dk_at dksX4_copy_5 2 rfl rfl)
theorem dX4_copy_119 : decode cX4_copy 119 = .ok (.iconst 0, 1) := dk_3 (dk_at dksX4_copy_5 3 rfl rfl)
theorem dX4_copy_120 : decode cX4_copy 120 = .ok (.istore 6, 2) := dk_54 6 (dk_at dksX4_copy_5 4 rfl rfl)
theorem dX4_copy_122 : decode cX4_copy 122 = .ok (.iload 6, 2) := dk_21 6 (dk_at dksX4_copy_5 6 rfl rfl)
theorem dX4_copy_124 : decode cX4_copy 124 = .ok (.iload 5, 2) := dk_21 5 (dk_at dksX4_copy_5 8 rfl rfl)
theorem dX4_copy_126 : decode cX4_copy 126 = .ok (.if_icmp .ge 58, 3) := dk_162 0 58 (dk_at dksX4_copy_5 10 rfl rfl)
theorem dX4_copy_129 : decode cX4_copy 129 = .ok (.iload_n 2, 1) := dk_28 (dk_at dksX4_copy_5 13 rfl rfl)
theorem dX4_copy_130 : decode cX4_copy 130 = .ok (.iload 4, 2) := dk_21 4 (dk_at dksX4_copy_5 14 rfl rfl)
theorem dX4_copy_132 : decode cX4_copy 132 = .ok (.if_icmp .le 8, 3) := dk_164 0 8 (dk_at dksX4_copy_5 16 rfl rfl)
theorem dX4_copy_135 : decode cX4_copy 135 = .ok (.iload 6, 2) := dk_21 6 (dk_at dksX4_copy_5 19 rfl rfl)
theorem dX4_copy_137 : decode cX4_copy 137 = .ok (.goto 10, 3) := dk_167 0 10 (dk_at dksX4_copy_5 21 rfl rfl)
theorem dX4_copy_140 : decode cX4_copy 140 = .ok (.iload 5, 2) := dk_21 5 (dk_at dksX4_copy_6 0 rfl rfl)
theorem dX4_copy_142 : decode cX4_copy 142 = .ok (.iconst 1, 1) := dk_4 (dk_at dksX4_copy_6 2 rfl rfl)
theorem dX4_copy_143 : decode cX4_copy 143 = .ok (.isub, 1) := dk_100 (dk_at dksX4_copy_6 3 rfl rfl)
theorem dX4_copy_144 : decode cX4_copy 144 = .ok (.iload 6, 2) := dk_21 6 (dk_at dksX4_copy_6 4 rfl rfl)
theorem dX4_copy_146 : decode cX4_copy 146 = .ok (.isub, 1) := dk_100 (dk_at dksX4_copy_6 6 rfl rfl)
theorem dX4_copy_147 : decode cX4_copy 147 = .ok (.istore 7, 2) := dk_54 7 (dk_at dksX4_copy_6 7 rfl rfl)
theorem dX4_copy_149 : decode cX4_copy 149 = .ok (.aload_n 0, 1) := dk_42 (dk_at dksX4_copy_6 9 rfl rfl)
theorem dX4_copy_150 : decode cX4_copy 150 = .ok (.getfield 46, 3) := dk_180 0 46 (dk_at dksX4_copy_6 10 rfl rfl)
theorem dX4_copy_153 : decode cX4_copy 153 = .ok (.bipush 100, 2) := dk_16 100 (dk_at dksX4_copy_6 13 rfl rfl)
theorem dX4_copy_155 : decode cX4_copy 155 = .ok (.iload_n 3, 1) := dk_29 (dk_at dksX4_copy_6 15 rfl rfl)
theorem dX4_copy_156 : decode cX4_copy 156 = .ok (.imul, 1) := dk_104 (dk_at dksX4_copy_6 16 rfl rfl)
theorem dX4_copy_157 : decode cX4_copy 157 = .ok (.iload 4, 2) := dk_21 4 (dk_at dksX4_copy_6 17 rfl rfl)
theorem dX4_copy_159 : decode cX4_copy 159 = .ok (.iadd, 1) := dk_96 (dk_at dksX4_copy_6 19 rfl rfl)
theorem dX4_copy_160 : decode cX4_copy 160 = .ok (.iload 7, 2) := dk_21 7 (dk_at dksX4_copy_6 20 rfl rfl)
theorem dX4_copy_162 : decode cX4_copy 162 = .ok (.iadd, 1) := dk_96 (dk_at dksX4_copy_6 22 rfl rfl)
theorem dX4_copy_163 : decode cX4_copy 163 = .ok (.aload_n 0, 1) := dk_42 (dk_at dksX4_copy_6 23 rfl rfl)
theorem dX4_copy_164 : decode cX4_copy 164 = .ok (.getfield 46, 3) := dk_180 0 46 (dk_at dksX4_copy_7 0 rfl rfl)
theorem dX4_copy_167 : decode cX4_copy 167 = .ok (.bipush 100, 2) := dk_16 100 (dk_at dksX4_copy_7 3 rfl rfl)
theorem dX4_copy_169 : decode cX4_copy 169 = .ok (.iload_n 1, 1) := dk_27 (dk_at dksX4_copy_7 5 rfl rfl)
theorem dX4_copy_170 : decode cX4_copy 170 = .ok (.imul, 1) := dk_104 (dk_at dksX4_copy_7 6 rfl rfl)
theorem dX4_copy_171 : decode cX4_copy 171 = .ok (.iload_n 2, 1) := dk_28 (dk_at dksX4_copy_7 7 rfl rfl)
theorem dX4_copy_172 : decode cX4_copy 172 = .ok (.iadd, 1) := dk_96 (dk_at dksX4_copy_7 8 rfl rfl)
theorem dX4_copy_173 : decode cX4_copy 173 = .ok (.iload 7, 2) := dk_21 7 (dk_at dksX4_copy_7 9 rfl rfl)
theorem dX4_copy_175 : decode cX4_copy 175 = .ok (.iadd, 1) := dk_96 (dk_at dksX4_copy_7 11 rfl rfl)
theorem dX4_copy_176 : decode cX4_copy 176 = .ok (.iaload, 1) := dk_46 (dk_at dksX4_copy_7 12 rfl rfl)
theorem dX4_copy_177 : decode cX4_copy 177 = .ok (.iastore, 1) := dk_79 (dk_at dksX4_copy_7 13 rfl rfl)
theorem dX4_copy_178 : decode cX4_copy 178 = .ok (.iinc 6 1, 3) := dk_132 6 1 (dk_at dksX4_copy_7 14 rfl rfl)
theorem dX4_copy_181 : decode cX4_copy 181 = .ok (.goto (-59), 3) := dk_167 255 197 (dk_at dksX4_copy_7 17 rfl rfl)
theorem dX4_copy_184 : decode cX4_copy 184 = .ok (.iload 5, 2) := dk_21 5 (dk_at dksX4_copy_7 20 rfl rfl)
theorem dX4_copy_186 : decode cX4_copy 186 = .ok (.ireturn, 1) := dk_172 (dk_at dksX4_copy_7 22 rfl rfl)
abbrev cX4_cost : ByteArray := prog_21_method_80_code
def yX4_cost : MethodName := ⟨RX4, "cost", "(I)I"⟩
def dkwX4_cost_1 : List UInt8 := [27, 46, 184, 0, 209, 172]
abbrev dktX4_cost_1 : List UInt8 := dkwX4_cost_1 ++ []
def dkwX4_cost_0 : List UInt8 := [42, 27, 182, 0, 142, 61, 28, 153, 0, 7, 28, 167, 0, 18, 42, 180, 0, 34, 27, 46, 42, 180, 0, 37]
abbrev dktX4_cost_0 : List UInt8 := dkwX4_cost_0 ++ dktX4_cost_1
theorem dksX4_cost_0 : cX4_cost.data.toList.drop 0 = dktX4_cost_0 := by decide +kernel
theorem dksX4_cost_1 : cX4_cost.data.toList.drop 24 = dktX4_cost_1 := dk_seg dksX4_cost_0 24 rfl rfl
theorem dX4_cost_0 : decode cX4_cost 0 = .ok (.aload_n 0, 1) := dk_42 (dk_at dksX4_cost_0 0 rfl rfl)
theorem dX4_cost_1 : decode cX4_cost 1 = .ok (.iload_n 1, 1) := dk_27 (dk_at dksX4_cost_0 1 rfl rfl)
theorem dX4_cost_2 : decode cX4_cost 2 = .ok (.invokevirtual 142, 3) := dk_182 0 142 (dk_at dksX4_cost_0 2 rfl rfl)
theorem dX4_cost_5 : decode cX4_cost 5 = .ok (.istore_n 2, 1) := dk_61 (dk_at dksX4_cost_0 5 rfl rfl)
theorem dX4_cost_6 : decode cX4_cost 6 = .ok (.iload_n 2, 1) := dk_28 (dk_at dksX4_cost_0 6 rfl rfl)
theorem dX4_cost_7 : decode cX4_cost 7 = .ok (.ifCond .eq 7, 3) := dk_153 0 7 (dk_at dksX4_cost_0 7 rfl rfl)
theorem dX4_cost_10 : decode cX4_cost 10 = .ok (.iload_n 2, 1) := dk_28 (dk_at dksX4_cost_0 10 rfl rfl)
theorem dX4_cost_11 : decode cX4_cost 11 = .ok (.goto 18, 3) := dk_167 0 18 (dk_at dksX4_cost_0 11 rfl rfl)
theorem dX4_cost_14 : decode cX4_cost 14 = .ok (.aload_n 0, 1) := dk_42 (dk_at dksX4_cost_0 14 rfl rfl)
theorem dX4_cost_15 : decode cX4_cost 15 = .ok (.getfield 34, 3) := dk_180 0 34 (dk_at dksX4_cost_0 15 rfl rfl)
theorem dX4_cost_18 : decode cX4_cost 18 = .ok (.iload_n 1, 1) := dk_27 (dk_at dksX4_cost_0 18 rfl rfl)
theorem dX4_cost_19 : decode cX4_cost 19 = .ok (.iaload, 1) := dk_46 (dk_at dksX4_cost_0 19 rfl rfl)
theorem dX4_cost_20 : decode cX4_cost 20 = .ok (.aload_n 0, 1) := dk_42 (dk_at dksX4_cost_0 20 rfl rfl)
theorem dX4_cost_21 : decode cX4_cost 21 = .ok (.getfield 37, 3) := dk_180 0 37 (dk_at dksX4_cost_0 21 rfl rfl)
theorem dX4_cost_24 : decode cX4_cost 24 = .ok (.iload_n 1, 1) := dk_27 (dk_at dksX4_cost_1 0 rfl rfl)
theorem dX4_cost_25 : decode cX4_cost 25 = .ok (.iaload, 1) := dk_46 (dk_at dksX4_cost_1 1 rfl rfl)
theorem dX4_cost_26 : decode cX4_cost 26 = .ok (.invokestatic 209, 3) := dk_184 0 209 (dk_at dksX4_cost_1 2 rfl rfl)
theorem dX4_cost_29 : decode cX4_cost 29 = .ok (.ireturn, 1) := dk_172 (dk_at dksX4_cost_1 5 rfl rfl)
abbrev cX4_costBy : ByteArray := prog_21_method_79_code
def yX4_costBy : MethodName := ⟨RX4, "costBy", "(II)I"⟩
def dkwX4_costBy_2 : List UInt8 := [6, 172, 7, 27, 96, 172, 16, 10, 172, 5, 172, 16, 10, 27, 96, 172, 16, 6, 172, 4, 172, 7, 172]
abbrev dktX4_costBy_2 : List UInt8 := dkwX4_costBy_2 ++ []
def dkwX4_costBy_1 : List UInt8 := [170, 0, 0, 0, 0, 0, 64, 0, 0, 0, 1, 0, 0, 0, 7, 0, 0, 0, 43, 0, 0, 0, 45, 0, 0, 0, 49, 0, 0, 0, 52, 0, 0, 0, 54, 0, 0, 0, 59, 0, 0, 0, 62]
abbrev dktX4_costBy_1 : List UInt8 := dkwX4_costBy_1 ++ dktX4_costBy_2
def dkwX4_costBy_0 : List UInt8 := [26]
abbrev dktX4_costBy_0 : List UInt8 := dkwX4_costBy_0 ++ dktX4_costBy_1
theorem dksX4_costBy_0 : cX4_costBy.data.toList.drop 0 = dktX4_costBy_0 := by decide +kernel
theorem dksX4_costBy_1 : cX4_costBy.data.toList.drop 1 = dktX4_costBy_1 := dk_seg dksX4_costBy_0 1 rfl rfl
theorem dksX4_costBy_2 : cX4_costBy.data.toList.drop 44 = dktX4_costBy_2 := dk_seg dksX4_costBy_1 43 rfl rfl
theorem dX4_costBy_0 : decode cX4_costBy 0 = .ok (.iload_n 0, 1) := dk_26 (dk_at dksX4_costBy_0 0 rfl rfl)
theorem dX4_costBy_1 : decode cX4_costBy 1 = .ok (.tableswitch 64 1 7 #[43, 45, 49, 52, 54, 59, 62], 43) := by decide +kernel
theorem dX4_costBy_44 : decode cX4_costBy 44 = .ok (.iconst 3, 1) := dk_6 (dk_at dksX4_costBy_2 0 rfl rfl)
theorem dX4_costBy_45 : decode cX4_costBy 45 = .ok (.ireturn, 1) := dk_172 (dk_at dksX4_costBy_2 1 rfl rfl)
theorem dX4_costBy_46 : decode cX4_costBy 46 = .ok (.iconst 4, 1) := dk_7 (dk_at dksX4_costBy_2 2 rfl rfl)
theorem dX4_costBy_47 : decode cX4_costBy 47 = .ok (.iload_n 1, 1) := dk_27 (dk_at dksX4_costBy_2 3 rfl rfl)
theorem dX4_costBy_48 : decode cX4_costBy 48 = .ok (.iadd, 1) := dk_96 (dk_at dksX4_costBy_2 4 rfl rfl)
theorem dX4_costBy_49 : decode cX4_costBy 49 = .ok (.ireturn, 1) := dk_172 (dk_at dksX4_costBy_2 5 rfl rfl)
theorem dX4_costBy_50 : decode cX4_costBy 50 = .ok (.bipush 10, 2) := dk_16 10 (dk_at dksX4_costBy_2 6 rfl rfl)
theorem dX4_costBy_52 : decode cX4_costBy 52 = .ok (.ireturn, 1) := dk_172 (dk_at dksX4_costBy_2 8 rfl rfl)
theorem dX4_costBy_53 : decode cX4_costBy 53 = .ok (.iconst 2, 1) := dk_5 (dk_at dksX4_costBy_2 9 rfl rfl)
theorem dX4_costBy_54 : decode cX4_costBy 54 = .ok (.ireturn, 1) := dk_172 (dk_at dksX4_costBy_2 10 rfl rfl)
theorem dX4_costBy_55 : decode cX4_costBy 55 = .ok (.bipush 10, 2) := dk_16 10 (dk_at dksX4_costBy_2 11 rfl rfl)
theorem dX4_costBy_57 : decode cX4_costBy 57 = .ok (.iload_n 1, 1) := dk_27 (dk_at dksX4_costBy_2 13 rfl rfl)
theorem dX4_costBy_58 : decode cX4_costBy 58 = .ok (.iadd, 1) := dk_96 (dk_at dksX4_costBy_2 14 rfl rfl)
theorem dX4_costBy_59 : decode cX4_costBy 59 = .ok (.ireturn, 1) := dk_172 (dk_at dksX4_costBy_2 15 rfl rfl)
theorem dX4_costBy_60 : decode cX4_costBy 60 = .ok (.bipush 6, 2) := dk_16 6 (dk_at dksX4_costBy_2 16 rfl rfl)
theorem dX4_costBy_62 : decode cX4_costBy 62 = .ok (.ireturn, 1) := dk_172 (dk_at dksX4_costBy_2 18 rfl rfl)
theorem dX4_costBy_63 : decode cX4_costBy 63 = .ok (.iconst 1, 1) := dk_4 (dk_at dksX4_costBy_2 19 rfl rfl)
theorem dX4_costBy_64 : decode cX4_costBy 64 = .ok (.ireturn, 1) := dk_172 (dk_at dksX4_costBy_2 20 rfl rfl)
theorem dX4_costBy_65 : decode cX4_costBy 65 = .ok (.iconst 4, 1) := dk_7 (dk_at dksX4_costBy_2 21 rfl rfl)
theorem dX4_costBy_66 : decode cX4_costBy 66 = .ok (.ireturn, 1) := dk_172 (dk_at dksX4_costBy_2 22 rfl rfl)
abbrev cX4_toss : ByteArray := prog_21_method_81_code
def yX4_toss : MethodName := ⟨RX4, "toss", "(I)I"⟩
def dkwX4_toss_3 : List UInt8 := [21, 4, 96, 167, 0, 5, 21, 4, 172]
abbrev dktX4_toss_3 : List UInt8 := dkwX4_toss_3 ++ []
def dkwX4_toss_2 : List UInt8 := [160, 0, 16, 17, 0, 200, 29, 21, 4, 184, 0, 209, 96, 167, 0, 18, 29, 6, 160, 0, 11, 16, 100]
abbrev dktX4_toss_2 : List UInt8 := dkwX4_toss_2 ++ dktX4_toss_3
def dkwX4_toss_1 : List UInt8 := [46, 54, 4, 29, 7, 159, 0, 14, 29, 16, 7, 159, 0, 8, 21, 4, 154, 0, 6, 16, 241, 172, 29, 8]
abbrev dktX4_toss_1 : List UInt8 := dkwX4_toss_1 ++ dktX4_toss_2
def dkwX4_toss_0 : List UInt8 := [42, 27, 182, 0, 142, 61, 28, 153, 0, 5, 28, 172, 42, 180, 0, 34, 27, 46, 62, 42, 180, 0, 37, 27]
abbrev dktX4_toss_0 : List UInt8 := dkwX4_toss_0 ++ dktX4_toss_1
theorem dksX4_toss_0 : cX4_toss.data.toList.drop 0 = dktX4_toss_0 := by decide +kernel
theorem dksX4_toss_1 : cX4_toss.data.toList.drop 24 = dktX4_toss_1 := dk_seg dksX4_toss_0 24 rfl rfl
theorem dksX4_toss_2 : cX4_toss.data.toList.drop 48 = dktX4_toss_2 := dk_seg dksX4_toss_1 24 rfl rfl
theorem dksX4_toss_3 : cX4_toss.data.toList.drop 71 = dktX4_toss_3 := dk_seg dksX4_toss_2 23 rfl rfl
theorem dX4_toss_0 : decode cX4_toss 0 = .ok (.aload_n 0, 1) := dk_42 (dk_at dksX4_toss_0 0 rfl rfl)
theorem dX4_toss_1 : decode cX4_toss 1 = .ok (.iload_n 1, 1) := dk_27 (dk_at dksX4_toss_0 1 rfl rfl)
theorem dX4_toss_2 : decode cX4_toss 2 = .ok (.invokevirtual 142, 3) := dk_182 0 142 (dk_at dksX4_toss_0 2 rfl rfl)
theorem dX4_toss_5 : decode cX4_toss 5 = .ok (.istore_n 2, 1) := dk_61 (dk_at dksX4_toss_0 5 rfl rfl)
theorem dX4_toss_6 : decode cX4_toss 6 = .ok (.iload_n 2, 1) := dk_28 (dk_at dksX4_toss_0 6 rfl rfl)
theorem dX4_toss_7 : decode cX4_toss 7 = .ok (.ifCond .eq 5, 3) := dk_153 0 5 (dk_at dksX4_toss_0 7 rfl rfl)
theorem dX4_toss_10 : decode cX4_toss 10 = .ok (.iload_n 2, 1) := dk_28 (dk_at dksX4_toss_0 10 rfl rfl)
theorem dX4_toss_11 : decode cX4_toss 11 = .ok (.ireturn, 1) := dk_172 (dk_at dksX4_toss_0 11 rfl rfl)
theorem dX4_toss_12 : decode cX4_toss 12 = .ok (.aload_n 0, 1) := dk_42 (dk_at dksX4_toss_0 12 rfl rfl)
theorem dX4_toss_13 : decode cX4_toss 13 = .ok (.getfield 34, 3) := dk_180 0 34 (dk_at dksX4_toss_0 13 rfl rfl)
theorem dX4_toss_16 : decode cX4_toss 16 = .ok (.iload_n 1, 1) := dk_27 (dk_at dksX4_toss_0 16 rfl rfl)
theorem dX4_toss_17 : decode cX4_toss 17 = .ok (.iaload, 1) := dk_46 (dk_at dksX4_toss_0 17 rfl rfl)
theorem dX4_toss_18 : decode cX4_toss 18 = .ok (.istore_n 3, 1) := dk_62 (dk_at dksX4_toss_0 18 rfl rfl)
theorem dX4_toss_19 : decode cX4_toss 19 = .ok (.aload_n 0, 1) := dk_42 (dk_at dksX4_toss_0 19 rfl rfl)
theorem dX4_toss_20 : decode cX4_toss 20 = .ok (.getfield 37, 3) := dk_180 0 37 (dk_at dksX4_toss_0 20 rfl rfl)
theorem dX4_toss_23 : decode cX4_toss 23 = .ok (.iload_n 1, 1) := dk_27 (dk_at dksX4_toss_0 23 rfl rfl)
theorem dX4_toss_24 : decode cX4_toss 24 = .ok (.iaload, 1) := dk_46 (dk_at dksX4_toss_1 0 rfl rfl)
theorem dX4_toss_25 : decode cX4_toss 25 = .ok (.istore 4, 2) := dk_54 4 (dk_at dksX4_toss_1 1 rfl rfl)
theorem dX4_toss_27 : decode cX4_toss 27 = .ok (.iload_n 3, 1) := dk_29 (dk_at dksX4_toss_1 3 rfl rfl)
theorem dX4_toss_28 : decode cX4_toss 28 = .ok (.iconst 4, 1) := dk_7 (dk_at dksX4_toss_1 4 rfl rfl)
theorem dX4_toss_29 : decode cX4_toss 29 = .ok (.if_icmp .eq 14, 3) := dk_159 0 14 (dk_at dksX4_toss_1 5 rfl rfl)
theorem dX4_toss_32 : decode cX4_toss 32 = .ok (.iload_n 3, 1) := dk_29 (dk_at dksX4_toss_1 8 rfl rfl)
theorem dX4_toss_33 : decode cX4_toss 33 = .ok (.bipush 7, 2) := dk_16 7 (dk_at dksX4_toss_1 9 rfl rfl)
theorem dX4_toss_35 : decode cX4_toss 35 = .ok (.if_icmp .eq 8, 3) := dk_159 0 8 (dk_at dksX4_toss_1 11 rfl rfl)
theorem dX4_toss_38 : decode cX4_toss 38 = .ok (.iload 4, 2) := dk_21 4 (dk_at dksX4_toss_1 14 rfl rfl)
theorem dX4_toss_40 : decode cX4_toss 40 = .ok (.ifCond .ne 6, 3) := dk_154 0 6 (dk_at dksX4_toss_1 16 rfl rfl)
theorem dX4_toss_43 : decode cX4_toss 43 = .ok (.bipush (-15), 2) := dk_16 241 (dk_at dksX4_toss_1 19 rfl rfl)
theorem dX4_toss_45 : decode cX4_toss 45 = .ok (.ireturn, 1) := dk_172 (dk_at dksX4_toss_1 21 rfl rfl)
theorem dX4_toss_46 : decode cX4_toss 46 = .ok (.iload_n 3, 1) := dk_29 (dk_at dksX4_toss_1 22 rfl rfl)
theorem dX4_toss_47 : decode cX4_toss 47 = .ok (.iconst 5, 1) := dk_8 (dk_at dksX4_toss_1 23 rfl rfl)
theorem dX4_toss_48 : decode cX4_toss 48 = .ok (.if_icmp .ne 16, 3) := dk_160 0 16 (dk_at dksX4_toss_2 0 rfl rfl)
theorem dX4_toss_51 : decode cX4_toss 51 = .ok (.sipush 200, 3) := dk_17 0 200 (dk_at dksX4_toss_2 3 rfl rfl)
theorem dX4_toss_54 : decode cX4_toss 54 = .ok (.iload_n 3, 1) := dk_29 (dk_at dksX4_toss_2 6 rfl rfl)
theorem dX4_toss_55 : decode cX4_toss 55 = .ok (.iload 4, 2) := dk_21 4 (dk_at dksX4_toss_2 7 rfl rfl)
theorem dX4_toss_57 : decode cX4_toss 57 = .ok (.invokestatic 209, 3) := dk_184 0 209 (dk_at dksX4_toss_2 9 rfl rfl)
theorem dX4_toss_60 : decode cX4_toss 60 = .ok (.iadd, 1) := dk_96 (dk_at dksX4_toss_2 12 rfl rfl)
theorem dX4_toss_61 : decode cX4_toss 61 = .ok (.goto 18, 3) := dk_167 0 18 (dk_at dksX4_toss_2 13 rfl rfl)
theorem dX4_toss_64 : decode cX4_toss 64 = .ok (.iload_n 3, 1) := dk_29 (dk_at dksX4_toss_2 16 rfl rfl)
theorem dX4_toss_65 : decode cX4_toss 65 = .ok (.iconst 3, 1) := dk_6 (dk_at dksX4_toss_2 17 rfl rfl)
theorem dX4_toss_66 : decode cX4_toss 66 = .ok (.if_icmp .ne 11, 3) := dk_160 0 11 (dk_at dksX4_toss_2 18 rfl rfl)
theorem dX4_toss_69 : decode cX4_toss 69 = .ok (.bipush 100, 2) := dk_16 100 (dk_at dksX4_toss_2 21 rfl rfl)
theorem dX4_toss_71 : decode cX4_toss 71 = .ok (.iload 4, 2) := dk_21 4 (dk_at dksX4_toss_3 0 rfl rfl)
theorem dX4_toss_73 : decode cX4_toss 73 = .ok (.iadd, 1) := dk_96 (dk_at dksX4_toss_3 2 rfl rfl)
theorem dX4_toss_74 : decode cX4_toss 74 = .ok (.goto 5, 3) := dk_167 0 5 (dk_at dksX4_toss_3 3 rfl rfl)
theorem dX4_toss_77 : decode cX4_toss 77 = .ok (.iload 4, 2) := dk_21 4 (dk_at dksX4_toss_3 6 rfl rfl)
theorem dX4_toss_79 : decode cX4_toss 79 = .ok (.ireturn, 1) := dk_172 (dk_at dksX4_toss_3 8 rfl rfl)
theorem q42 : (Jvm.Cond.initialized "CakesToTheWatchedModel") ∈ lw_all := lw_g (lw_at lw_m1 4 rfl) rfl
theorem q1068 : (Jvm.Cond.instantiable "CakesToTheWatchedModel" (20 : Nat)) ∈ lw_all := lw_g (lw_at lw_m5 70 rfl) rfl
theorem q1070 : (Jvm.Cond.instanceMethod ({ cls := "CakesToTheWatchedModel", name := "<init>", desc := "()V" } : Jvm.MethodName)) ∈ lw_all := lw_g (lw_at lw_m5 72 rfl) rfl
theorem q1071 : (Jvm.Cond.code ({ cls := "CakesToTheWatchedModel", name := "<init>", desc := "()V" } : Jvm.MethodName) prog_21_method_1_code (1 : Nat) (Option.none : Option Jvm.ClassFile.FieldType)) ∈ lw_all := lw_g (lw_at lw_m5 73 rfl) rfl
theorem q1072 : (Jvm.Cond.methodLink "CakesToTheWatchedModel" (1 : Nat) ({ cls := "java/lang/Object", name := "<init>", desc := "()V" } : Jvm.MethodName)) ∈ lw_all := lw_g (lw_at lw_m5 74 rfl) rfl
theorem q1073 : (Jvm.Cond.fieldLink "CakesToTheWatchedModel" (9 : Nat) "CakesToTheWatchedModel" "s" "[I") ∈ lw_all := lw_g (lw_at lw_m5 75 rfl) rfl
theorem q1074 : (Jvm.Cond.fieldLink "CakesToTheWatchedModel" (13 : Nat) "CakesToTheWatchedModel" "m" "[I") ∈ lw_all := lw_g (lw_at lw_m5 76 rfl) rfl
theorem q1075 : (Jvm.Cond.fieldLink "CakesToTheWatchedModel" (16 : Nat) "CakesToTheWatchedModel" "image" "[I") ∈ lw_all := lw_g (lw_at lw_m5 77 rfl) rfl
theorem q1076 : (Jvm.Cond.fieldLink "CakesToTheWatchedModel" (19 : Nat) "CakesToTheWatchedModel" "was" "[I") ∈ lw_all := lw_g (lw_at lw_m5 78 rfl) rfl
theorem q1077 : (Jvm.Cond.fieldLink "CakesToTheWatchedModel" (199 : Nat) "CakesToTheWatchedModel" "hasImage" "Z") ∈ lw_all := lw_g (lw_at lw_m5 79 rfl) rfl
theorem q1078 : (Jvm.Cond.fieldLink "CakesToTheWatchedModel" (99 : Nat) "CakesToTheWatchedModel" "place" "I") ∈ lw_all := lw_g (lw_at lw_m5 80 rfl) rfl
theorem q1079 : (Jvm.Cond.fieldLink "CakesToTheWatchedModel" (106 : Nat) "CakesToTheWatchedModel" "rowAt" "I") ∈ lw_all := lw_g (lw_at lw_m5 81 rfl) rfl
theorem q1080 : (Jvm.Cond.fieldLink "CakesToTheWatchedModel" (103 : Nat) "CakesToTheWatchedModel" "rowEnd" "I") ∈ lw_all := lw_g (lw_at lw_m5 82 rfl) rfl
theorem q1081 : (Jvm.Cond.fieldLink "CakesToTheWatchedModel" (22 : Nat) "CakesToTheWatchedModel" "numbers" "[I") ∈ lw_all := lw_g (lw_at lw_m5 83 rfl) rfl
theorem q1082 : (Jvm.Cond.fieldLink "CakesToTheWatchedModel" (25 : Nat) "CakesToTheWatchedModel" "watchedBy" "[I") ∈ lw_all := lw_g (lw_at lw_m5 84 rfl) rfl
theorem q1083 : (Jvm.Cond.fieldLink "CakesToTheWatchedModel" (28 : Nat) "CakesToTheWatchedModel" "bestBy" "[I") ∈ lw_all := lw_g (lw_at lw_m5 85 rfl) rfl
theorem q1084 : (Jvm.Cond.fieldLink "CakesToTheWatchedModel" (151 : Nat) "CakesToTheWatchedModel" "bestOfPairs" "I") ∈ lw_all := lw_g (lw_at lw_m5 86 rfl) rfl
theorem q1085 : (Jvm.Cond.fieldLink "CakesToTheWatchedModel" (190 : Nat) "CakesToTheWatchedModel" "seed" "I") ∈ lw_all := lw_g (lw_at lw_m5 87 rfl) rfl
theorem q1086 : (Jvm.Cond.fieldLink "CakesToTheWatchedModel" (31 : Nat) "CakesToTheWatchedModel" "kept" "[I") ∈ lw_all := lw_g (lw_at lw_m5 88 rfl) rfl
theorem q1087 : (Jvm.Cond.fieldLink "CakesToTheWatchedModel" (34 : Nat) "CakesToTheWatchedModel" "keptKind" "[I") ∈ lw_all := lw_g (lw_at lw_m5 89 rfl) rfl
theorem q1088 : (Jvm.Cond.fieldLink "CakesToTheWatchedModel" (37 : Nat) "CakesToTheWatchedModel" "keptFigure" "[I") ∈ lw_all := lw_g (lw_at lw_m5 90 rfl) rfl
theorem q1089 : (Jvm.Cond.fieldLink "CakesToTheWatchedModel" (40 : Nat) "CakesToTheWatchedModel" "sort" "[I") ∈ lw_all := lw_g (lw_at lw_m5 91 rfl) rfl
theorem q1090 : (Jvm.Cond.fieldLink "CakesToTheWatchedModel" (43 : Nat) "CakesToTheWatchedModel" "size" "[I") ∈ lw_all := lw_g (lw_at lw_m5 92 rfl) rfl
theorem q1091 : (Jvm.Cond.fieldLink "CakesToTheWatchedModel" (46 : Nat) "CakesToTheWatchedModel" "element" "[I") ∈ lw_all := lw_g (lw_at lw_m5 93 rfl) rfl
theorem q1092 : (Jvm.Cond.fieldLink "CakesToTheWatchedModel" (203 : Nat) "CakesToTheWatchedModel" "thrown" "I") ∈ lw_all := lw_g (lw_at lw_m5 94 rfl) rfl
theorem q1093 : (Jvm.Cond.laysFinal "CakesToTheWatchedModel" "CakesToTheWatchedModel" "s" "[I") ∈ lw_all := lw_g (lw_at lw_m5 95 rfl) rfl
theorem q1094 : (Jvm.Cond.soleField "CakesToTheWatchedModel" "s") ∈ lw_all := lw_g (lw_at lw_m5 96 rfl) rfl
theorem q1095 : (Jvm.Cond.laysFinal "CakesToTheWatchedModel" "CakesToTheWatchedModel" "m" "[I") ∈ lw_all := lw_g (lw_at lw_m5 97 rfl) rfl
theorem q1096 : (Jvm.Cond.soleField "CakesToTheWatchedModel" "m") ∈ lw_all := lw_g (lw_at lw_m5 98 rfl) rfl
theorem q1097 : (Jvm.Cond.laysFinal "CakesToTheWatchedModel" "CakesToTheWatchedModel" "image" "[I") ∈ lw_all := lw_g (lw_at lw_m5 99 rfl) rfl
theorem q1098 : (Jvm.Cond.soleField "CakesToTheWatchedModel" "image") ∈ lw_all := lw_g (lw_at lw_m5 100 rfl) rfl
theorem q1099 : (Jvm.Cond.laysFinal "CakesToTheWatchedModel" "CakesToTheWatchedModel" "was" "[I") ∈ lw_all := lw_g (lw_at lw_m5 101 rfl) rfl
theorem q1100 : (Jvm.Cond.soleField "CakesToTheWatchedModel" "was") ∈ lw_all := lw_g (lw_at lw_m5 102 rfl) rfl
theorem q1101 : (Jvm.Cond.lays "CakesToTheWatchedModel" "CakesToTheWatchedModel" "hasImage" "Z") ∈ lw_all := lw_g (lw_at lw_m5 103 rfl) rfl
theorem q1102 : (Jvm.Cond.soleField "CakesToTheWatchedModel" "hasImage") ∈ lw_all := lw_g (lw_at lw_m5 104 rfl) rfl
theorem q1103 : (Jvm.Cond.lays "CakesToTheWatchedModel" "CakesToTheWatchedModel" "place" "I") ∈ lw_all := lw_g (lw_at lw_m5 105 rfl) rfl
theorem q1104 : (Jvm.Cond.soleField "CakesToTheWatchedModel" "place") ∈ lw_all := lw_g (lw_at lw_m5 106 rfl) rfl
theorem q1105 : (Jvm.Cond.lays "CakesToTheWatchedModel" "CakesToTheWatchedModel" "rowAt" "I") ∈ lw_all := lw_g (lw_at lw_m5 107 rfl) rfl
theorem q1106 : (Jvm.Cond.soleField "CakesToTheWatchedModel" "rowAt") ∈ lw_all := lw_g (lw_at lw_m5 108 rfl) rfl
theorem q1107 : (Jvm.Cond.lays "CakesToTheWatchedModel" "CakesToTheWatchedModel" "rowEnd" "I") ∈ lw_all := lw_g (lw_at lw_m5 109 rfl) rfl
theorem q1108 : (Jvm.Cond.soleField "CakesToTheWatchedModel" "rowEnd") ∈ lw_all := lw_g (lw_at lw_m5 110 rfl) rfl
theorem q1109 : (Jvm.Cond.laysFinal "CakesToTheWatchedModel" "CakesToTheWatchedModel" "numbers" "[I") ∈ lw_all := lw_g (lw_at lw_m5 111 rfl) rfl
theorem q1110 : (Jvm.Cond.soleField "CakesToTheWatchedModel" "numbers") ∈ lw_all := lw_g (lw_at lw_m5 112 rfl) rfl
theorem q1111 : (Jvm.Cond.laysFinal "CakesToTheWatchedModel" "CakesToTheWatchedModel" "watchedBy" "[I") ∈ lw_all := lw_g (lw_at lw_m5 113 rfl) rfl
theorem q1112 : (Jvm.Cond.soleField "CakesToTheWatchedModel" "watchedBy") ∈ lw_all := lw_g (lw_at lw_m5 114 rfl) rfl
theorem q1113 : (Jvm.Cond.laysFinal "CakesToTheWatchedModel" "CakesToTheWatchedModel" "bestBy" "[I") ∈ lw_all := lw_g (lw_at lw_m5 115 rfl) rfl
theorem q1114 : (Jvm.Cond.soleField "CakesToTheWatchedModel" "bestBy") ∈ lw_all := lw_g (lw_at lw_m5 116 rfl) rfl
theorem q1115 : (Jvm.Cond.lays "CakesToTheWatchedModel" "CakesToTheWatchedModel" "bestOfPairs" "I") ∈ lw_all := lw_g (lw_at lw_m5 117 rfl) rfl
theorem q1116 : (Jvm.Cond.soleField "CakesToTheWatchedModel" "bestOfPairs") ∈ lw_all := lw_g (lw_at lw_m5 118 rfl) rfl
theorem q1117 : (Jvm.Cond.lays "CakesToTheWatchedModel" "CakesToTheWatchedModel" "seed" "I") ∈ lw_all := lw_g (lw_at lw_m5 119 rfl) rfl
theorem q1118 : (Jvm.Cond.soleField "CakesToTheWatchedModel" "seed") ∈ lw_all := lw_g (lw_at lw_m5 120 rfl) rfl
theorem q1119 : (Jvm.Cond.laysFinal "CakesToTheWatchedModel" "CakesToTheWatchedModel" "kept" "[I") ∈ lw_all := lw_g (lw_at lw_m5 121 rfl) rfl
theorem q1120 : (Jvm.Cond.soleField "CakesToTheWatchedModel" "kept") ∈ lw_all := lw_g (lw_at lw_m5 122 rfl) rfl
theorem q1121 : (Jvm.Cond.laysFinal "CakesToTheWatchedModel" "CakesToTheWatchedModel" "keptKind" "[I") ∈ lw_all := lw_g (lw_at lw_m5 123 rfl) rfl
theorem q1122 : (Jvm.Cond.soleField "CakesToTheWatchedModel" "keptKind") ∈ lw_all := lw_g (lw_at lw_m5 124 rfl) rfl
theorem q1123 : (Jvm.Cond.laysFinal "CakesToTheWatchedModel" "CakesToTheWatchedModel" "keptFigure" "[I") ∈ lw_all := lw_g (lw_at lw_m5 125 rfl) rfl
theorem q1124 : (Jvm.Cond.soleField "CakesToTheWatchedModel" "keptFigure") ∈ lw_all := lw_g (lw_at lw_m5 126 rfl) rfl
theorem q1125 : (Jvm.Cond.laysFinal "CakesToTheWatchedModel" "CakesToTheWatchedModel" "sort" "[I") ∈ lw_all := lw_g (lw_at lw_m5 127 rfl) rfl
theorem q1126 : (Jvm.Cond.soleField "CakesToTheWatchedModel" "sort") ∈ lw_all := lw_g (lw_at lw_m5 128 rfl) rfl
theorem q1127 : (Jvm.Cond.laysFinal "CakesToTheWatchedModel" "CakesToTheWatchedModel" "size" "[I") ∈ lw_all := lw_g (lw_at lw_m5 129 rfl) rfl
theorem q1128 : (Jvm.Cond.soleField "CakesToTheWatchedModel" "size") ∈ lw_all := lw_g (lw_at lw_m5 130 rfl) rfl
theorem q1129 : (Jvm.Cond.laysFinal "CakesToTheWatchedModel" "CakesToTheWatchedModel" "element" "[I") ∈ lw_all := lw_g (lw_at lw_m5 131 rfl) rfl
theorem q1130 : (Jvm.Cond.soleField "CakesToTheWatchedModel" "element") ∈ lw_all := lw_g (lw_at lw_m5 132 rfl) rfl
theorem q1131 : (Jvm.Cond.lays "CakesToTheWatchedModel" "CakesToTheWatchedModel" "thrown" "I") ∈ lw_all := lw_g (lw_at lw_m5 133 rfl) rfl
theorem q1132 : (Jvm.Cond.soleField "CakesToTheWatchedModel" "thrown") ∈ lw_all := lw_g (lw_at lw_m5 134 rfl) rfl
theorem q1133 : (Jvm.Cond.superclass "CakesToTheWatchedModel" "java/lang/Object") ∈ lw_all := lw_g (lw_at lw_m5 135 rfl) rfl
theorem q1135 : (Jvm.Cond.instanceMethod ({ cls := "CakesToTheWatchedModel", name := "fete", desc := "(I)I" } : Jvm.MethodName)) ∈ lw_all := lw_g (lw_at lw_m5 137 rfl) rfl
theorem q1136 : (Jvm.Cond.selects "CakesToTheWatchedModel" ({ cls := "CakesToTheWatchedModel", name := "fete", desc := "(I)I" } : Jvm.MethodName) ({ cls := "CakesToTheWatchedModel", name := "fete", desc := "(I)I" } : Jvm.MethodName)) ∈ lw_all := lw_g (lw_at lw_m5 138 rfl) rfl
theorem q1137 : (Jvm.Cond.code ({ cls := "CakesToTheWatchedModel", name := "fete", desc := "(I)I" } : Jvm.MethodName) prog_21_method_26_code (8 : Nat) (Option.some Jvm.ClassFile.FieldType.int)) ∈ lw_all := lw_g (lw_at lw_m5 139 rfl) rfl
theorem q1138 : (Jvm.Cond.methodLink "CakesToTheWatchedModel" (128 : Nat) ({ cls := "CakesToTheWatchedModel", name := "wrongRow", desc := "(II)I" } : Jvm.MethodName)) ∈ lw_all := lw_g (lw_at lw_m5 140 rfl) rfl
theorem q1139 : (Jvm.Cond.privateMethod ({ cls := "CakesToTheWatchedModel", name := "wrongRow", desc := "(II)I" } : Jvm.MethodName)) ∈ lw_tbl := lw_at lw_m5 141 rfl
theorem q1140 : (Jvm.Cond.instanceMethod ({ cls := "CakesToTheWatchedModel", name := "wrongRow", desc := "(II)I" } : Jvm.MethodName)) ∈ lw_all := lw_g (lw_at lw_m5 142 rfl) rfl
theorem q1141 : (Jvm.Cond.code ({ cls := "CakesToTheWatchedModel", name := "wrongRow", desc := "(II)I" } : Jvm.MethodName) prog_21_method_72_code (3 : Nat) (Option.some Jvm.ClassFile.FieldType.int)) ∈ lw_all := lw_g (lw_at lw_m5 143 rfl) rfl
theorem q1142 : (Jvm.Cond.methodLink "CakesToTheWatchedModel" (206 : Nat) ({ cls := "CakesToTheWatchedModel", name := "isShelf", desc := "(I)Z" } : Jvm.MethodName)) ∈ lw_all := lw_g (lw_at lw_m5 144 rfl) rfl
theorem q1143 : (Jvm.Cond.static ({ cls := "CakesToTheWatchedModel", name := "isShelf", desc := "(I)Z" } : Jvm.MethodName)) ∈ lw_all := lw_g (lw_at lw_m5 145 rfl) rfl
theorem q1144 : (Jvm.Cond.code ({ cls := "CakesToTheWatchedModel", name := "isShelf", desc := "(I)Z" } : Jvm.MethodName) prog_21_method_71_code (1 : Nat) (Option.some Jvm.ClassFile.FieldType.boolean)) ∈ lw_all := lw_g (lw_at lw_m5 146 rfl) rfl
theorem q1145 : (Jvm.Cond.methodLink "CakesToTheWatchedModel" (49 : Nat) ({ cls := "CakesToTheWatchedModel", name := "isIn", desc := "(III)Z" } : Jvm.MethodName)) ∈ lw_all := lw_g (lw_at lw_m5 147 rfl) rfl
theorem q1146 : (Jvm.Cond.static ({ cls := "CakesToTheWatchedModel", name := "isIn", desc := "(III)Z" } : Jvm.MethodName)) ∈ lw_all := lw_g (lw_at lw_m5 148 rfl) rfl
theorem q1147 : (Jvm.Cond.code ({ cls := "CakesToTheWatchedModel", name := "isIn", desc := "(III)Z" } : Jvm.MethodName) prog_21_method_2_code (3 : Nat) (Option.some Jvm.ClassFile.FieldType.boolean)) ∈ lw_all := lw_g (lw_at lw_m5 149 rfl) rfl
theorem q1148 : (Jvm.Cond.methodLink "CakesToTheWatchedModel" (131 : Nat) ({ cls := "CakesToTheWatchedModel", name := "readsStatement", desc := "()Z" } : Jvm.MethodName)) ∈ lw_all := lw_g (lw_at lw_m5 150 rfl) rfl
theorem q1149 : (Jvm.Cond.privateMethod ({ cls := "CakesToTheWatchedModel", name := "readsStatement", desc := "()Z" } : Jvm.MethodName)) ∈ lw_tbl := lw_at lw_m5 151 rfl
theorem q1150 : (Jvm.Cond.instanceMethod ({ cls := "CakesToTheWatchedModel", name := "readsStatement", desc := "()Z" } : Jvm.MethodName)) ∈ lw_all := lw_g (lw_at lw_m5 152 rfl) rfl
theorem q1151 : (Jvm.Cond.code ({ cls := "CakesToTheWatchedModel", name := "readsStatement", desc := "()Z" } : Jvm.MethodName) prog_21_method_23_code (3 : Nat) (Option.some Jvm.ClassFile.FieldType.boolean)) ∈ lw_all := lw_g (lw_at lw_m5 153 rfl) rfl
theorem q1152 : (Jvm.Cond.methodLink "CakesToTheWatchedModel" (109 : Nat) ({ cls := "CakesToTheWatchedModel", name := "here", desc := "()I" } : Jvm.MethodName)) ∈ lw_all := lw_g (lw_at lw_m5 154 rfl) rfl
theorem q1153 : (Jvm.Cond.privateMethod ({ cls := "CakesToTheWatchedModel", name := "here", desc := "()I" } : Jvm.MethodName)) ∈ lw_tbl := lw_at lw_m5 155 rfl
theorem q1154 : (Jvm.Cond.instanceMethod ({ cls := "CakesToTheWatchedModel", name := "here", desc := "()I" } : Jvm.MethodName)) ∈ lw_all := lw_g (lw_at lw_m5 156 rfl) rfl
theorem q1155 : (Jvm.Cond.code ({ cls := "CakesToTheWatchedModel", name := "here", desc := "()I" } : Jvm.MethodName) prog_21_method_21_code (1 : Nat) (Option.some Jvm.ClassFile.FieldType.int)) ∈ lw_all := lw_g (lw_at lw_m5 157 rfl) rfl
theorem q1156 : (Jvm.Cond.methodLink "CakesToTheWatchedModel" (113 : Nat) ({ cls := "CakesToTheWatchedModel", name := "readsNumber", desc := "(II)Z" } : Jvm.MethodName)) ∈ lw_all := lw_g (lw_at lw_m5 158 rfl) rfl
theorem q1157 : (Jvm.Cond.privateMethod ({ cls := "CakesToTheWatchedModel", name := "readsNumber", desc := "(II)Z" } : Jvm.MethodName)) ∈ lw_tbl := lw_at lw_m5 159 rfl
theorem q1158 : (Jvm.Cond.instanceMethod ({ cls := "CakesToTheWatchedModel", name := "readsNumber", desc := "(II)Z" } : Jvm.MethodName)) ∈ lw_all := lw_g (lw_at lw_m5 160 rfl) rfl
theorem q1159 : (Jvm.Cond.code ({ cls := "CakesToTheWatchedModel", name := "readsNumber", desc := "(II)Z" } : Jvm.MethodName) prog_21_method_22_code (4 : Nat) (Option.some Jvm.ClassFile.FieldType.boolean)) ∈ lw_all := lw_g (lw_at lw_m5 161 rfl) rfl
theorem q1160 : (Jvm.Cond.methodLink "CakesToTheWatchedModel" (135 : Nat) ({ cls := "CakesToTheWatchedModel", name := "copies", desc := "([I[I)V" } : Jvm.MethodName)) ∈ lw_all := lw_g (lw_at lw_m5 162 rfl) rfl
theorem q1161 : (Jvm.Cond.static ({ cls := "CakesToTheWatchedModel", name := "copies", desc := "([I[I)V" } : Jvm.MethodName)) ∈ lw_all := lw_g (lw_at lw_m5 163 rfl) rfl
theorem q1162 : (Jvm.Cond.code ({ cls := "CakesToTheWatchedModel", name := "copies", desc := "([I[I)V" } : Jvm.MethodName) prog_21_method_5_code (3 : Nat) (Option.none : Option Jvm.ClassFile.FieldType)) ∈ lw_all := lw_g (lw_at lw_m5 164 rfl) rfl
theorem q1163 : (Jvm.Cond.methodLink "CakesToTheWatchedModel" (139 : Nat) ({ cls := "CakesToTheWatchedModel", name := "isDone", desc := "(I)Z" } : Jvm.MethodName)) ∈ lw_all := lw_g (lw_at lw_m5 165 rfl) rfl
theorem q1164 : (Jvm.Cond.privateMethod ({ cls := "CakesToTheWatchedModel", name := "isDone", desc := "(I)Z" } : Jvm.MethodName)) ∈ lw_tbl := lw_at lw_m5 166 rfl
theorem q1165 : (Jvm.Cond.instanceMethod ({ cls := "CakesToTheWatchedModel", name := "isDone", desc := "(I)Z" } : Jvm.MethodName)) ∈ lw_all := lw_g (lw_at lw_m5 167 rfl) rfl
theorem q1166 : (Jvm.Cond.code ({ cls := "CakesToTheWatchedModel", name := "isDone", desc := "(I)Z" } : Jvm.MethodName) prog_21_method_25_code (5 : Nat) (Option.some Jvm.ClassFile.FieldType.boolean)) ∈ lw_all := lw_g (lw_at lw_m5 168 rfl) rfl
theorem q1167 : (Jvm.Cond.methodLink "CakesToTheWatchedModel" (117 : Nat) ({ cls := "CakesToTheWatchedModel", name := "adds", desc := "([IIIII)V" } : Jvm.MethodName)) ∈ lw_all := lw_g (lw_at lw_m5 169 rfl) rfl
theorem q1168 : (Jvm.Cond.static ({ cls := "CakesToTheWatchedModel", name := "adds", desc := "([IIIII)V" } : Jvm.MethodName)) ∈ lw_all := lw_g (lw_at lw_m5 170 rfl) rfl
theorem q1169 : (Jvm.Cond.code ({ cls := "CakesToTheWatchedModel", name := "adds", desc := "([IIIII)V" } : Jvm.MethodName) prog_21_method_24_code (6 : Nat) (Option.none : Option Jvm.ClassFile.FieldType)) ∈ lw_all := lw_g (lw_at lw_m5 171 rfl) rfl
theorem q1170 : (Jvm.Cond.methodLink "CakesToTheWatchedModel" (53 : Nat) ({ cls := "CakesToTheWatchedModel", name := "of", desc := "(II)I" } : Jvm.MethodName)) ∈ lw_all := lw_g (lw_at lw_m5 172 rfl) rfl
theorem q1171 : (Jvm.Cond.static ({ cls := "CakesToTheWatchedModel", name := "of", desc := "(II)I" } : Jvm.MethodName)) ∈ lw_all := lw_g (lw_at lw_m5 173 rfl) rfl
theorem q1172 : (Jvm.Cond.code ({ cls := "CakesToTheWatchedModel", name := "of", desc := "(II)I" } : Jvm.MethodName) prog_21_method_6_code (2 : Nat) (Option.some Jvm.ClassFile.FieldType.int)) ∈ lw_all := lw_g (lw_at lw_m5 174 rfl) rfl
theorem q1173 : (Jvm.Cond.methodLink "CakesToTheWatchedModel" (121 : Nat) ({ cls := "CakesToTheWatchedModel", name := "isPerson", desc := "(I)Z" } : Jvm.MethodName)) ∈ lw_all := lw_g (lw_at lw_m5 175 rfl) rfl
theorem q1174 : (Jvm.Cond.privateMethod ({ cls := "CakesToTheWatchedModel", name := "isPerson", desc := "(I)Z" } : Jvm.MethodName)) ∈ lw_tbl := lw_at lw_m5 176 rfl
theorem q1175 : (Jvm.Cond.instanceMethod ({ cls := "CakesToTheWatchedModel", name := "isPerson", desc := "(I)Z" } : Jvm.MethodName)) ∈ lw_all := lw_g (lw_at lw_m5 177 rfl) rfl
theorem q1176 : (Jvm.Cond.code ({ cls := "CakesToTheWatchedModel", name := "isPerson", desc := "(I)Z" } : Jvm.MethodName) prog_21_method_7_code (2 : Nat) (Option.some Jvm.ClassFile.FieldType.boolean)) ∈ lw_all := lw_g (lw_at lw_m5 178 rfl) rfl
theorem q1177 : (Jvm.Cond.methodLink "CakesToTheWatchedModel" (91 : Nat) ({ cls := "CakesToTheWatchedModel", name := "canEat", desc := "([III)Z" } : Jvm.MethodName)) ∈ lw_all := lw_g (lw_at lw_m5 179 rfl) rfl
theorem q1178 : (Jvm.Cond.static ({ cls := "CakesToTheWatchedModel", name := "canEat", desc := "([III)Z" } : Jvm.MethodName)) ∈ lw_all := lw_g (lw_at lw_m5 180 rfl) rfl
theorem q1179 : (Jvm.Cond.code ({ cls := "CakesToTheWatchedModel", name := "canEat", desc := "([III)Z" } : Jvm.MethodName) prog_21_method_15_code (3 : Nat) (Option.some Jvm.ClassFile.FieldType.boolean)) ∈ lw_all := lw_g (lw_at lw_m5 181 rfl) rfl
theorem q1180 : (Jvm.Cond.methodLink "CakesToTheWatchedModel" (66 : Nat) ({ cls := "CakesToTheWatchedModel", name := "canLook", desc := "([II)Z" } : Jvm.MethodName)) ∈ lw_all := lw_g (lw_at lw_m5 182 rfl) rfl
theorem q1181 : (Jvm.Cond.static ({ cls := "CakesToTheWatchedModel", name := "canLook", desc := "([II)Z" } : Jvm.MethodName)) ∈ lw_all := lw_g (lw_at lw_m5 183 rfl) rfl
theorem q1182 : (Jvm.Cond.code ({ cls := "CakesToTheWatchedModel", name := "canLook", desc := "([II)Z" } : Jvm.MethodName) prog_21_method_14_code (2 : Nat) (Option.some Jvm.ClassFile.FieldType.boolean)) ∈ lw_all := lw_g (lw_at lw_m5 184 rfl) rfl
theorem q1183 : (Jvm.Cond.methodLink "CakesToTheWatchedModel" (125 : Nat) ({ cls := "CakesToTheWatchedModel", name := "turn", desc := "([III)I" } : Jvm.MethodName)) ∈ lw_all := lw_g (lw_at lw_m5 185 rfl) rfl
theorem q1184 : (Jvm.Cond.static ({ cls := "CakesToTheWatchedModel", name := "turn", desc := "([III)I" } : Jvm.MethodName)) ∈ lw_all := lw_g (lw_at lw_m5 186 rfl) rfl
theorem q1185 : (Jvm.Cond.code ({ cls := "CakesToTheWatchedModel", name := "turn", desc := "([III)I" } : Jvm.MethodName) prog_21_method_18_code (4 : Nat) (Option.some Jvm.ClassFile.FieldType.int)) ∈ lw_all := lw_g (lw_at lw_m5 187 rfl) rfl
theorem q1186 : (Jvm.Cond.methodLink "CakesToTheWatchedModel" (88 : Nat) ({ cls := "CakesToTheWatchedModel", name := "joysOf", desc := "([III)I" } : Jvm.MethodName)) ∈ lw_all := lw_g (lw_at lw_m5 188 rfl) rfl
theorem q1187 : (Jvm.Cond.static ({ cls := "CakesToTheWatchedModel", name := "joysOf", desc := "([III)I" } : Jvm.MethodName)) ∈ lw_all := lw_g (lw_at lw_m5 189 rfl) rfl
theorem q1188 : (Jvm.Cond.code ({ cls := "CakesToTheWatchedModel", name := "joysOf", desc := "([III)I" } : Jvm.MethodName) prog_21_method_17_code (3 : Nat) (Option.some Jvm.ClassFile.FieldType.int)) ∈ lw_all := lw_g (lw_at lw_m5 190 rfl) rfl
theorem q1189 : (Jvm.Cond.methodLink "CakesToTheWatchedModel" (81 : Nat) ({ cls := "CakesToTheWatchedModel", name := "eaterJoy", desc := "([III)I" } : Jvm.MethodName)) ∈ lw_all := lw_g (lw_at lw_m5 191 rfl) rfl
theorem q1190 : (Jvm.Cond.static ({ cls := "CakesToTheWatchedModel", name := "eaterJoy", desc := "([III)I" } : Jvm.MethodName)) ∈ lw_all := lw_g (lw_at lw_m5 192 rfl) rfl
theorem q1191 : (Jvm.Cond.code ({ cls := "CakesToTheWatchedModel", name := "eaterJoy", desc := "([III)I" } : Jvm.MethodName) prog_21_method_16_code (3 : Nat) (Option.some Jvm.ClassFile.FieldType.int)) ∈ lw_all := lw_g (lw_at lw_m5 193 rfl) rfl
theorem q1192 : (Jvm.Cond.methodLink "CakesToTheWatchedModel" (70 : Nat) ({ cls := "CakesToTheWatchedModel", name := "bites", desc := "([II)I" } : Jvm.MethodName)) ∈ lw_all := lw_g (lw_at lw_m5 194 rfl) rfl
theorem q1193 : (Jvm.Cond.static ({ cls := "CakesToTheWatchedModel", name := "bites", desc := "([II)I" } : Jvm.MethodName)) ∈ lw_all := lw_g (lw_at lw_m5 195 rfl) rfl
theorem q1194 : (Jvm.Cond.code ({ cls := "CakesToTheWatchedModel", name := "bites", desc := "([II)I" } : Jvm.MethodName) prog_21_method_12_code (2 : Nat) (Option.some Jvm.ClassFile.FieldType.int)) ∈ lw_all := lw_g (lw_at lw_m5 196 rfl) rfl
theorem q1195 : (Jvm.Cond.methodLink "CakesToTheWatchedModel" (57 : Nat) ({ cls := "CakesToTheWatchedModel", name := "bite", desc := "(II)I" } : Jvm.MethodName)) ∈ lw_all := lw_g (lw_at lw_m5 197 rfl) rfl
theorem q1196 : (Jvm.Cond.static ({ cls := "CakesToTheWatchedModel", name := "bite", desc := "(II)I" } : Jvm.MethodName)) ∈ lw_all := lw_g (lw_at lw_m5 198 rfl) rfl
theorem q1197 : (Jvm.Cond.code ({ cls := "CakesToTheWatchedModel", name := "bite", desc := "(II)I" } : Jvm.MethodName) prog_21_method_9_code (2 : Nat) (Option.some Jvm.ClassFile.FieldType.int)) ∈ lw_all := lw_g (lw_at lw_m5 199 rfl) rfl
theorem q1198 : (Jvm.Cond.methodLink "CakesToTheWatchedModel" (60 : Nat) ({ cls := "CakesToTheWatchedModel", name := "least", desc := "(II)I" } : Jvm.MethodName)) ∈ lw_all := lw_g (lw_at lw_m5 200 rfl) rfl
theorem q1199 : (Jvm.Cond.static ({ cls := "CakesToTheWatchedModel", name := "least", desc := "(II)I" } : Jvm.MethodName)) ∈ lw_all := lw_g (lw_at lw_m5 201 rfl) rfl
theorem q1200 : (Jvm.Cond.code ({ cls := "CakesToTheWatchedModel", name := "least", desc := "(II)I" } : Jvm.MethodName) prog_21_method_3_code (2 : Nat) (Option.some Jvm.ClassFile.FieldType.int)) ∈ lw_all := lw_g (lw_at lw_m5 202 rfl) rfl
theorem q1201 : (Jvm.Cond.methodLink "CakesToTheWatchedModel" (74 : Nat) ({ cls := "CakesToTheWatchedModel", name := "shy", desc := "(I)I" } : Jvm.MethodName)) ∈ lw_all := lw_g (lw_at lw_m5 203 rfl) rfl
theorem q1202 : (Jvm.Cond.static ({ cls := "CakesToTheWatchedModel", name := "shy", desc := "(I)I" } : Jvm.MethodName)) ∈ lw_all := lw_g (lw_at lw_m5 204 rfl) rfl
theorem q1203 : (Jvm.Cond.code ({ cls := "CakesToTheWatchedModel", name := "shy", desc := "(I)I" } : Jvm.MethodName) prog_21_method_11_code (1 : Nat) (Option.some Jvm.ClassFile.FieldType.int)) ∈ lw_all := lw_g (lw_at lw_m5 205 rfl) rfl
theorem q1204 : (Jvm.Cond.methodLink "CakesToTheWatchedModel" (78 : Nat) ({ cls := "CakesToTheWatchedModel", name := "most", desc := "(II)I" } : Jvm.MethodName)) ∈ lw_all := lw_g (lw_at lw_m5 206 rfl) rfl
theorem q1205 : (Jvm.Cond.static ({ cls := "CakesToTheWatchedModel", name := "most", desc := "(II)I" } : Jvm.MethodName)) ∈ lw_all := lw_g (lw_at lw_m5 207 rfl) rfl
theorem q1206 : (Jvm.Cond.code ({ cls := "CakesToTheWatchedModel", name := "most", desc := "(II)I" } : Jvm.MethodName) prog_21_method_4_code (2 : Nat) (Option.some Jvm.ClassFile.FieldType.int)) ∈ lw_all := lw_g (lw_at lw_m5 208 rfl) rfl
theorem q1207 : (Jvm.Cond.methodLink "CakesToTheWatchedModel" (85 : Nat) ({ cls := "CakesToTheWatchedModel", name := "gazes", desc := "([II)I" } : Jvm.MethodName)) ∈ lw_all := lw_g (lw_at lw_m5 209 rfl) rfl
theorem q1208 : (Jvm.Cond.static ({ cls := "CakesToTheWatchedModel", name := "gazes", desc := "([II)I" } : Jvm.MethodName)) ∈ lw_all := lw_g (lw_at lw_m5 210 rfl) rfl
theorem q1209 : (Jvm.Cond.code ({ cls := "CakesToTheWatchedModel", name := "gazes", desc := "([II)I" } : Jvm.MethodName) prog_21_method_13_code (2 : Nat) (Option.some Jvm.ClassFile.FieldType.int)) ∈ lw_all := lw_g (lw_at lw_m5 211 rfl) rfl
theorem q1210 : (Jvm.Cond.methodLink "CakesToTheWatchedModel" (63 : Nat) ({ cls := "CakesToTheWatchedModel", name := "gaze", desc := "(II)I" } : Jvm.MethodName)) ∈ lw_all := lw_g (lw_at lw_m5 212 rfl) rfl
theorem q1211 : (Jvm.Cond.static ({ cls := "CakesToTheWatchedModel", name := "gaze", desc := "(II)I" } : Jvm.MethodName)) ∈ lw_all := lw_g (lw_at lw_m5 213 rfl) rfl
theorem q1212 : (Jvm.Cond.code ({ cls := "CakesToTheWatchedModel", name := "gaze", desc := "(II)I" } : Jvm.MethodName) prog_21_method_10_code (2 : Nat) (Option.some Jvm.ClassFile.FieldType.int)) ∈ lw_all := lw_g (lw_at lw_m5 214 rfl) rfl
theorem q1214 : (Jvm.Cond.instanceMethod ({ cls := "CakesToTheWatchedModel", name := "person", desc := "(II)I" } : Jvm.MethodName)) ∈ lw_all := lw_g (lw_at lw_m5 216 rfl) rfl
theorem q1215 : (Jvm.Cond.selects "CakesToTheWatchedModel" ({ cls := "CakesToTheWatchedModel", name := "person", desc := "(II)I" } : Jvm.MethodName) ({ cls := "CakesToTheWatchedModel", name := "person", desc := "(II)I" } : Jvm.MethodName)) ∈ lw_all := lw_g (lw_at lw_m5 217 rfl) rfl
theorem q1216 : (Jvm.Cond.code ({ cls := "CakesToTheWatchedModel", name := "person", desc := "(II)I" } : Jvm.MethodName) prog_21_method_27_code (5 : Nat) (Option.some Jvm.ClassFile.FieldType.int)) ∈ lw_all := lw_g (lw_at lw_m5 218 rfl) rfl
theorem q1218 : (Jvm.Cond.instanceMethod ({ cls := "CakesToTheWatchedModel", name := "comes", desc := "(III)I" } : Jvm.MethodName)) ∈ lw_all := lw_g (lw_at lw_m5 220 rfl) rfl
theorem q1219 : (Jvm.Cond.selects "CakesToTheWatchedModel" ({ cls := "CakesToTheWatchedModel", name := "comes", desc := "(III)I" } : Jvm.MethodName) ({ cls := "CakesToTheWatchedModel", name := "comes", desc := "(III)I" } : Jvm.MethodName)) ∈ lw_all := lw_g (lw_at lw_m5 221 rfl) rfl
theorem q1220 : (Jvm.Cond.code ({ cls := "CakesToTheWatchedModel", name := "comes", desc := "(III)I" } : Jvm.MethodName) prog_21_method_28_code (5 : Nat) (Option.some Jvm.ClassFile.FieldType.int)) ∈ lw_all := lw_g (lw_at lw_m5 222 rfl) rfl
theorem q1221 : (Jvm.Cond.methodLink "CakesToTheWatchedModel" (142 : Nat) ({ cls := "CakesToTheWatchedModel", name := "wrongKept", desc := "(I)I" } : Jvm.MethodName)) ∈ lw_all := lw_g (lw_at lw_m5 223 rfl) rfl
theorem q1222 : (Jvm.Cond.privateMethod ({ cls := "CakesToTheWatchedModel", name := "wrongKept", desc := "(I)I" } : Jvm.MethodName)) ∈ lw_tbl := lw_at lw_m5 224 rfl
theorem q1223 : (Jvm.Cond.instanceMethod ({ cls := "CakesToTheWatchedModel", name := "wrongKept", desc := "(I)I" } : Jvm.MethodName)) ∈ lw_all := lw_g (lw_at lw_m5 225 rfl) rfl
theorem q1224 : (Jvm.Cond.code ({ cls := "CakesToTheWatchedModel", name := "wrongKept", desc := "(I)I" } : Jvm.MethodName) prog_21_method_73_code (2 : Nat) (Option.some Jvm.ClassFile.FieldType.int)) ∈ lw_all := lw_g (lw_at lw_m5 226 rfl) rfl
theorem q1226 : (Jvm.Cond.instanceMethod ({ cls := "CakesToTheWatchedModel", name := "feels", desc := "(III)I" } : Jvm.MethodName)) ∈ lw_all := lw_g (lw_at lw_m5 228 rfl) rfl
theorem q1227 : (Jvm.Cond.selects "CakesToTheWatchedModel" ({ cls := "CakesToTheWatchedModel", name := "feels", desc := "(III)I" } : Jvm.MethodName) ({ cls := "CakesToTheWatchedModel", name := "feels", desc := "(III)I" } : Jvm.MethodName)) ∈ lw_all := lw_g (lw_at lw_m5 229 rfl) rfl
theorem q1228 : (Jvm.Cond.code ({ cls := "CakesToTheWatchedModel", name := "feels", desc := "(III)I" } : Jvm.MethodName) prog_21_method_29_code (6 : Nat) (Option.some Jvm.ClassFile.FieldType.int)) ∈ lw_all := lw_g (lw_at lw_m5 230 rfl) rfl
theorem q1230 : (Jvm.Cond.instanceMethod ({ cls := "CakesToTheWatchedModel", name := "slices", desc := "(I)I" } : Jvm.MethodName)) ∈ lw_all := lw_g (lw_at lw_m5 232 rfl) rfl
theorem q1231 : (Jvm.Cond.selects "CakesToTheWatchedModel" ({ cls := "CakesToTheWatchedModel", name := "slices", desc := "(I)I" } : Jvm.MethodName) ({ cls := "CakesToTheWatchedModel", name := "slices", desc := "(I)I" } : Jvm.MethodName)) ∈ lw_all := lw_g (lw_at lw_m5 233 rfl) rfl
theorem q1232 : (Jvm.Cond.code ({ cls := "CakesToTheWatchedModel", name := "slices", desc := "(I)I" } : Jvm.MethodName) prog_21_method_30_code (3 : Nat) (Option.some Jvm.ClassFile.FieldType.int)) ∈ lw_all := lw_g (lw_at lw_m5 234 rfl) rfl
theorem q1234 : (Jvm.Cond.instanceMethod ({ cls := "CakesToTheWatchedModel", name := "eats", desc := "(II)I" } : Jvm.MethodName)) ∈ lw_all := lw_g (lw_at lw_m5 236 rfl) rfl
theorem q1235 : (Jvm.Cond.selects "CakesToTheWatchedModel" ({ cls := "CakesToTheWatchedModel", name := "eats", desc := "(II)I" } : Jvm.MethodName) ({ cls := "CakesToTheWatchedModel", name := "eats", desc := "(II)I" } : Jvm.MethodName)) ∈ lw_all := lw_g (lw_at lw_m5 237 rfl) rfl
theorem q1236 : (Jvm.Cond.code ({ cls := "CakesToTheWatchedModel", name := "eats", desc := "(II)I" } : Jvm.MethodName) prog_21_method_32_code (4 : Nat) (Option.some Jvm.ClassFile.FieldType.int)) ∈ lw_all := lw_g (lw_at lw_m5 238 rfl) rfl
theorem q1237 : (Jvm.Cond.methodLink "CakesToTheWatchedModel" (145 : Nat) ({ cls := "CakesToTheWatchedModel", name := "wrongTurn", desc := "(II)I" } : Jvm.MethodName)) ∈ lw_all := lw_g (lw_at lw_m5 239 rfl) rfl
theorem q1238 : (Jvm.Cond.privateMethod ({ cls := "CakesToTheWatchedModel", name := "wrongTurn", desc := "(II)I" } : Jvm.MethodName)) ∈ lw_tbl := lw_at lw_m6 0 rfl
theorem q1239 : (Jvm.Cond.instanceMethod ({ cls := "CakesToTheWatchedModel", name := "wrongTurn", desc := "(II)I" } : Jvm.MethodName)) ∈ lw_all := lw_g (lw_at lw_m6 1 rfl) rfl
theorem q1240 : (Jvm.Cond.code ({ cls := "CakesToTheWatchedModel", name := "wrongTurn", desc := "(II)I" } : Jvm.MethodName) prog_21_method_31_code (3 : Nat) (Option.some Jvm.ClassFile.FieldType.int)) ∈ lw_all := lw_g (lw_at lw_m6 2 rfl) rfl
theorem q1242 : (Jvm.Cond.instanceMethod ({ cls := "CakesToTheWatchedModel", name := "joys", desc := "(III)I" } : Jvm.MethodName)) ∈ lw_all := lw_g (lw_at lw_m6 4 rfl) rfl
theorem q1243 : (Jvm.Cond.selects "CakesToTheWatchedModel" ({ cls := "CakesToTheWatchedModel", name := "joys", desc := "(III)I" } : Jvm.MethodName) ({ cls := "CakesToTheWatchedModel", name := "joys", desc := "(III)I" } : Jvm.MethodName)) ∈ lw_all := lw_g (lw_at lw_m6 5 rfl) rfl
theorem q1244 : (Jvm.Cond.code ({ cls := "CakesToTheWatchedModel", name := "joys", desc := "(III)I" } : Jvm.MethodName) prog_21_method_33_code (5 : Nat) (Option.some Jvm.ClassFile.FieldType.int)) ∈ lw_all := lw_g (lw_at lw_m6 6 rfl) rfl
theorem q1246 : (Jvm.Cond.instanceMethod ({ cls := "CakesToTheWatchedModel", name := "who", desc := "(I)I" } : Jvm.MethodName)) ∈ lw_all := lw_g (lw_at lw_m6 8 rfl) rfl
theorem q1247 : (Jvm.Cond.selects "CakesToTheWatchedModel" ({ cls := "CakesToTheWatchedModel", name := "who", desc := "(I)I" } : Jvm.MethodName) ({ cls := "CakesToTheWatchedModel", name := "who", desc := "(I)I" } : Jvm.MethodName)) ∈ lw_all := lw_g (lw_at lw_m6 9 rfl) rfl
theorem q1248 : (Jvm.Cond.code ({ cls := "CakesToTheWatchedModel", name := "who", desc := "(I)I" } : Jvm.MethodName) prog_21_method_34_code (5 : Nat) (Option.some Jvm.ClassFile.FieldType.int)) ∈ lw_all := lw_g (lw_at lw_m6 10 rfl) rfl
theorem q1250 : (Jvm.Cond.instanceMethod ({ cls := "CakesToTheWatchedModel", name := "bestPair", desc := "(I)I" } : Jvm.MethodName)) ∈ lw_all := lw_g (lw_at lw_m6 12 rfl) rfl
theorem q1251 : (Jvm.Cond.selects "CakesToTheWatchedModel" ({ cls := "CakesToTheWatchedModel", name := "bestPair", desc := "(I)I" } : Jvm.MethodName) ({ cls := "CakesToTheWatchedModel", name := "bestPair", desc := "(I)I" } : Jvm.MethodName)) ∈ lw_all := lw_g (lw_at lw_m6 13 rfl) rfl
theorem q1252 : (Jvm.Cond.code ({ cls := "CakesToTheWatchedModel", name := "bestPair", desc := "(I)I" } : Jvm.MethodName) prog_21_method_35_code (3 : Nat) (Option.some Jvm.ClassFile.FieldType.int)) ∈ lw_all := lw_g (lw_at lw_m6 14 rfl) rfl
theorem q1253 : (Jvm.Cond.methodLink "CakesToTheWatchedModel" (95 : Nat) ({ cls := "CakesToTheWatchedModel", name := "bestIn", desc := "([I)I" } : Jvm.MethodName)) ∈ lw_all := lw_g (lw_at lw_m6 15 rfl) rfl
theorem q1254 : (Jvm.Cond.static ({ cls := "CakesToTheWatchedModel", name := "bestIn", desc := "([I)I" } : Jvm.MethodName)) ∈ lw_all := lw_g (lw_at lw_m6 16 rfl) rfl
theorem q1255 : (Jvm.Cond.code ({ cls := "CakesToTheWatchedModel", name := "bestIn", desc := "([I)I" } : Jvm.MethodName) prog_21_method_19_code (5 : Nat) (Option.some Jvm.ClassFile.FieldType.int)) ∈ lw_all := lw_g (lw_at lw_m6 17 rfl) rfl
theorem q1256 : (Jvm.Cond.methodLink "CakesToTheWatchedModel" (148 : Nat) ({ cls := "CakesToTheWatchedModel", name := "bestJoys", desc := "([I)I" } : Jvm.MethodName)) ∈ lw_all := lw_g (lw_at lw_m6 18 rfl) rfl
theorem q1257 : (Jvm.Cond.static ({ cls := "CakesToTheWatchedModel", name := "bestJoys", desc := "([I)I" } : Jvm.MethodName)) ∈ lw_all := lw_g (lw_at lw_m6 19 rfl) rfl
theorem q1258 : (Jvm.Cond.code ({ cls := "CakesToTheWatchedModel", name := "bestJoys", desc := "([I)I" } : Jvm.MethodName) prog_21_method_20_code (2 : Nat) (Option.some Jvm.ClassFile.FieldType.int)) ∈ lw_all := lw_g (lw_at lw_m6 20 rfl) rfl
theorem q1260 : (Jvm.Cond.instanceMethod ({ cls := "CakesToTheWatchedModel", name := "bestLooker", desc := "(I)I" } : Jvm.MethodName)) ∈ lw_all := lw_g (lw_at lw_m6 22 rfl) rfl
theorem q1261 : (Jvm.Cond.selects "CakesToTheWatchedModel" ({ cls := "CakesToTheWatchedModel", name := "bestLooker", desc := "(I)I" } : Jvm.MethodName) ({ cls := "CakesToTheWatchedModel", name := "bestLooker", desc := "(I)I" } : Jvm.MethodName)) ∈ lw_all := lw_g (lw_at lw_m6 23 rfl) rfl
theorem q1262 : (Jvm.Cond.code ({ cls := "CakesToTheWatchedModel", name := "bestLooker", desc := "(I)I" } : Jvm.MethodName) prog_21_method_36_code (4 : Nat) (Option.some Jvm.ClassFile.FieldType.int)) ∈ lw_all := lw_g (lw_at lw_m6 24 rfl) rfl
theorem q1264 : (Jvm.Cond.instanceMethod ({ cls := "CakesToTheWatchedModel", name := "twoTurns", desc := "(I)I" } : Jvm.MethodName)) ∈ lw_all := lw_g (lw_at lw_m6 26 rfl) rfl
theorem q1265 : (Jvm.Cond.selects "CakesToTheWatchedModel" ({ cls := "CakesToTheWatchedModel", name := "twoTurns", desc := "(I)I" } : Jvm.MethodName) ({ cls := "CakesToTheWatchedModel", name := "twoTurns", desc := "(I)I" } : Jvm.MethodName)) ∈ lw_all := lw_g (lw_at lw_m6 27 rfl) rfl
theorem q1266 : (Jvm.Cond.code ({ cls := "CakesToTheWatchedModel", name := "twoTurns", desc := "(I)I" } : Jvm.MethodName) prog_21_method_37_code (7 : Nat) (Option.some Jvm.ClassFile.FieldType.int)) ∈ lw_all := lw_g (lw_at lw_m6 28 rfl) rfl
theorem q1268 : (Jvm.Cond.instanceMethod ({ cls := "CakesToTheWatchedModel", name := "pairs", desc := "(I)I" } : Jvm.MethodName)) ∈ lw_all := lw_g (lw_at lw_m6 30 rfl) rfl
theorem q1269 : (Jvm.Cond.selects "CakesToTheWatchedModel" ({ cls := "CakesToTheWatchedModel", name := "pairs", desc := "(I)I" } : Jvm.MethodName) ({ cls := "CakesToTheWatchedModel", name := "pairs", desc := "(I)I" } : Jvm.MethodName)) ∈ lw_all := lw_g (lw_at lw_m6 31 rfl) rfl
theorem q1270 : (Jvm.Cond.code ({ cls := "CakesToTheWatchedModel", name := "pairs", desc := "(I)I" } : Jvm.MethodName) prog_21_method_39_code (3 : Nat) (Option.some Jvm.ClassFile.FieldType.int)) ∈ lw_all := lw_g (lw_at lw_m6 32 rfl) rfl
theorem q1271 : (Jvm.Cond.methodLink "CakesToTheWatchedModel" (154 : Nat) ({ cls := "CakesToTheWatchedModel", name := "pairsFrom", desc := "(IIII)V" } : Jvm.MethodName)) ∈ lw_all := lw_g (lw_at lw_m6 33 rfl) rfl
theorem q1272 : (Jvm.Cond.privateMethod ({ cls := "CakesToTheWatchedModel", name := "pairsFrom", desc := "(IIII)V" } : Jvm.MethodName)) ∈ lw_tbl := lw_at lw_m6 34 rfl
theorem q1273 : (Jvm.Cond.instanceMethod ({ cls := "CakesToTheWatchedModel", name := "pairsFrom", desc := "(IIII)V" } : Jvm.MethodName)) ∈ lw_all := lw_g (lw_at lw_m6 35 rfl) rfl
theorem q1274 : (Jvm.Cond.code ({ cls := "CakesToTheWatchedModel", name := "pairsFrom", desc := "(IIII)V" } : Jvm.MethodName) prog_21_method_38_code (9 : Nat) (Option.none : Option Jvm.ClassFile.FieldType)) ∈ lw_all := lw_g (lw_at lw_m6 36 rfl) rfl
theorem q1276 : (Jvm.Cond.instanceMethod ({ cls := "CakesToTheWatchedModel", name := "greedily", desc := "(II)I" } : Jvm.MethodName)) ∈ lw_all := lw_g (lw_at lw_m6 38 rfl) rfl
theorem q1277 : (Jvm.Cond.selects "CakesToTheWatchedModel" ({ cls := "CakesToTheWatchedModel", name := "greedily", desc := "(II)I" } : Jvm.MethodName) ({ cls := "CakesToTheWatchedModel", name := "greedily", desc := "(II)I" } : Jvm.MethodName)) ∈ lw_all := lw_g (lw_at lw_m6 39 rfl) rfl
theorem q1278 : (Jvm.Cond.code ({ cls := "CakesToTheWatchedModel", name := "greedily", desc := "(II)I" } : Jvm.MethodName) prog_21_method_40_code (6 : Nat) (Option.some Jvm.ClassFile.FieldType.int)) ∈ lw_all := lw_g (lw_at lw_m6 40 rfl) rfl
theorem q1280 : (Jvm.Cond.instanceMethod ({ cls := "CakesToTheWatchedModel", name := "atAll", desc := "(I)I" } : Jvm.MethodName)) ∈ lw_all := lw_g (lw_at lw_m6 42 rfl) rfl
theorem q1281 : (Jvm.Cond.selects "CakesToTheWatchedModel" ({ cls := "CakesToTheWatchedModel", name := "atAll", desc := "(I)I" } : Jvm.MethodName) ({ cls := "CakesToTheWatchedModel", name := "atAll", desc := "(I)I" } : Jvm.MethodName)) ∈ lw_all := lw_g (lw_at lw_m6 43 rfl) rfl
theorem q1282 : (Jvm.Cond.code ({ cls := "CakesToTheWatchedModel", name := "atAll", desc := "(I)I" } : Jvm.MethodName) prog_21_method_41_code (8 : Nat) (Option.some Jvm.ClassFile.FieldType.int)) ∈ lw_all := lw_g (lw_at lw_m6 44 rfl) rfl
theorem q1284 : (Jvm.Cond.instanceMethod ({ cls := "CakesToTheWatchedModel", name := "stuck", desc := "()I" } : Jvm.MethodName)) ∈ lw_all := lw_g (lw_at lw_m6 46 rfl) rfl
theorem q1285 : (Jvm.Cond.selects "CakesToTheWatchedModel" ({ cls := "CakesToTheWatchedModel", name := "stuck", desc := "()I" } : Jvm.MethodName) ({ cls := "CakesToTheWatchedModel", name := "stuck", desc := "()I" } : Jvm.MethodName)) ∈ lw_all := lw_g (lw_at lw_m6 47 rfl) rfl
theorem q1286 : (Jvm.Cond.code ({ cls := "CakesToTheWatchedModel", name := "stuck", desc := "()I" } : Jvm.MethodName) prog_21_method_42_code (3 : Nat) (Option.some Jvm.ClassFile.FieldType.int)) ∈ lw_all := lw_g (lw_at lw_m6 48 rfl) rfl
theorem q1288 : (Jvm.Cond.instanceMethod ({ cls := "CakesToTheWatchedModel", name := "bring", desc := "(I)I" } : Jvm.MethodName)) ∈ lw_all := lw_g (lw_at lw_m6 50 rfl) rfl
theorem q1289 : (Jvm.Cond.selects "CakesToTheWatchedModel" ({ cls := "CakesToTheWatchedModel", name := "bring", desc := "(I)I" } : Jvm.MethodName) ({ cls := "CakesToTheWatchedModel", name := "bring", desc := "(I)I" } : Jvm.MethodName)) ∈ lw_all := lw_g (lw_at lw_m6 51 rfl) rfl
theorem q1290 : (Jvm.Cond.code ({ cls := "CakesToTheWatchedModel", name := "bring", desc := "(I)I" } : Jvm.MethodName) prog_21_method_43_code (6 : Nat) (Option.some Jvm.ClassFile.FieldType.int)) ∈ lw_all := lw_g (lw_at lw_m6 52 rfl) rfl
theorem q1292 : (Jvm.Cond.instanceMethod ({ cls := "CakesToTheWatchedModel", name := "feeds", desc := "(I)I" } : Jvm.MethodName)) ∈ lw_all := lw_g (lw_at lw_m6 54 rfl) rfl
theorem q1293 : (Jvm.Cond.selects "CakesToTheWatchedModel" ({ cls := "CakesToTheWatchedModel", name := "feeds", desc := "(I)I" } : Jvm.MethodName) ({ cls := "CakesToTheWatchedModel", name := "feeds", desc := "(I)I" } : Jvm.MethodName)) ∈ lw_all := lw_g (lw_at lw_m6 55 rfl) rfl
theorem q1294 : (Jvm.Cond.code ({ cls := "CakesToTheWatchedModel", name := "feeds", desc := "(I)I" } : Jvm.MethodName) prog_21_method_44_code (3 : Nat) (Option.some Jvm.ClassFile.FieldType.int)) ∈ lw_all := lw_g (lw_at lw_m6 56 rfl) rfl
theorem q1296 : (Jvm.Cond.instanceMethod ({ cls := "CakesToTheWatchedModel", name := "prices", desc := "(II)I" } : Jvm.MethodName)) ∈ lw_all := lw_g (lw_at lw_m6 58 rfl) rfl
theorem q1297 : (Jvm.Cond.selects "CakesToTheWatchedModel" ({ cls := "CakesToTheWatchedModel", name := "prices", desc := "(II)I" } : Jvm.MethodName) ({ cls := "CakesToTheWatchedModel", name := "prices", desc := "(II)I" } : Jvm.MethodName)) ∈ lw_all := lw_g (lw_at lw_m6 59 rfl) rfl
theorem q1298 : (Jvm.Cond.code ({ cls := "CakesToTheWatchedModel", name := "prices", desc := "(II)I" } : Jvm.MethodName) prog_21_method_47_code (3 : Nat) (Option.some Jvm.ClassFile.FieldType.int)) ∈ lw_all := lw_g (lw_at lw_m6 60 rfl) rfl
theorem q1299 : (Jvm.Cond.methodLink "CakesToTheWatchedModel" (158 : Nat) ({ cls := "CakesToTheWatchedModel", name := "buyers", desc := "(I)I" } : Jvm.MethodName)) ∈ lw_all := lw_g (lw_at lw_m6 61 rfl) rfl
theorem q1300 : (Jvm.Cond.privateMethod ({ cls := "CakesToTheWatchedModel", name := "buyers", desc := "(I)I" } : Jvm.MethodName)) ∈ lw_tbl := lw_at lw_m6 62 rfl
theorem q1301 : (Jvm.Cond.instanceMethod ({ cls := "CakesToTheWatchedModel", name := "buyers", desc := "(I)I" } : Jvm.MethodName)) ∈ lw_all := lw_g (lw_at lw_m6 63 rfl) rfl
theorem q1302 : (Jvm.Cond.code ({ cls := "CakesToTheWatchedModel", name := "buyers", desc := "(I)I" } : Jvm.MethodName) prog_21_method_45_code (4 : Nat) (Option.some Jvm.ClassFile.FieldType.int)) ∈ lw_all := lw_g (lw_at lw_m6 64 rfl) rfl
theorem q1303 : (Jvm.Cond.methodLink "CakesToTheWatchedModel" (161 : Nat) ({ cls := "CakesToTheWatchedModel", name := "sellers", desc := "(I)I" } : Jvm.MethodName)) ∈ lw_all := lw_g (lw_at lw_m6 65 rfl) rfl
theorem q1304 : (Jvm.Cond.privateMethod ({ cls := "CakesToTheWatchedModel", name := "sellers", desc := "(I)I" } : Jvm.MethodName)) ∈ lw_tbl := lw_at lw_m6 66 rfl
theorem q1305 : (Jvm.Cond.instanceMethod ({ cls := "CakesToTheWatchedModel", name := "sellers", desc := "(I)I" } : Jvm.MethodName)) ∈ lw_all := lw_g (lw_at lw_m6 67 rfl) rfl
theorem q1306 : (Jvm.Cond.code ({ cls := "CakesToTheWatchedModel", name := "sellers", desc := "(I)I" } : Jvm.MethodName) prog_21_method_46_code (4 : Nat) (Option.some Jvm.ClassFile.FieldType.int)) ∈ lw_all := lw_g (lw_at lw_m6 68 rfl) rfl
theorem q1308 : (Jvm.Cond.instanceMethod ({ cls := "CakesToTheWatchedModel", name := "clears", desc := "(I)I" } : Jvm.MethodName)) ∈ lw_all := lw_g (lw_at lw_m6 70 rfl) rfl
theorem q1309 : (Jvm.Cond.selects "CakesToTheWatchedModel" ({ cls := "CakesToTheWatchedModel", name := "clears", desc := "(I)I" } : Jvm.MethodName) ({ cls := "CakesToTheWatchedModel", name := "clears", desc := "(I)I" } : Jvm.MethodName)) ∈ lw_all := lw_g (lw_at lw_m6 71 rfl) rfl
theorem q1310 : (Jvm.Cond.code ({ cls := "CakesToTheWatchedModel", name := "clears", desc := "(I)I" } : Jvm.MethodName) prog_21_method_48_code (3 : Nat) (Option.some Jvm.ClassFile.FieldType.int)) ∈ lw_all := lw_g (lw_at lw_m6 72 rfl) rfl
theorem q1312 : (Jvm.Cond.instanceMethod ({ cls := "CakesToTheWatchedModel", name := "swap", desc := "(I)I" } : Jvm.MethodName)) ∈ lw_all := lw_g (lw_at lw_m6 74 rfl) rfl
theorem q1313 : (Jvm.Cond.selects "CakesToTheWatchedModel" ({ cls := "CakesToTheWatchedModel", name := "swap", desc := "(I)I" } : Jvm.MethodName) ({ cls := "CakesToTheWatchedModel", name := "swap", desc := "(I)I" } : Jvm.MethodName)) ∈ lw_all := lw_g (lw_at lw_m6 75 rfl) rfl
theorem q1314 : (Jvm.Cond.code ({ cls := "CakesToTheWatchedModel", name := "swap", desc := "(I)I" } : Jvm.MethodName) prog_21_method_50_code (14 : Nat) (Option.some Jvm.ClassFile.FieldType.int)) ∈ lw_all := lw_g (lw_at lw_m6 76 rfl) rfl
theorem q1315 : (Jvm.Cond.methodLink "CakesToTheWatchedModel" (164 : Nat) ({ cls := "CakesToTheWatchedModel", name := "wrongPairs", desc := "(I)I" } : Jvm.MethodName)) ∈ lw_all := lw_g (lw_at lw_m6 77 rfl) rfl
theorem q1316 : (Jvm.Cond.privateMethod ({ cls := "CakesToTheWatchedModel", name := "wrongPairs", desc := "(I)I" } : Jvm.MethodName)) ∈ lw_tbl := lw_at lw_m6 78 rfl
theorem q1317 : (Jvm.Cond.instanceMethod ({ cls := "CakesToTheWatchedModel", name := "wrongPairs", desc := "(I)I" } : Jvm.MethodName)) ∈ lw_all := lw_g (lw_at lw_m6 79 rfl) rfl
theorem q1318 : (Jvm.Cond.code ({ cls := "CakesToTheWatchedModel", name := "wrongPairs", desc := "(I)I" } : Jvm.MethodName) prog_21_method_49_code (7 : Nat) (Option.some Jvm.ClassFile.FieldType.int)) ∈ lw_all := lw_g (lw_at lw_m6 80 rfl) rfl
theorem q1320 : (Jvm.Cond.instanceMethod ({ cls := "CakesToTheWatchedModel", name := "throat", desc := "(IIII)I" } : Jvm.MethodName)) ∈ lw_all := lw_g (lw_at lw_m6 82 rfl) rfl
theorem q1321 : (Jvm.Cond.selects "CakesToTheWatchedModel" ({ cls := "CakesToTheWatchedModel", name := "throat", desc := "(IIII)I" } : Jvm.MethodName) ({ cls := "CakesToTheWatchedModel", name := "throat", desc := "(IIII)I" } : Jvm.MethodName)) ∈ lw_all := lw_g (lw_at lw_m6 83 rfl) rfl
theorem q1322 : (Jvm.Cond.code ({ cls := "CakesToTheWatchedModel", name := "throat", desc := "(IIII)I" } : Jvm.MethodName) prog_21_method_51_code (12 : Nat) (Option.some Jvm.ClassFile.FieldType.int)) ∈ lw_all := lw_g (lw_at lw_m6 84 rfl) rfl
theorem q1323 : (Jvm.Cond.methodLink "CakesToTheWatchedModel" (167 : Nat) ({ cls := "CakesToTheWatchedModel", name := "bits", desc := "(I)I" } : Jvm.MethodName)) ∈ lw_all := lw_g (lw_at lw_m6 85 rfl) rfl
theorem q1324 : (Jvm.Cond.static ({ cls := "CakesToTheWatchedModel", name := "bits", desc := "(I)I" } : Jvm.MethodName)) ∈ lw_all := lw_g (lw_at lw_m6 86 rfl) rfl
theorem q1325 : (Jvm.Cond.code ({ cls := "CakesToTheWatchedModel", name := "bits", desc := "(I)I" } : Jvm.MethodName) prog_21_method_8_code (3 : Nat) (Option.some Jvm.ClassFile.FieldType.int)) ∈ lw_all := lw_g (lw_at lw_m6 87 rfl) rfl
theorem q1327 : (Jvm.Cond.instanceMethod ({ cls := "CakesToTheWatchedModel", name := "lastOnes", desc := "(III)I" } : Jvm.MethodName)) ∈ lw_all := lw_g (lw_at lw_m6 89 rfl) rfl
theorem q1328 : (Jvm.Cond.selects "CakesToTheWatchedModel" ({ cls := "CakesToTheWatchedModel", name := "lastOnes", desc := "(III)I" } : Jvm.MethodName) ({ cls := "CakesToTheWatchedModel", name := "lastOnes", desc := "(III)I" } : Jvm.MethodName)) ∈ lw_all := lw_g (lw_at lw_m6 90 rfl) rfl
theorem q1329 : (Jvm.Cond.code ({ cls := "CakesToTheWatchedModel", name := "lastOnes", desc := "(III)I" } : Jvm.MethodName) prog_21_method_52_code (5 : Nat) (Option.some Jvm.ClassFile.FieldType.int)) ∈ lw_all := lw_g (lw_at lw_m6 91 rfl) rfl
theorem q1331 : (Jvm.Cond.instanceMethod ({ cls := "CakesToTheWatchedModel", name := "shares", desc := "(I)I" } : Jvm.MethodName)) ∈ lw_all := lw_g (lw_at lw_m6 93 rfl) rfl
theorem q1332 : (Jvm.Cond.selects "CakesToTheWatchedModel" ({ cls := "CakesToTheWatchedModel", name := "shares", desc := "(I)I" } : Jvm.MethodName) ({ cls := "CakesToTheWatchedModel", name := "shares", desc := "(I)I" } : Jvm.MethodName)) ∈ lw_all := lw_g (lw_at lw_m6 94 rfl) rfl
theorem q1333 : (Jvm.Cond.code ({ cls := "CakesToTheWatchedModel", name := "shares", desc := "(I)I" } : Jvm.MethodName) prog_21_method_55_code (4 : Nat) (Option.some Jvm.ClassFile.FieldType.int)) ∈ lw_all := lw_g (lw_at lw_m6 95 rfl) rfl
theorem q1334 : (Jvm.Cond.methodLink "CakesToTheWatchedModel" (173 : Nat) ({ cls := "CakesToTheWatchedModel", name := "partOfSlices", desc := "(I)I" } : Jvm.MethodName)) ∈ lw_all := lw_g (lw_at lw_m6 96 rfl) rfl
theorem q1335 : (Jvm.Cond.privateMethod ({ cls := "CakesToTheWatchedModel", name := "partOfSlices", desc := "(I)I" } : Jvm.MethodName)) ∈ lw_tbl := lw_at lw_m6 97 rfl
theorem q1336 : (Jvm.Cond.instanceMethod ({ cls := "CakesToTheWatchedModel", name := "partOfSlices", desc := "(I)I" } : Jvm.MethodName)) ∈ lw_all := lw_g (lw_at lw_m6 98 rfl) rfl
theorem q1337 : (Jvm.Cond.code ({ cls := "CakesToTheWatchedModel", name := "partOfSlices", desc := "(I)I" } : Jvm.MethodName) prog_21_method_54_code (2 : Nat) (Option.some Jvm.ClassFile.FieldType.int)) ∈ lw_all := lw_g (lw_at lw_m6 99 rfl) rfl
theorem q1338 : (Jvm.Cond.methodLink "CakesToTheWatchedModel" (170 : Nat) ({ cls := "CakesToTheWatchedModel", name := "hungerAll", desc := "()I" } : Jvm.MethodName)) ∈ lw_all := lw_g (lw_at lw_m6 100 rfl) rfl
theorem q1339 : (Jvm.Cond.privateMethod ({ cls := "CakesToTheWatchedModel", name := "hungerAll", desc := "()I" } : Jvm.MethodName)) ∈ lw_tbl := lw_at lw_m6 101 rfl
theorem q1340 : (Jvm.Cond.instanceMethod ({ cls := "CakesToTheWatchedModel", name := "hungerAll", desc := "()I" } : Jvm.MethodName)) ∈ lw_all := lw_g (lw_at lw_m6 102 rfl) rfl
theorem q1341 : (Jvm.Cond.code ({ cls := "CakesToTheWatchedModel", name := "hungerAll", desc := "()I" } : Jvm.MethodName) prog_21_method_53_code (3 : Nat) (Option.some Jvm.ClassFile.FieldType.int)) ∈ lw_all := lw_g (lw_at lw_m6 103 rfl) rfl
theorem q1343 : (Jvm.Cond.instanceMethod ({ cls := "CakesToTheWatchedModel", name := "crowd", desc := "(IIII)J" } : Jvm.MethodName)) ∈ lw_all := lw_g (lw_at lw_m6 105 rfl) rfl
theorem q1344 : (Jvm.Cond.selects "CakesToTheWatchedModel" ({ cls := "CakesToTheWatchedModel", name := "crowd", desc := "(IIII)J" } : Jvm.MethodName) ({ cls := "CakesToTheWatchedModel", name := "crowd", desc := "(IIII)J" } : Jvm.MethodName)) ∈ lw_all := lw_g (lw_at lw_m6 106 rfl) rfl
theorem q1345 : (Jvm.Cond.code ({ cls := "CakesToTheWatchedModel", name := "crowd", desc := "(IIII)J" } : Jvm.MethodName) prog_21_method_58_code (13 : Nat) (Option.some Jvm.ClassFile.FieldType.long)) ∈ lw_all := lw_g (lw_at lw_m6 107 rfl) rfl
theorem q1346 : (Jvm.Cond.constantLong "CakesToTheWatchedModel" (180 : Nat) (1000000001 : Int64)) ∈ lw_all := lw_g (lw_at lw_m6 108 rfl) rfl
theorem q1347 : (Jvm.Cond.methodLink "CakesToTheWatchedModel" (182 : Nat) ({ cls := "CakesToTheWatchedModel", name := "partOf", desc := "(JJI)J" } : Jvm.MethodName)) ∈ lw_all := lw_g (lw_at lw_m6 109 rfl) rfl
theorem q1348 : (Jvm.Cond.static ({ cls := "CakesToTheWatchedModel", name := "partOf", desc := "(JJI)J" } : Jvm.MethodName)) ∈ lw_all := lw_g (lw_at lw_m6 110 rfl) rfl
theorem q1349 : (Jvm.Cond.code ({ cls := "CakesToTheWatchedModel", name := "partOf", desc := "(JJI)J" } : Jvm.MethodName) prog_21_method_57_code (5 : Nat) (Option.some Jvm.ClassFile.FieldType.long)) ∈ lw_all := lw_g (lw_at lw_m6 111 rfl) rfl
theorem q1350 : (Jvm.Cond.methodLink "CakesToTheWatchedModel" (176 : Nat) ({ cls := "CakesToTheWatchedModel", name := "gcd", desc := "(JJ)J" } : Jvm.MethodName)) ∈ lw_all := lw_g (lw_at lw_m6 112 rfl) rfl
theorem q1351 : (Jvm.Cond.static ({ cls := "CakesToTheWatchedModel", name := "gcd", desc := "(JJ)J" } : Jvm.MethodName)) ∈ lw_all := lw_g (lw_at lw_m6 113 rfl) rfl
theorem q1352 : (Jvm.Cond.code ({ cls := "CakesToTheWatchedModel", name := "gcd", desc := "(JJ)J" } : Jvm.MethodName) prog_21_method_56_code (10 : Nat) (Option.some Jvm.ClassFile.FieldType.long)) ∈ lw_all := lw_g (lw_at lw_m6 114 rfl) rfl
theorem q1354 : (Jvm.Cond.instanceMethod ({ cls := "CakesToTheWatchedModel", name := "mean", desc := "(I)J" } : Jvm.MethodName)) ∈ lw_all := lw_g (lw_at lw_m6 116 rfl) rfl
theorem q1355 : (Jvm.Cond.selects "CakesToTheWatchedModel" ({ cls := "CakesToTheWatchedModel", name := "mean", desc := "(I)J" } : Jvm.MethodName) ({ cls := "CakesToTheWatchedModel", name := "mean", desc := "(I)J" } : Jvm.MethodName)) ∈ lw_all := lw_g (lw_at lw_m6 117 rfl) rfl
theorem q1356 : (Jvm.Cond.code ({ cls := "CakesToTheWatchedModel", name := "mean", desc := "(I)J" } : Jvm.MethodName) prog_21_method_59_code (2 : Nat) (Option.some Jvm.ClassFile.FieldType.long)) ∈ lw_all := lw_g (lw_at lw_m6 118 rfl) rfl
theorem q1358 : (Jvm.Cond.instanceMethod ({ cls := "CakesToTheWatchedModel", name := "joyless", desc := "()I" } : Jvm.MethodName)) ∈ lw_all := lw_g (lw_at lw_m6 120 rfl) rfl
theorem q1359 : (Jvm.Cond.selects "CakesToTheWatchedModel" ({ cls := "CakesToTheWatchedModel", name := "joyless", desc := "()I" } : Jvm.MethodName) ({ cls := "CakesToTheWatchedModel", name := "joyless", desc := "()I" } : Jvm.MethodName)) ∈ lw_all := lw_g (lw_at lw_m6 121 rfl) rfl
theorem q1360 : (Jvm.Cond.code ({ cls := "CakesToTheWatchedModel", name := "joyless", desc := "()I" } : Jvm.MethodName) prog_21_method_60_code (4 : Nat) (Option.some Jvm.ClassFile.FieldType.int)) ∈ lw_all := lw_g (lw_at lw_m6 122 rfl) rfl
theorem q1362 : (Jvm.Cond.instanceMethod ({ cls := "CakesToTheWatchedModel", name := "seen", desc := "(I)I" } : Jvm.MethodName)) ∈ lw_all := lw_g (lw_at lw_m6 124 rfl) rfl
theorem q1363 : (Jvm.Cond.selects "CakesToTheWatchedModel" ({ cls := "CakesToTheWatchedModel", name := "seen", desc := "(I)I" } : Jvm.MethodName) ({ cls := "CakesToTheWatchedModel", name := "seen", desc := "(I)I" } : Jvm.MethodName)) ∈ lw_all := lw_g (lw_at lw_m6 125 rfl) rfl
theorem q1364 : (Jvm.Cond.code ({ cls := "CakesToTheWatchedModel", name := "seen", desc := "(I)I" } : Jvm.MethodName) prog_21_method_61_code (4 : Nat) (Option.some Jvm.ClassFile.FieldType.int)) ∈ lw_all := lw_g (lw_at lw_m6 126 rfl) rfl
theorem q1366 : (Jvm.Cond.instanceMethod ({ cls := "CakesToTheWatchedModel", name := "forged", desc := "(I)I" } : Jvm.MethodName)) ∈ lw_all := lw_g (lw_at lw_m6 128 rfl) rfl
theorem q1367 : (Jvm.Cond.selects "CakesToTheWatchedModel" ({ cls := "CakesToTheWatchedModel", name := "forged", desc := "(I)I" } : Jvm.MethodName) ({ cls := "CakesToTheWatchedModel", name := "forged", desc := "(I)I" } : Jvm.MethodName)) ∈ lw_all := lw_g (lw_at lw_m6 129 rfl) rfl
theorem q1368 : (Jvm.Cond.code ({ cls := "CakesToTheWatchedModel", name := "forged", desc := "(I)I" } : Jvm.MethodName) prog_21_method_62_code (7 : Nat) (Option.some Jvm.ClassFile.FieldType.int)) ∈ lw_all := lw_g (lw_at lw_m6 130 rfl) rfl
theorem q1370 : (Jvm.Cond.instanceMethod ({ cls := "CakesToTheWatchedModel", name := "judge", desc := "(I)I" } : Jvm.MethodName)) ∈ lw_all := lw_g (lw_at lw_m6 132 rfl) rfl
theorem q1371 : (Jvm.Cond.selects "CakesToTheWatchedModel" ({ cls := "CakesToTheWatchedModel", name := "judge", desc := "(I)I" } : Jvm.MethodName) ({ cls := "CakesToTheWatchedModel", name := "judge", desc := "(I)I" } : Jvm.MethodName)) ∈ lw_all := lw_g (lw_at lw_m6 133 rfl) rfl
theorem q1372 : (Jvm.Cond.code ({ cls := "CakesToTheWatchedModel", name := "judge", desc := "(I)I" } : Jvm.MethodName) prog_21_method_64_code (7 : Nat) (Option.some Jvm.ClassFile.FieldType.int)) ∈ lw_all := lw_g (lw_at lw_m6 134 rfl) rfl
theorem q1373 : (Jvm.Cond.methodLink "CakesToTheWatchedModel" (187 : Nat) ({ cls := "CakesToTheWatchedModel", name := "leastOf", desc := "(I)I" } : Jvm.MethodName)) ∈ lw_all := lw_g (lw_at lw_m6 135 rfl) rfl
theorem q1374 : (Jvm.Cond.static ({ cls := "CakesToTheWatchedModel", name := "leastOf", desc := "(I)I" } : Jvm.MethodName)) ∈ lw_all := lw_g (lw_at lw_m6 136 rfl) rfl
theorem q1375 : (Jvm.Cond.code ({ cls := "CakesToTheWatchedModel", name := "leastOf", desc := "(I)I" } : Jvm.MethodName) prog_21_method_63_code (1 : Nat) (Option.some Jvm.ClassFile.FieldType.int)) ∈ lw_all := lw_g (lw_at lw_m6 137 rfl) rfl
theorem q1376 : (Jvm.Cond.constant "CakesToTheWatchedModel" (186 : Nat) (-2147483648 : Int32)) ∈ lw_all := lw_g (lw_at lw_m6 138 rfl) rfl
theorem q1378 : (Jvm.Cond.instanceMethod ({ cls := "CakesToTheWatchedModel", name := "fetes", desc := "(III)I" } : Jvm.MethodName)) ∈ lw_all := lw_g (lw_at lw_m6 140 rfl) rfl
theorem q1379 : (Jvm.Cond.selects "CakesToTheWatchedModel" ({ cls := "CakesToTheWatchedModel", name := "fetes", desc := "(III)I" } : Jvm.MethodName) ({ cls := "CakesToTheWatchedModel", name := "fetes", desc := "(III)I" } : Jvm.MethodName)) ∈ lw_all := lw_g (lw_at lw_m6 141 rfl) rfl
theorem q1380 : (Jvm.Cond.code ({ cls := "CakesToTheWatchedModel", name := "fetes", desc := "(III)I" } : Jvm.MethodName) prog_21_method_66_code (10 : Nat) (Option.some Jvm.ClassFile.FieldType.int)) ∈ lw_all := lw_g (lw_at lw_m6 142 rfl) rfl
theorem q1381 : (Jvm.Cond.methodLink "CakesToTheWatchedModel" (196 : Nat) ({ cls := "CakesToTheWatchedModel", name := "drawn", desc := "(I)I" } : Jvm.MethodName)) ∈ lw_all := lw_g (lw_at lw_m6 143 rfl) rfl
theorem q1382 : (Jvm.Cond.privateMethod ({ cls := "CakesToTheWatchedModel", name := "drawn", desc := "(I)I" } : Jvm.MethodName)) ∈ lw_tbl := lw_at lw_m6 144 rfl
theorem q1383 : (Jvm.Cond.instanceMethod ({ cls := "CakesToTheWatchedModel", name := "drawn", desc := "(I)I" } : Jvm.MethodName)) ∈ lw_all := lw_g (lw_at lw_m6 145 rfl) rfl
theorem q1384 : (Jvm.Cond.code ({ cls := "CakesToTheWatchedModel", name := "drawn", desc := "(I)I" } : Jvm.MethodName) prog_21_method_65_code (2 : Nat) (Option.some Jvm.ClassFile.FieldType.int)) ∈ lw_all := lw_g (lw_at lw_m6 146 rfl) rfl
theorem q1385 : (Jvm.Cond.constant "CakesToTheWatchedModel" (193 : Nat) (1103515245 : Int32)) ∈ lw_all := lw_g (lw_at lw_m6 147 rfl) rfl
theorem q1386 : (Jvm.Cond.constant "CakesToTheWatchedModel" (194 : Nat) (2147483647 : Int32)) ∈ lw_all := lw_g (lw_at lw_m6 148 rfl) rfl
theorem q1387 : (Jvm.Cond.constant "CakesToTheWatchedModel" (195 : Nat) (65536 : Int32)) ∈ lw_all := lw_g (lw_at lw_m6 149 rfl) rfl
theorem q1389 : (Jvm.Cond.instanceMethod ({ cls := "CakesToTheWatchedModel", name := "image", desc := "()I" } : Jvm.MethodName)) ∈ lw_all := lw_g (lw_at lw_m6 151 rfl) rfl
theorem q1390 : (Jvm.Cond.selects "CakesToTheWatchedModel" ({ cls := "CakesToTheWatchedModel", name := "image", desc := "()I" } : Jvm.MethodName) ({ cls := "CakesToTheWatchedModel", name := "image", desc := "()I" } : Jvm.MethodName)) ∈ lw_all := lw_g (lw_at lw_m6 152 rfl) rfl
theorem q1391 : (Jvm.Cond.code ({ cls := "CakesToTheWatchedModel", name := "image", desc := "()I" } : Jvm.MethodName) prog_21_method_67_code (1 : Nat) (Option.some Jvm.ClassFile.FieldType.int)) ∈ lw_all := lw_g (lw_at lw_m6 153 rfl) rfl
theorem q1393 : (Jvm.Cond.instanceMethod ({ cls := "CakesToTheWatchedModel", name := "restore", desc := "()I" } : Jvm.MethodName)) ∈ lw_all := lw_g (lw_at lw_m6 155 rfl) rfl
theorem q1394 : (Jvm.Cond.selects "CakesToTheWatchedModel" ({ cls := "CakesToTheWatchedModel", name := "restore", desc := "()I" } : Jvm.MethodName) ({ cls := "CakesToTheWatchedModel", name := "restore", desc := "()I" } : Jvm.MethodName)) ∈ lw_all := lw_g (lw_at lw_m6 156 rfl) rfl
theorem q1395 : (Jvm.Cond.code ({ cls := "CakesToTheWatchedModel", name := "restore", desc := "()I" } : Jvm.MethodName) prog_21_method_68_code (1 : Nat) (Option.some Jvm.ClassFile.FieldType.int)) ∈ lw_all := lw_g (lw_at lw_m6 157 rfl) rfl
theorem q1397 : (Jvm.Cond.instanceMethod ({ cls := "CakesToTheWatchedModel", name := "count", desc := "(I)I" } : Jvm.MethodName)) ∈ lw_all := lw_g (lw_at lw_m6 159 rfl) rfl
theorem q1398 : (Jvm.Cond.selects "CakesToTheWatchedModel" ({ cls := "CakesToTheWatchedModel", name := "count", desc := "(I)I" } : Jvm.MethodName) ({ cls := "CakesToTheWatchedModel", name := "count", desc := "(I)I" } : Jvm.MethodName)) ∈ lw_all := lw_g (lw_at lw_m6 160 rfl) rfl
theorem q1399 : (Jvm.Cond.code ({ cls := "CakesToTheWatchedModel", name := "count", desc := "(I)I" } : Jvm.MethodName) prog_21_method_69_code (4 : Nat) (Option.some Jvm.ClassFile.FieldType.int)) ∈ lw_all := lw_g (lw_at lw_m6 161 rfl) rfl
theorem q1401 : (Jvm.Cond.instanceMethod ({ cls := "CakesToTheWatchedModel", name := "thrown", desc := "()I" } : Jvm.MethodName)) ∈ lw_all := lw_g (lw_at lw_m6 163 rfl) rfl
theorem q1402 : (Jvm.Cond.selects "CakesToTheWatchedModel" ({ cls := "CakesToTheWatchedModel", name := "thrown", desc := "()I" } : Jvm.MethodName) ({ cls := "CakesToTheWatchedModel", name := "thrown", desc := "()I" } : Jvm.MethodName)) ∈ lw_all := lw_g (lw_at lw_m6 164 rfl) rfl
theorem q1403 : (Jvm.Cond.code ({ cls := "CakesToTheWatchedModel", name := "thrown", desc := "()I" } : Jvm.MethodName) prog_21_method_70_code (1 : Nat) (Option.some Jvm.ClassFile.FieldType.int)) ∈ lw_all := lw_g (lw_at lw_m6 165 rfl) rfl
theorem q1405 : (Jvm.Cond.instanceMethod ({ cls := "CakesToTheWatchedModel", name := "keep", desc := "(IIII)I" } : Jvm.MethodName)) ∈ lw_all := lw_g (lw_at lw_m6 167 rfl) rfl
theorem q1406 : (Jvm.Cond.selects "CakesToTheWatchedModel" ({ cls := "CakesToTheWatchedModel", name := "keep", desc := "(IIII)I" } : Jvm.MethodName) ({ cls := "CakesToTheWatchedModel", name := "keep", desc := "(IIII)I" } : Jvm.MethodName)) ∈ lw_all := lw_g (lw_at lw_m6 168 rfl) rfl
theorem q1407 : (Jvm.Cond.code ({ cls := "CakesToTheWatchedModel", name := "keep", desc := "(IIII)I" } : Jvm.MethodName) prog_21_method_74_code (5 : Nat) (Option.some Jvm.ClassFile.FieldType.int)) ∈ lw_all := lw_g (lw_at lw_m6 169 rfl) rfl
theorem q1409 : (Jvm.Cond.instanceMethod ({ cls := "CakesToTheWatchedModel", name := "row", desc := "(III)I" } : Jvm.MethodName)) ∈ lw_all := lw_g (lw_at lw_m6 171 rfl) rfl
theorem q1410 : (Jvm.Cond.selects "CakesToTheWatchedModel" ({ cls := "CakesToTheWatchedModel", name := "row", desc := "(III)I" } : Jvm.MethodName) ({ cls := "CakesToTheWatchedModel", name := "row", desc := "(III)I" } : Jvm.MethodName)) ∈ lw_all := lw_g (lw_at lw_m6 172 rfl) rfl
theorem q1411 : (Jvm.Cond.code ({ cls := "CakesToTheWatchedModel", name := "row", desc := "(III)I" } : Jvm.MethodName) prog_21_method_75_code (5 : Nat) (Option.some Jvm.ClassFile.FieldType.int)) ∈ lw_all := lw_g (lw_at lw_m6 173 rfl) rfl
theorem q1413 : (Jvm.Cond.instanceMethod ({ cls := "CakesToTheWatchedModel", name := "put", desc := "(III)I" } : Jvm.MethodName)) ∈ lw_all := lw_g (lw_at lw_m6 175 rfl) rfl
theorem q1414 : (Jvm.Cond.selects "CakesToTheWatchedModel" ({ cls := "CakesToTheWatchedModel", name := "put", desc := "(III)I" } : Jvm.MethodName) ({ cls := "CakesToTheWatchedModel", name := "put", desc := "(III)I" } : Jvm.MethodName)) ∈ lw_all := lw_g (lw_at lw_m6 176 rfl) rfl
theorem q1415 : (Jvm.Cond.code ({ cls := "CakesToTheWatchedModel", name := "put", desc := "(III)I" } : Jvm.MethodName) prog_21_method_76_code (5 : Nat) (Option.some Jvm.ClassFile.FieldType.int)) ∈ lw_all := lw_g (lw_at lw_m6 177 rfl) rfl
theorem q1417 : (Jvm.Cond.instanceMethod ({ cls := "CakesToTheWatchedModel", name := "element", desc := "(II)J" } : Jvm.MethodName)) ∈ lw_all := lw_g (lw_at lw_m6 179 rfl) rfl
theorem q1418 : (Jvm.Cond.selects "CakesToTheWatchedModel" ({ cls := "CakesToTheWatchedModel", name := "element", desc := "(II)J" } : Jvm.MethodName) ({ cls := "CakesToTheWatchedModel", name := "element", desc := "(II)J" } : Jvm.MethodName)) ∈ lw_all := lw_g (lw_at lw_m6 180 rfl) rfl
theorem q1419 : (Jvm.Cond.code ({ cls := "CakesToTheWatchedModel", name := "element", desc := "(II)J" } : Jvm.MethodName) prog_21_method_77_code (3 : Nat) (Option.some Jvm.ClassFile.FieldType.long)) ∈ lw_all := lw_g (lw_at lw_m6 181 rfl) rfl
theorem q1421 : (Jvm.Cond.instanceMethod ({ cls := "CakesToTheWatchedModel", name := "copy", desc := "(IIIII)I" } : Jvm.MethodName)) ∈ lw_all := lw_g (lw_at lw_m6 183 rfl) rfl
theorem q1422 : (Jvm.Cond.selects "CakesToTheWatchedModel" ({ cls := "CakesToTheWatchedModel", name := "copy", desc := "(IIIII)I" } : Jvm.MethodName) ({ cls := "CakesToTheWatchedModel", name := "copy", desc := "(IIIII)I" } : Jvm.MethodName)) ∈ lw_all := lw_g (lw_at lw_m6 184 rfl) rfl
theorem q1423 : (Jvm.Cond.code ({ cls := "CakesToTheWatchedModel", name := "copy", desc := "(IIIII)I" } : Jvm.MethodName) prog_21_method_78_code (8 : Nat) (Option.some Jvm.ClassFile.FieldType.int)) ∈ lw_all := lw_g (lw_at lw_m6 185 rfl) rfl
theorem q1425 : (Jvm.Cond.instanceMethod ({ cls := "CakesToTheWatchedModel", name := "cost", desc := "(I)I" } : Jvm.MethodName)) ∈ lw_all := lw_g (lw_at lw_m6 187 rfl) rfl
theorem q1426 : (Jvm.Cond.selects "CakesToTheWatchedModel" ({ cls := "CakesToTheWatchedModel", name := "cost", desc := "(I)I" } : Jvm.MethodName) ({ cls := "CakesToTheWatchedModel", name := "cost", desc := "(I)I" } : Jvm.MethodName)) ∈ lw_all := lw_g (lw_at lw_m6 188 rfl) rfl
theorem q1427 : (Jvm.Cond.code ({ cls := "CakesToTheWatchedModel", name := "cost", desc := "(I)I" } : Jvm.MethodName) prog_21_method_80_code (3 : Nat) (Option.some Jvm.ClassFile.FieldType.int)) ∈ lw_all := lw_g (lw_at lw_m6 189 rfl) rfl
theorem q1428 : (Jvm.Cond.methodLink "CakesToTheWatchedModel" (209 : Nat) ({ cls := "CakesToTheWatchedModel", name := "costBy", desc := "(II)I" } : Jvm.MethodName)) ∈ lw_all := lw_g (lw_at lw_m6 190 rfl) rfl
theorem q1429 : (Jvm.Cond.static ({ cls := "CakesToTheWatchedModel", name := "costBy", desc := "(II)I" } : Jvm.MethodName)) ∈ lw_all := lw_g (lw_at lw_m6 191 rfl) rfl
theorem q1430 : (Jvm.Cond.code ({ cls := "CakesToTheWatchedModel", name := "costBy", desc := "(II)I" } : Jvm.MethodName) prog_21_method_79_code (2 : Nat) (Option.some Jvm.ClassFile.FieldType.int)) ∈ lw_all := lw_g (lw_at lw_m6 192 rfl) rfl
theorem q1432 : (Jvm.Cond.instanceMethod ({ cls := "CakesToTheWatchedModel", name := "toss", desc := "(I)I" } : Jvm.MethodName)) ∈ lw_all := lw_g (lw_at lw_m6 194 rfl) rfl
theorem q1433 : (Jvm.Cond.selects "CakesToTheWatchedModel" ({ cls := "CakesToTheWatchedModel", name := "toss", desc := "(I)I" } : Jvm.MethodName) ({ cls := "CakesToTheWatchedModel", name := "toss", desc := "(I)I" } : Jvm.MethodName)) ∈ lw_all := lw_g (lw_at lw_m6 195 rfl) rfl
theorem q1434 : (Jvm.Cond.code ({ cls := "CakesToTheWatchedModel", name := "toss", desc := "(I)I" } : Jvm.MethodName) prog_21_method_81_code (5 : Nat) (Option.some Jvm.ClassFile.FieldType.int)) ∈ lw_all := lw_g (lw_at lw_m6 196 rfl) rfl
theorem in_X4 : ∀ w ∈ wsX40, w ∈ lw_all := lw_in wsX40 [1093, 1095, 1097, 1099, 1101, 1103, 1105, 1107, 1109, 1111, 1113, 1115, 1117, 1119, 1121, 1123, 1125, 1127, 1129, 1131] (by decide +kernel) (by decide +kernel)
